set_option maxRecDepth 100000
theorem pf_X1_351 {nm : String} : zFp RX1 351 [0] 4 nm (.object "FloatingDock$Yard") := ⟨_, _, _, .inl q1386, by decide +kernel, ztc ⟨_, tyX1, rfl, by decide, rfl, rfl, .inl rfl, in_X1, tyX1_ok, nmX1, .inl rfl⟩ (zt0)⟩
theorem pf_X5_9 : zFp RX5 9 [4] 0 "<init>" (.array (.int)) := ⟨_, _, _, .inl q3242, by decide +kernel, ztc ⟨_, tyX5, rfl, by decide, rfl, rfl, .inl rfl, in_X5, tyX5_ok, nmX5, .inr ⟨rfl, rfl, rfl, q3242⟩⟩ (zt0)⟩
theorem pf_X5_13 : zFp RX5 13 [4] 1 "<init>" (.array (.int)) := ⟨_, _, _, .inl q3243, by decide +kernel, ztc ⟨_, tyX5, rfl, by decide, rfl, rfl, .inl rfl, in_X5, tyX5_ok, nmX5, .inr ⟨rfl, rfl, rfl, q3243⟩⟩ (zt0)⟩
theorem pf_X5_16 : zFp RX5 16 [4] 2 "<init>" (.array (.int)) := ⟨_, _, _, .inl q3244, by decide +kernel, ztc ⟨_, tyX5, rfl, by decide, rfl, rfl, .inl rfl, in_X5, tyX5_ok, nmX5, .inr ⟨rfl, rfl, rfl, q3244⟩⟩ (zt0)⟩
theorem pf_X5_19 : zFp RX5 19 [4] 3 "<init>" (.array (.int)) := ⟨_, _, _, .inl q3245, by decide +kernel, ztc ⟨_, tyX5, rfl, by decide, rfl, rfl, .inl rfl, in_X5, tyX5_ok, nmX5, .inr ⟨rfl, rfl, rfl, q3245⟩⟩ (zt0)⟩
theorem pf_X5_22 {nm : String} : zFp RX5 22 [4] 6 nm (.int) := ⟨_, _, _, .inl q3248, by decide +kernel, ztc ⟨_, tyX5, rfl, by decide, rfl, rfl, .inl rfl, in_X5, tyX5_ok, nmX5, .inl rfl⟩ (zt0)⟩
theorem pf_X5_26 {nm : String} : zFp RX5 26 [4] 7 nm (.int) := ⟨_, _, _, .inl q3249, by decide +kernel, ztc ⟨_, tyX5, rfl, by decide, rfl, rfl, .inl rfl, in_X5, tyX5_ok, nmX5, .inl rfl⟩ (zt0)⟩
theorem pf_X5_29 : zFp RX5 29 [4] 9 "<init>" (.array (.int)) := ⟨_, _, _, .inl q3251, by decide +kernel, ztc ⟨_, tyX5, rfl, by decide, rfl, rfl, .inl rfl, in_X5, tyX5_ok, nmX5, .inr ⟨rfl, rfl, rfl, q3251⟩⟩ (zt0)⟩
theorem pf_X5_32 : zFp RX5 32 [4] 11 "<init>" (.array (.int)) := ⟨_, _, _, .inl q3253, by decide +kernel, ztc ⟨_, tyX5, rfl, by decide, rfl, rfl, .inl rfl, in_X5, tyX5_ok, nmX5, .inr ⟨rfl, rfl, rfl, q3253⟩⟩ (zt0)⟩
theorem pf_X5_35 : zFp RX5 35 [4] 14 "<init>" (.array (.boolean)) := ⟨_, _, _, .inl q3256, by decide +kernel, ztc ⟨_, tyX5, rfl, by decide, rfl, rfl, .inl rfl, in_X5, tyX5_ok, nmX5, .inr ⟨rfl, rfl, rfl, q3256⟩⟩ (zt0)⟩
theorem pf_X5_39 : zFp RX5 39 [4] 19 "<init>" (.array (.int)) := ⟨_, _, _, .inl q3261, by decide +kernel, ztc ⟨_, tyX5, rfl, by decide, rfl, rfl, .inl rfl, in_X5, tyX5_ok, nmX5, .inr ⟨rfl, rfl, rfl, q3261⟩⟩ (zt0)⟩
theorem gf_X5_9 : zFg RX5 9 [4] 0 := ⟨_, _, _, .inl q3242, ztc ⟨_, rfl, by decide, rfl, rfl, .inl rfl, in_X5⟩ (zt0)⟩
theorem gf_X5_42 : zFg RX5 42 [4] 13 := ⟨_, _, _, .inl q3255, ztc ⟨_, rfl, by decide, rfl, rfl, .inl rfl, in_X5⟩ (zt0)⟩
theorem pf_X5_42 {nm : String} : zFp RX5 42 [4] 13 nm (.int) := ⟨_, _, _, .inl q3255, by decide +kernel, ztc ⟨_, tyX5, rfl, by decide, rfl, rfl, .inl rfl, in_X5, tyX5_ok, nmX5, .inl rfl⟩ (zt0)⟩
theorem gf_X5_53 : zFg RX5 53 [4] 5 := ⟨_, _, _, .inl q3247, ztc ⟨_, rfl, by decide, rfl, rfl, .inl rfl, in_X5⟩ (zt0)⟩
theorem pf_X5_53 {nm : String} : zFp RX5 53 [4] 5 nm (.int) := ⟨_, _, _, .inl q3247, by decide +kernel, ztc ⟨_, tyX5, rfl, by decide, rfl, rfl, .inl rfl, in_X5, tyX5_ok, nmX5, .inl rfl⟩ (zt0)⟩
theorem gf_X5_19 : zFg RX5 19 [4] 3 := ⟨_, _, _, .inl q3245, ztc ⟨_, rfl, by decide, rfl, rfl, .inl rfl, in_X5⟩ (zt0)⟩
theorem gf_X5_16 : zFg RX5 16 [4] 2 := ⟨_, _, _, .inl q3244, ztc ⟨_, rfl, by decide, rfl, rfl, .inl rfl, in_X5⟩ (zt0)⟩
theorem pf_X5_63 {nm : String} : zFp RX5 63 [4] 4 nm (.boolean) := ⟨_, _, _, .inl q3246, by decide +kernel, ztc ⟨_, tyX5, rfl, by decide, rfl, rfl, .inl rfl, in_X5, tyX5_ok, nmX5, .inl rfl⟩ (zt0)⟩
theorem gf_X5_63 : zFg RX5 63 [4] 4 := ⟨_, _, _, .inl q3246, ztc ⟨_, rfl, by decide, rfl, rfl, .inl rfl, in_X5⟩ (zt0)⟩
theorem gf_X5_13 : zFg RX5 13 [4] 1 := ⟨_, _, _, .inl q3243, ztc ⟨_, rfl, by decide, rfl, rfl, .inl rfl, in_X5⟩ (zt0)⟩
theorem pf_X5_110 {nm : String} : zFp RX5 110 [4] 8 nm (.int) := ⟨_, _, _, .inl q3250, by decide +kernel, ztc ⟨_, tyX5, rfl, by decide, rfl, rfl, .inl rfl, in_X5, tyX5_ok, nmX5, .inl rfl⟩ (zt0)⟩
section WW9
variable {D : va_G} {z : Nat}
theorem w_X2_areApart_50 (K15 : Option Nat → Int32 → Option Nat → zH → zO) (hK15 : ∀ (a0 : Option Nat) (a1 : Int32) (a2 : Option Nat) (h : zH), zS D z yX2_areApart cX2_areApart 4 (some .boolean) [] 11 h 15 [(0, va_rf a0), (1, .int a1), (2, va_rf a2)] [] (K15 a0 a1 a2 h)) (a0 : Option Nat) (a2 : Option Nat) (s0 : Int32) (s1 : Int32) (h : zH) : zS D z yX2_areApart cX2_areApart 4 (some .boolean) [] 11 h 50 [(0, va_rf a0), (2, va_rf a2)] [.int s0, .int s1] (f_X2_areApart_50 K15 a0 a2 s0 s1 h) := by
  unfold f_X2_areApart_50
  refine s_iadd (pc := 50) dX2_areApart_50 ?_
  refine s_nm (pc := 51) Value.int (fun x93 => ?_)
  refine s_ist_n (pc := 51) (L2 := [(0, va_rf a0), (2, va_rf a2)]) [0, 1] dX2_areApart_51 rfl (by decide) rfl rfl (zcB (j := 0) rfl (zcat_rf a0) rfl) ?_
  refine s_goto (pc := 52) (tgt := 15) dX2_areApart_52 (by decide) ?_
  exact s_sub (pc := 15) [1, 0, 2] rfl (hK15 a0 x93 a2 h)
theorem w_X2_areApart_55 (a0 : Option Nat) (a1 : Int32) (h : zH) : zS D z yX2_areApart cX2_areApart 4 (some .boolean) [] 11 h 55 [(0, va_rf a0), (1, .int a1)] [] (f_X2_areApart_55 a0 a1 h) := by
  unfold f_X2_areApart_55
  refine s_iload_n (pc := 55) 1 dX2_areApart_55 rfl rfl ?_
  refine s_aload_n (pc := 56) 0 dX2_areApart_56 rfl rfl ?_
  refine zS_ite (fun ht => ?_) (fun _ => zS_none)
  refine s_callV (pc := 57) (np := 0) (as := []) (rest := [.int a1]) dX2_areApart_57 ht (q := (RX2, TX2, 10)) rfl (c_X2_taken (by decide) a0 h) rfl rfl q385 q386 q387 rfl (by simp [zcat_rf, zcat_i, zcat_l, zcat_f, zcat_d]) (zkR (fun r94 h95 => ?_)) zxo
  refine zS_ite (fun ht => ?_) (fun _ => zS_none)
  refine s_callV (pc := 60) (np := 0) (as := []) (rest := [.int a1]) dX2_areApart_60 ht (q := (RJ12, TJ12, 3)) rfl (c_J12_cardinality (by decide) r94 h95) rfl rfl q1448 q1449 q1450 rfl (by simp [zcat_rf, zcat_i, zcat_l, zcat_f, zcat_d]) (zkI (fun x96 h97 => ?_)) zxo
  refine s_icmp_ne (pc := 63) (tgt := 70) dX2_areApart_63 (by decide) (fun _ => ?_) (fun _ => ?_)
  · refine s_iconst (pc := 70) (v := 0) dX2_areApart_70 (by decide) ?_
    exact s_nret (pc := 71) dX2_areApart_71 rfl
  · refine s_iconst (pc := 66) (v := 1) dX2_areApart_66 (by decide) ?_
    refine s_goto (pc := 67) (tgt := 71) dX2_areApart_67 (by decide) ?_
    exact s_nret (pc := 71) dX2_areApart_71 rfl
theorem w_X2_areApart_15 : ∀ (n : Nat) (a0 : Option Nat) (a1 : Int32) (a2 : Option Nat) (h : zH), zS D z yX2_areApart cX2_areApart 4 (some .boolean) [] 11 h 15 [(0, va_rf a0), (1, .int a1), (2, va_rf a2)] [] (f_X2_areApart_15 n a0 a1 a2 h) := by
  intro n
  induction n with
  | zero => intros; exact zS_none
  | succ n ih =>
    intro a0 a1 a2 h
    rw [f_X2_areApart_15.eq_2]
    refine s_aload_n (pc := 15) 2 dX2_areApart_15 rfl rfl ?_
    refine zS_ite (fun ht => ?_) (fun _ => ?_)
    · refine s_callF (pc := 16) (np := 0) (as := []) (rest := []) dX2_areApart_16 ht (q := (RX9, TX9, 2)) rfl (c_X9_hasNext (by decide) a2 h) ⟨_, _, _, q637⟩ rfl rfl q629 (by decide +kernel) q635 q633 rfl (by decide) (zkI (fun x6 h7 => ?_)) zxo
      refine s_if_eq (pc := 21) (tgt := 55) dX2_areApart_21 (by decide) (fun _ => ?_) (fun _ => ?_)
      · exact s_sub (pc := 55) [0, 1] rfl (w_X2_areApart_55 a0 a1 h7)
      · refine s_aload_n (pc := 24) 2 dX2_areApart_24 rfl rfl ?_
        refine zS_ite (fun ht => ?_) (fun _ => ?_)
        · refine s_callF (pc := 25) (np := 0) (as := []) (rest := []) dX2_areApart_25 ht (q := (RX9, TX9, 2)) rfl (c_X9_next (by decide) a2 h7) ⟨_, _, _, q677⟩ rfl rfl q670 (by decide +kernel) q675 q673 rfl (by decide) (zkR (fun r8 h9 => ?_)) zxo
          refine s_cast (pc := 30) dX2_areApart_30 q836 zcs_FloatingDock_Ship ?_
          refine s_ast_n (pc := 33) (L2 := [(0, va_rf a0), (1, .int a1), (2, va_rf a2)]) [0, 1, 2] dX2_areApart_33 rfl (by decide) rfl rfl (zcB (j := 2) rfl (zcat_rf a2) rfl) ?_
          refine s_iload_n (pc := 34) 2 dX2_areApart_34 rfl rfl ?_
          refine s_aload_n (pc := 35) 0 dX2_areApart_35 rfl rfl ?_
          refine zS_ite (fun ht => ?_) (fun _ => zS_none)
          refine s_callV (pc := 36) (np := 0) (as := []) (rest := [.int a1]) dX2_areApart_36 ht (q := (RX6, TX6, 9)) rfl (c_X6_isInDock (by decide) r8 h9) rfl rfl q837 q367 q368 rfl (by simp [zcat_rf, zcat_i, zcat_l, zcat_f, zcat_d]) (zkI (fun x10 h11 => ?_)) zxo
          refine s_if_eq (pc := 39) (tgt := 49) dX2_areApart_39 (by decide) (fun _ => ?_) (fun _ => ?_)
          · refine s_iconst (pc := 49) (v := 0) dX2_areApart_49 (by decide) ?_
            exact s_sub (pc := 50) [1, 3] rfl (w_X2_areApart_50 (f_X2_areApart_15 n) ih a0 a2 0 a1 h11)
          · refine s_aload_n (pc := 42) 0 dX2_areApart_42 rfl rfl ?_
            refine s_gI (pc := 43) dX2_areApart_43 gf_X2_183 (fun x12 => ?_)
            refine s_goto (pc := 46) (tgt := 50) dX2_areApart_46 (by decide) ?_
            exact s_sub (pc := 50) [1, 3] rfl (w_X2_areApart_50 (f_X2_areApart_15 n) ih a0 a2 x12 a1 h11)
        refine zS_ite (fun ht => ?_) (fun _ => ?_)
        · refine s_callF (pc := 25) (np := 0) (as := []) (rest := []) dX2_areApart_25 ht (q := (RJ15, TJ15, 4)) rfl (c_J15_next (by decide) a2 h7) ⟨_, _, _, q788⟩ rfl rfl q670 (by decide +kernel) q786 q784 rfl (by decide) (zkR (fun r8 h9 => ?_)) zxo
          refine s_cast (pc := 30) dX2_areApart_30 q836 zcs_FloatingDock_Ship ?_
          refine s_ast_n (pc := 33) (L2 := [(0, va_rf a0), (1, .int a1), (2, va_rf a2)]) [0, 1, 2] dX2_areApart_33 rfl (by decide) rfl rfl (zcB (j := 2) rfl (zcat_rf a2) rfl) ?_
          refine s_iload_n (pc := 34) 2 dX2_areApart_34 rfl rfl ?_
          refine s_aload_n (pc := 35) 0 dX2_areApart_35 rfl rfl ?_
          refine zS_ite (fun ht => ?_) (fun _ => zS_none)
          refine s_callV (pc := 36) (np := 0) (as := []) (rest := [.int a1]) dX2_areApart_36 ht (q := (RX6, TX6, 9)) rfl (c_X6_isInDock (by decide) r8 h9) rfl rfl q837 q367 q368 rfl (by simp [zcat_rf, zcat_i, zcat_l, zcat_f, zcat_d]) (zkI (fun x13 h14 => ?_)) zxo
          refine s_if_eq (pc := 39) (tgt := 49) dX2_areApart_39 (by decide) (fun _ => ?_) (fun _ => ?_)
          · refine s_iconst (pc := 49) (v := 0) dX2_areApart_49 (by decide) ?_
            exact s_sub (pc := 50) [1, 3] rfl (w_X2_areApart_50 (f_X2_areApart_15 n) ih a0 a2 0 a1 h14)
          · refine s_aload_n (pc := 42) 0 dX2_areApart_42 rfl rfl ?_
            refine s_gI (pc := 43) dX2_areApart_43 gf_X2_183 (fun x15 => ?_)
            refine s_goto (pc := 46) (tgt := 50) dX2_areApart_46 (by decide) ?_
            exact s_sub (pc := 50) [1, 3] rfl (w_X2_areApart_50 (f_X2_areApart_15 n) ih a0 a2 x15 a1 h14)
        refine zS_ite (fun ht => ?_) (fun _ => ?_)
        · refine s_callF (pc := 25) (np := 0) (as := []) (rest := []) dX2_areApart_25 ht (q := (RJ17, TJ17, 5)) rfl (c_J17_next (by decide) a2 h7) ⟨_, _, _, q799⟩ rfl rfl q670 (by decide +kernel) q797 q795 rfl (by decide) (zkR (fun r8 h9 => ?_)) zxo
          refine s_cast (pc := 30) dX2_areApart_30 q836 zcs_FloatingDock_Ship ?_
          refine s_ast_n (pc := 33) (L2 := [(0, va_rf a0), (1, .int a1), (2, va_rf a2)]) [0, 1, 2] dX2_areApart_33 rfl (by decide) rfl rfl (zcB (j := 2) rfl (zcat_rf a2) rfl) ?_
          refine s_iload_n (pc := 34) 2 dX2_areApart_34 rfl rfl ?_
          refine s_aload_n (pc := 35) 0 dX2_areApart_35 rfl rfl ?_
          refine zS_ite (fun ht => ?_) (fun _ => zS_none)
          refine s_callV (pc := 36) (np := 0) (as := []) (rest := [.int a1]) dX2_areApart_36 ht (q := (RX6, TX6, 9)) rfl (c_X6_isInDock (by decide) r8 h9) rfl rfl q837 q367 q368 rfl (by simp [zcat_rf, zcat_i, zcat_l, zcat_f, zcat_d]) (zkI (fun x16 h17 => ?_)) zxo
          refine s_if_eq (pc := 39) (tgt := 49) dX2_areApart_39 (by decide) (fun _ => ?_) (fun _ => ?_)
          · refine s_iconst (pc := 49) (v := 0) dX2_areApart_49 (by decide) ?_
            exact s_sub (pc := 50) [1, 3] rfl (w_X2_areApart_50 (f_X2_areApart_15 n) ih a0 a2 0 a1 h17)
          · refine s_aload_n (pc := 42) 0 dX2_areApart_42 rfl rfl ?_
            refine s_gI (pc := 43) dX2_areApart_43 gf_X2_183 (fun x18 => ?_)
            refine s_goto (pc := 46) (tgt := 50) dX2_areApart_46 (by decide) ?_
            exact s_sub (pc := 50) [1, 3] rfl (w_X2_areApart_50 (f_X2_areApart_15 n) ih a0 a2 x18 a1 h17)
        refine zS_ite (fun ht => ?_) (fun _ => ?_)
        · refine s_callF (pc := 25) (np := 0) (as := []) (rest := []) dX2_areApart_25 ht (q := (RJ21, TJ21, 5)) rfl (c_J21_next (by decide) a2 h7) ⟨_, _, _, q812⟩ rfl rfl q670 (by decide +kernel) q810 q808 rfl (by decide) (zkR (fun r8 h9 => ?_)) zxo
          refine s_cast (pc := 30) dX2_areApart_30 q836 zcs_FloatingDock_Ship ?_
          refine s_ast_n (pc := 33) (L2 := [(0, va_rf a0), (1, .int a1), (2, va_rf a2)]) [0, 1, 2] dX2_areApart_33 rfl (by decide) rfl rfl (zcB (j := 2) rfl (zcat_rf a2) rfl) ?_
          refine s_iload_n (pc := 34) 2 dX2_areApart_34 rfl rfl ?_
          refine s_aload_n (pc := 35) 0 dX2_areApart_35 rfl rfl ?_
          refine zS_ite (fun ht => ?_) (fun _ => zS_none)
          refine s_callV (pc := 36) (np := 0) (as := []) (rest := [.int a1]) dX2_areApart_36 ht (q := (RX6, TX6, 9)) rfl (c_X6_isInDock (by decide) r8 h9) rfl rfl q837 q367 q368 rfl (by simp [zcat_rf, zcat_i, zcat_l, zcat_f, zcat_d]) (zkI (fun x19 h20 => ?_)) zxo
          refine s_if_eq (pc := 39) (tgt := 49) dX2_areApart_39 (by decide) (fun _ => ?_) (fun _ => ?_)
          · refine s_iconst (pc := 49) (v := 0) dX2_areApart_49 (by decide) ?_
            exact s_sub (pc := 50) [1, 3] rfl (w_X2_areApart_50 (f_X2_areApart_15 n) ih a0 a2 0 a1 h20)
          · refine s_aload_n (pc := 42) 0 dX2_areApart_42 rfl rfl ?_
            refine s_gI (pc := 43) dX2_areApart_43 gf_X2_183 (fun x21 => ?_)
            refine s_goto (pc := 46) (tgt := 50) dX2_areApart_46 (by decide) ?_
            exact s_sub (pc := 50) [1, 3] rfl (w_X2_areApart_50 (f_X2_areApart_15 n) ih a0 a2 x21 a1 h20)
        refine zS_ite (fun ht => ?_) (fun _ => zS_none)
        refine s_callF (pc := 25) (np := 0) (as := []) (rest := []) dX2_areApart_25 ht (q := (RJ22, TJ22, 5)) rfl (c_J22_next (by decide) a2 h7) ⟨_, _, _, q832⟩ rfl rfl q670 (by decide +kernel) q830 q828 rfl (by decide) (zkR (fun r8 h9 => ?_)) zxo
        refine s_cast (pc := 30) dX2_areApart_30 q836 zcs_FloatingDock_Ship ?_
        refine s_ast_n (pc := 33) (L2 := [(0, va_rf a0), (1, .int a1), (2, va_rf a2)]) [0, 1, 2] dX2_areApart_33 rfl (by decide) rfl rfl (zcB (j := 2) rfl (zcat_rf a2) rfl) ?_
        refine s_iload_n (pc := 34) 2 dX2_areApart_34 rfl rfl ?_
        refine s_aload_n (pc := 35) 0 dX2_areApart_35 rfl rfl ?_
        refine zS_ite (fun ht => ?_) (fun _ => zS_none)
        refine s_callV (pc := 36) (np := 0) (as := []) (rest := [.int a1]) dX2_areApart_36 ht (q := (RX6, TX6, 9)) rfl (c_X6_isInDock (by decide) r8 h9) rfl rfl q837 q367 q368 rfl (by simp [zcat_rf, zcat_i, zcat_l, zcat_f, zcat_d]) (zkI (fun x22 h23 => ?_)) zxo
        refine s_if_eq (pc := 39) (tgt := 49) dX2_areApart_39 (by decide) (fun _ => ?_) (fun _ => ?_)
        · refine s_iconst (pc := 49) (v := 0) dX2_areApart_49 (by decide) ?_
          exact s_sub (pc := 50) [1, 3] rfl (w_X2_areApart_50 (f_X2_areApart_15 n) ih a0 a2 0 a1 h23)
        · refine s_aload_n (pc := 42) 0 dX2_areApart_42 rfl rfl ?_
          refine s_gI (pc := 43) dX2_areApart_43 gf_X2_183 (fun x24 => ?_)
          refine s_goto (pc := 46) (tgt := 50) dX2_areApart_46 (by decide) ?_
          exact s_sub (pc := 50) [1, 3] rfl (w_X2_areApart_50 (f_X2_areApart_15 n) ih a0 a2 x24 a1 h23)
    refine zS_ite (fun ht => ?_) (fun _ => ?_)
    · refine s_callF (pc := 16) (np := 0) (as := []) (rest := []) dX2_areApart_16 ht (q := (RJ15, TJ15, 4)) rfl (c_J15_hasNext (by decide) a2 h) ⟨_, _, _, q653⟩ rfl rfl q629 (by decide +kernel) q651 q649 rfl (by decide) (zkI (fun x6 h7 => ?_)) zxo
      refine s_if_eq (pc := 21) (tgt := 55) dX2_areApart_21 (by decide) (fun _ => ?_) (fun _ => ?_)
      · exact s_sub (pc := 55) [0, 1] rfl (w_X2_areApart_55 a0 a1 h7)
      · refine s_aload_n (pc := 24) 2 dX2_areApart_24 rfl rfl ?_
        refine zS_ite (fun ht => ?_) (fun _ => ?_)
        · refine s_callF (pc := 25) (np := 0) (as := []) (rest := []) dX2_areApart_25 ht (q := (RX9, TX9, 2)) rfl (c_X9_next (by decide) a2 h7) ⟨_, _, _, q677⟩ rfl rfl q670 (by decide +kernel) q675 q673 rfl (by decide) (zkR (fun r25 h26 => ?_)) zxo
          refine s_cast (pc := 30) dX2_areApart_30 q836 zcs_FloatingDock_Ship ?_
          refine s_ast_n (pc := 33) (L2 := [(0, va_rf a0), (1, .int a1), (2, va_rf a2)]) [0, 1, 2] dX2_areApart_33 rfl (by decide) rfl rfl (zcB (j := 2) rfl (zcat_rf a2) rfl) ?_
          refine s_iload_n (pc := 34) 2 dX2_areApart_34 rfl rfl ?_
          refine s_aload_n (pc := 35) 0 dX2_areApart_35 rfl rfl ?_
          refine zS_ite (fun ht => ?_) (fun _ => zS_none)
          refine s_callV (pc := 36) (np := 0) (as := []) (rest := [.int a1]) dX2_areApart_36 ht (q := (RX6, TX6, 9)) rfl (c_X6_isInDock (by decide) r25 h26) rfl rfl q837 q367 q368 rfl (by simp [zcat_rf, zcat_i, zcat_l, zcat_f, zcat_d]) (zkI (fun x27 h28 => ?_)) zxo
          refine s_if_eq (pc := 39) (tgt := 49) dX2_areApart_39 (by decide) (fun _ => ?_) (fun _ => ?_)
          · refine s_iconst (pc := 49) (v := 0) dX2_areApart_49 (by decide) ?_
            exact s_sub (pc := 50) [1, 3] rfl (w_X2_areApart_50 (f_X2_areApart_15 n) ih a0 a2 0 a1 h28)
          · refine s_aload_n (pc := 42) 0 dX2_areApart_42 rfl rfl ?_
            refine s_gI (pc := 43) dX2_areApart_43 gf_X2_183 (fun x29 => ?_)
            refine s_goto (pc := 46) (tgt := 50) dX2_areApart_46 (by decide) ?_
            exact s_sub (pc := 50) [1, 3] rfl (w_X2_areApart_50 (f_X2_areApart_15 n) ih a0 a2 x29 a1 h28)
        refine zS_ite (fun ht => ?_) (fun _ => ?_)
        · refine s_callF (pc := 25) (np := 0) (as := []) (rest := []) dX2_areApart_25 ht (q := (RJ15, TJ15, 4)) rfl (c_J15_next (by decide) a2 h7) ⟨_, _, _, q788⟩ rfl rfl q670 (by decide +kernel) q786 q784 rfl (by decide) (zkR (fun r25 h26 => ?_)) zxo
          refine s_cast (pc := 30) dX2_areApart_30 q836 zcs_FloatingDock_Ship ?_
          refine s_ast_n (pc := 33) (L2 := [(0, va_rf a0), (1, .int a1), (2, va_rf a2)]) [0, 1, 2] dX2_areApart_33 rfl (by decide) rfl rfl (zcB (j := 2) rfl (zcat_rf a2) rfl) ?_
          refine s_iload_n (pc := 34) 2 dX2_areApart_34 rfl rfl ?_
          refine s_aload_n (pc := 35) 0 dX2_areApart_35 rfl rfl ?_
          refine zS_ite (fun ht => ?_) (fun _ => zS_none)
          refine s_callV (pc := 36) (np := 0) (as := []) (rest := [.int a1]) dX2_areApart_36 ht (q := (RX6, TX6, 9)) rfl (c_X6_isInDock (by decide) r25 h26) rfl rfl q837 q367 q368 rfl (by simp [zcat_rf, zcat_i, zcat_l, zcat_f, zcat_d]) (zkI (fun x30 h31 => ?_)) zxo
          refine s_if_eq (pc := 39) (tgt := 49) dX2_areApart_39 (by decide) (fun _ => ?_) (fun _ => ?_)
          · refine s_iconst (pc := 49) (v := 0) dX2_areApart_49 (by decide) ?_
            exact s_sub (pc := 50) [1, 3] rfl (w_X2_areApart_50 (f_X2_areApart_15 n) ih a0 a2 0 a1 h31)
          · refine s_aload_n (pc := 42) 0 dX2_areApart_42 rfl rfl ?_
            refine s_gI (pc := 43) dX2_areApart_43 gf_X2_183 (fun x32 => ?_)
            refine s_goto (pc := 46) (tgt := 50) dX2_areApart_46 (by decide) ?_
            exact s_sub (pc := 50) [1, 3] rfl (w_X2_areApart_50 (f_X2_areApart_15 n) ih a0 a2 x32 a1 h31)
        refine zS_ite (fun ht => ?_) (fun _ => ?_)
        · refine s_callF (pc := 25) (np := 0) (as := []) (rest := []) dX2_areApart_25 ht (q := (RJ17, TJ17, 5)) rfl (c_J17_next (by decide) a2 h7) ⟨_, _, _, q799⟩ rfl rfl q670 (by decide +kernel) q797 q795 rfl (by decide) (zkR (fun r25 h26 => ?_)) zxo
          refine s_cast (pc := 30) dX2_areApart_30 q836 zcs_FloatingDock_Ship ?_
          refine s_ast_n (pc := 33) (L2 := [(0, va_rf a0), (1, .int a1), (2, va_rf a2)]) [0, 1, 2] dX2_areApart_33 rfl (by decide) rfl rfl (zcB (j := 2) rfl (zcat_rf a2) rfl) ?_
          refine s_iload_n (pc := 34) 2 dX2_areApart_34 rfl rfl ?_
          refine s_aload_n (pc := 35) 0 dX2_areApart_35 rfl rfl ?_
          refine zS_ite (fun ht => ?_) (fun _ => zS_none)
          refine s_callV (pc := 36) (np := 0) (as := []) (rest := [.int a1]) dX2_areApart_36 ht (q := (RX6, TX6, 9)) rfl (c_X6_isInDock (by decide) r25 h26) rfl rfl q837 q367 q368 rfl (by simp [zcat_rf, zcat_i, zcat_l, zcat_f, zcat_d]) (zkI (fun x33 h34 => ?_)) zxo
          refine s_if_eq (pc := 39) (tgt := 49) dX2_areApart_39 (by decide) (fun _ => ?_) (fun _ => ?_)
          · refine s_iconst (pc := 49) (v := 0) dX2_areApart_49 (by decide) ?_
            exact s_sub (pc := 50) [1, 3] rfl (w_X2_areApart_50 (f_X2_areApart_15 n) ih a0 a2 0 a1 h34)
          · refine s_aload_n (pc := 42) 0 dX2_areApart_42 rfl rfl ?_
            refine s_gI (pc := 43) dX2_areApart_43 gf_X2_183 (fun x35 => ?_)
            refine s_goto (pc := 46) (tgt := 50) dX2_areApart_46 (by decide) ?_
            exact s_sub (pc := 50) [1, 3] rfl (w_X2_areApart_50 (f_X2_areApart_15 n) ih a0 a2 x35 a1 h34)
        refine zS_ite (fun ht => ?_) (fun _ => ?_)
        · refine s_callF (pc := 25) (np := 0) (as := []) (rest := []) dX2_areApart_25 ht (q := (RJ21, TJ21, 5)) rfl (c_J21_next (by decide) a2 h7) ⟨_, _, _, q812⟩ rfl rfl q670 (by decide +kernel) q810 q808 rfl (by decide) (zkR (fun r25 h26 => ?_)) zxo
          refine s_cast (pc := 30) dX2_areApart_30 q836 zcs_FloatingDock_Ship ?_
          refine s_ast_n (pc := 33) (L2 := [(0, va_rf a0), (1, .int a1), (2, va_rf a2)]) [0, 1, 2] dX2_areApart_33 rfl (by decide) rfl rfl (zcB (j := 2) rfl (zcat_rf a2) rfl) ?_
          refine s_iload_n (pc := 34) 2 dX2_areApart_34 rfl rfl ?_
          refine s_aload_n (pc := 35) 0 dX2_areApart_35 rfl rfl ?_
          refine zS_ite (fun ht => ?_) (fun _ => zS_none)
          refine s_callV (pc := 36) (np := 0) (as := []) (rest := [.int a1]) dX2_areApart_36 ht (q := (RX6, TX6, 9)) rfl (c_X6_isInDock (by decide) r25 h26) rfl rfl q837 q367 q368 rfl (by simp [zcat_rf, zcat_i, zcat_l, zcat_f, zcat_d]) (zkI (fun x36 h37 => ?_)) zxo
          refine s_if_eq (pc := 39) (tgt := 49) dX2_areApart_39 (by decide) (fun _ => ?_) (fun _ => ?_)
          · refine s_iconst (pc := 49) (v := 0) dX2_areApart_49 (by decide) ?_
            exact s_sub (pc := 50) [1, 3] rfl (w_X2_areApart_50 (f_X2_areApart_15 n) ih a0 a2 0 a1 h37)
          · refine s_aload_n (pc := 42) 0 dX2_areApart_42 rfl rfl ?_
            refine s_gI (pc := 43) dX2_areApart_43 gf_X2_183 (fun x38 => ?_)
            refine s_goto (pc := 46) (tgt := 50) dX2_areApart_46 (by decide) ?_
            exact s_sub (pc := 50) [1, 3] rfl (w_X2_areApart_50 (f_X2_areApart_15 n) ih a0 a2 x38 a1 h37)
        refine zS_ite (fun ht => ?_) (fun _ => zS_none)
        refine s_callF (pc := 25) (np := 0) (as := []) (rest := []) dX2_areApart_25 ht (q := (RJ22, TJ22, 5)) rfl (c_J22_next (by decide) a2 h7) ⟨_, _, _, q832⟩ rfl rfl q670 (by decide +kernel) q830 q828 rfl (by decide) (zkR (fun r25 h26 => ?_)) zxo
        refine s_cast (pc := 30) dX2_areApart_30 q836 zcs_FloatingDock_Ship ?_
        refine s_ast_n (pc := 33) (L2 := [(0, va_rf a0), (1, .int a1), (2, va_rf a2)]) [0, 1, 2] dX2_areApart_33 rfl (by decide) rfl rfl (zcB (j := 2) rfl (zcat_rf a2) rfl) ?_
        refine s_iload_n (pc := 34) 2 dX2_areApart_34 rfl rfl ?_
        refine s_aload_n (pc := 35) 0 dX2_areApart_35 rfl rfl ?_
        refine zS_ite (fun ht => ?_) (fun _ => zS_none)
        refine s_callV (pc := 36) (np := 0) (as := []) (rest := [.int a1]) dX2_areApart_36 ht (q := (RX6, TX6, 9)) rfl (c_X6_isInDock (by decide) r25 h26) rfl rfl q837 q367 q368 rfl (by simp [zcat_rf, zcat_i, zcat_l, zcat_f, zcat_d]) (zkI (fun x39 h40 => ?_)) zxo
        refine s_if_eq (pc := 39) (tgt := 49) dX2_areApart_39 (by decide) (fun _ => ?_) (fun _ => ?_)
        · refine s_iconst (pc := 49) (v := 0) dX2_areApart_49 (by decide) ?_
          exact s_sub (pc := 50) [1, 3] rfl (w_X2_areApart_50 (f_X2_areApart_15 n) ih a0 a2 0 a1 h40)
        · refine s_aload_n (pc := 42) 0 dX2_areApart_42 rfl rfl ?_
          refine s_gI (pc := 43) dX2_areApart_43 gf_X2_183 (fun x41 => ?_)
          refine s_goto (pc := 46) (tgt := 50) dX2_areApart_46 (by decide) ?_
          exact s_sub (pc := 50) [1, 3] rfl (w_X2_areApart_50 (f_X2_areApart_15 n) ih a0 a2 x41 a1 h40)
    refine zS_ite (fun ht => ?_) (fun _ => ?_)
    · refine s_callF (pc := 16) (np := 0) (as := []) (rest := []) dX2_areApart_16 ht (q := (RJ17, TJ17, 5)) rfl (c_J16_hasNext (by decide) a2 h) ⟨_, _, _, q659⟩ rfl rfl q629 (by decide +kernel) q657 q655 rfl (by decide) (zkI (fun x6 h7 => ?_)) zxo
      refine s_if_eq (pc := 21) (tgt := 55) dX2_areApart_21 (by decide) (fun _ => ?_) (fun _ => ?_)
      · exact s_sub (pc := 55) [0, 1] rfl (w_X2_areApart_55 a0 a1 h7)
      · refine s_aload_n (pc := 24) 2 dX2_areApart_24 rfl rfl ?_
        refine zS_ite (fun ht => ?_) (fun _ => ?_)
        · refine s_callF (pc := 25) (np := 0) (as := []) (rest := []) dX2_areApart_25 ht (q := (RX9, TX9, 2)) rfl (c_X9_next (by decide) a2 h7) ⟨_, _, _, q677⟩ rfl rfl q670 (by decide +kernel) q675 q673 rfl (by decide) (zkR (fun r42 h43 => ?_)) zxo
          refine s_cast (pc := 30) dX2_areApart_30 q836 zcs_FloatingDock_Ship ?_
          refine s_ast_n (pc := 33) (L2 := [(0, va_rf a0), (1, .int a1), (2, va_rf a2)]) [0, 1, 2] dX2_areApart_33 rfl (by decide) rfl rfl (zcB (j := 2) rfl (zcat_rf a2) rfl) ?_
          refine s_iload_n (pc := 34) 2 dX2_areApart_34 rfl rfl ?_
          refine s_aload_n (pc := 35) 0 dX2_areApart_35 rfl rfl ?_
          refine zS_ite (fun ht => ?_) (fun _ => zS_none)
          refine s_callV (pc := 36) (np := 0) (as := []) (rest := [.int a1]) dX2_areApart_36 ht (q := (RX6, TX6, 9)) rfl (c_X6_isInDock (by decide) r42 h43) rfl rfl q837 q367 q368 rfl (by simp [zcat_rf, zcat_i, zcat_l, zcat_f, zcat_d]) (zkI (fun x44 h45 => ?_)) zxo
          refine s_if_eq (pc := 39) (tgt := 49) dX2_areApart_39 (by decide) (fun _ => ?_) (fun _ => ?_)
          · refine s_iconst (pc := 49) (v := 0) dX2_areApart_49 (by decide) ?_
            exact s_sub (pc := 50) [1, 3] rfl (w_X2_areApart_50 (f_X2_areApart_15 n) ih a0 a2 0 a1 h45)
          · refine s_aload_n (pc := 42) 0 dX2_areApart_42 rfl rfl ?_
            refine s_gI (pc := 43) dX2_areApart_43 gf_X2_183 (fun x46 => ?_)
            refine s_goto (pc := 46) (tgt := 50) dX2_areApart_46 (by decide) ?_
            exact s_sub (pc := 50) [1, 3] rfl (w_X2_areApart_50 (f_X2_areApart_15 n) ih a0 a2 x46 a1 h45)
        refine zS_ite (fun ht => ?_) (fun _ => ?_)
        · refine s_callF (pc := 25) (np := 0) (as := []) (rest := []) dX2_areApart_25 ht (q := (RJ15, TJ15, 4)) rfl (c_J15_next (by decide) a2 h7) ⟨_, _, _, q788⟩ rfl rfl q670 (by decide +kernel) q786 q784 rfl (by decide) (zkR (fun r42 h43 => ?_)) zxo
          refine s_cast (pc := 30) dX2_areApart_30 q836 zcs_FloatingDock_Ship ?_
          refine s_ast_n (pc := 33) (L2 := [(0, va_rf a0), (1, .int a1), (2, va_rf a2)]) [0, 1, 2] dX2_areApart_33 rfl (by decide) rfl rfl (zcB (j := 2) rfl (zcat_rf a2) rfl) ?_
          refine s_iload_n (pc := 34) 2 dX2_areApart_34 rfl rfl ?_
          refine s_aload_n (pc := 35) 0 dX2_areApart_35 rfl rfl ?_
          refine zS_ite (fun ht => ?_) (fun _ => zS_none)
          refine s_callV (pc := 36) (np := 0) (as := []) (rest := [.int a1]) dX2_areApart_36 ht (q := (RX6, TX6, 9)) rfl (c_X6_isInDock (by decide) r42 h43) rfl rfl q837 q367 q368 rfl (by simp [zcat_rf, zcat_i, zcat_l, zcat_f, zcat_d]) (zkI (fun x47 h48 => ?_)) zxo
          refine s_if_eq (pc := 39) (tgt := 49) dX2_areApart_39 (by decide) (fun _ => ?_) (fun _ => ?_)
          · refine s_iconst (pc := 49) (v := 0) dX2_areApart_49 (by decide) ?_
            exact s_sub (pc := 50) [1, 3] rfl (w_X2_areApart_50 (f_X2_areApart_15 n) ih a0 a2 0 a1 h48)
          · refine s_aload_n (pc := 42) 0 dX2_areApart_42 rfl rfl ?_
            refine s_gI (pc := 43) dX2_areApart_43 gf_X2_183 (fun x49 => ?_)
            refine s_goto (pc := 46) (tgt := 50) dX2_areApart_46 (by decide) ?_
            exact s_sub (pc := 50) [1, 3] rfl (w_X2_areApart_50 (f_X2_areApart_15 n) ih a0 a2 x49 a1 h48)
        refine zS_ite (fun ht => ?_) (fun _ => ?_)
        · refine s_callF (pc := 25) (np := 0) (as := []) (rest := []) dX2_areApart_25 ht (q := (RJ17, TJ17, 5)) rfl (c_J17_next (by decide) a2 h7) ⟨_, _, _, q799⟩ rfl rfl q670 (by decide +kernel) q797 q795 rfl (by decide) (zkR (fun r42 h43 => ?_)) zxo
          refine s_cast (pc := 30) dX2_areApart_30 q836 zcs_FloatingDock_Ship ?_
          refine s_ast_n (pc := 33) (L2 := [(0, va_rf a0), (1, .int a1), (2, va_rf a2)]) [0, 1, 2] dX2_areApart_33 rfl (by decide) rfl rfl (zcB (j := 2) rfl (zcat_rf a2) rfl) ?_
          refine s_iload_n (pc := 34) 2 dX2_areApart_34 rfl rfl ?_
          refine s_aload_n (pc := 35) 0 dX2_areApart_35 rfl rfl ?_
          refine zS_ite (fun ht => ?_) (fun _ => zS_none)
          refine s_callV (pc := 36) (np := 0) (as := []) (rest := [.int a1]) dX2_areApart_36 ht (q := (RX6, TX6, 9)) rfl (c_X6_isInDock (by decide) r42 h43) rfl rfl q837 q367 q368 rfl (by simp [zcat_rf, zcat_i, zcat_l, zcat_f, zcat_d]) (zkI (fun x50 h51 => ?_)) zxo
          refine s_if_eq (pc := 39) (tgt := 49) dX2_areApart_39 (by decide) (fun _ => ?_) (fun _ => ?_)
          · refine s_iconst (pc := 49) (v := 0) dX2_areApart_49 (by decide) ?_
            exact s_sub (pc := 50) [1, 3] rfl (w_X2_areApart_50 (f_X2_areApart_15 n) ih a0 a2 0 a1 h51)
          · refine s_aload_n (pc := 42) 0 dX2_areApart_42 rfl rfl ?_
            refine s_gI (pc := 43) dX2_areApart_43 gf_X2_183 (fun x52 => ?_)
            refine s_goto (pc := 46) (tgt := 50) dX2_areApart_46 (by decide) ?_
            exact s_sub (pc := 50) [1, 3] rfl (w_X2_areApart_50 (f_X2_areApart_15 n) ih a0 a2 x52 a1 h51)
        refine zS_ite (fun ht => ?_) (fun _ => ?_)
        · refine s_callF (pc := 25) (np := 0) (as := []) (rest := []) dX2_areApart_25 ht (q := (RJ21, TJ21, 5)) rfl (c_J21_next (by decide) a2 h7) ⟨_, _, _, q812⟩ rfl rfl q670 (by decide +kernel) q810 q808 rfl (by decide) (zkR (fun r42 h43 => ?_)) zxo
          refine s_cast (pc := 30) dX2_areApart_30 q836 zcs_FloatingDock_Ship ?_
          refine s_ast_n (pc := 33) (L2 := [(0, va_rf a0), (1, .int a1), (2, va_rf a2)]) [0, 1, 2] dX2_areApart_33 rfl (by decide) rfl rfl (zcB (j := 2) rfl (zcat_rf a2) rfl) ?_
          refine s_iload_n (pc := 34) 2 dX2_areApart_34 rfl rfl ?_
          refine s_aload_n (pc := 35) 0 dX2_areApart_35 rfl rfl ?_
          refine zS_ite (fun ht => ?_) (fun _ => zS_none)
          refine s_callV (pc := 36) (np := 0) (as := []) (rest := [.int a1]) dX2_areApart_36 ht (q := (RX6, TX6, 9)) rfl (c_X6_isInDock (by decide) r42 h43) rfl rfl q837 q367 q368 rfl (by simp [zcat_rf, zcat_i, zcat_l, zcat_f, zcat_d]) (zkI (fun x53 h54 => ?_)) zxo
          refine s_if_eq (pc := 39) (tgt := 49) dX2_areApart_39 (by decide) (fun _ => ?_) (fun _ => ?_)
          · refine s_iconst (pc := 49) (v := 0) dX2_areApart_49 (by decide) ?_
            exact s_sub (pc := 50) [1, 3] rfl (w_X2_areApart_50 (f_X2_areApart_15 n) ih a0 a2 0 a1 h54)
          · refine s_aload_n (pc := 42) 0 dX2_areApart_42 rfl rfl ?_
            refine s_gI (pc := 43) dX2_areApart_43 gf_X2_183 (fun x55 => ?_)
            refine s_goto (pc := 46) (tgt := 50) dX2_areApart_46 (by decide) ?_
            exact s_sub (pc := 50) [1, 3] rfl (w_X2_areApart_50 (f_X2_areApart_15 n) ih a0 a2 x55 a1 h54)
        refine zS_ite (fun ht => ?_) (fun _ => zS_none)
        refine s_callF (pc := 25) (np := 0) (as := []) (rest := []) dX2_areApart_25 ht (q := (RJ22, TJ22, 5)) rfl (c_J22_next (by decide) a2 h7) ⟨_, _, _, q832⟩ rfl rfl q670 (by decide +kernel) q830 q828 rfl (by decide) (zkR (fun r42 h43 => ?_)) zxo
        refine s_cast (pc := 30) dX2_areApart_30 q836 zcs_FloatingDock_Ship ?_
        refine s_ast_n (pc := 33) (L2 := [(0, va_rf a0), (1, .int a1), (2, va_rf a2)]) [0, 1, 2] dX2_areApart_33 rfl (by decide) rfl rfl (zcB (j := 2) rfl (zcat_rf a2) rfl) ?_
        refine s_iload_n (pc := 34) 2 dX2_areApart_34 rfl rfl ?_
        refine s_aload_n (pc := 35) 0 dX2_areApart_35 rfl rfl ?_
        refine zS_ite (fun ht => ?_) (fun _ => zS_none)
        refine s_callV (pc := 36) (np := 0) (as := []) (rest := [.int a1]) dX2_areApart_36 ht (q := (RX6, TX6, 9)) rfl (c_X6_isInDock (by decide) r42 h43) rfl rfl q837 q367 q368 rfl (by simp [zcat_rf, zcat_i, zcat_l, zcat_f, zcat_d]) (zkI (fun x56 h57 => ?_)) zxo
        refine s_if_eq (pc := 39) (tgt := 49) dX2_areApart_39 (by decide) (fun _ => ?_) (fun _ => ?_)
        · refine s_iconst (pc := 49) (v := 0) dX2_areApart_49 (by decide) ?_
          exact s_sub (pc := 50) [1, 3] rfl (w_X2_areApart_50 (f_X2_areApart_15 n) ih a0 a2 0 a1 h57)
        · refine s_aload_n (pc := 42) 0 dX2_areApart_42 rfl rfl ?_
          refine s_gI (pc := 43) dX2_areApart_43 gf_X2_183 (fun x58 => ?_)
          refine s_goto (pc := 46) (tgt := 50) dX2_areApart_46 (by decide) ?_
          exact s_sub (pc := 50) [1, 3] rfl (w_X2_areApart_50 (f_X2_areApart_15 n) ih a0 a2 x58 a1 h57)
    refine zS_ite (fun ht => ?_) (fun _ => ?_)
    · refine s_callF (pc := 16) (np := 0) (as := []) (rest := []) dX2_areApart_16 ht (q := (RJ21, TJ21, 5)) rfl (c_J20_hasNext (by decide) a2 h) ⟨_, _, _, q665⟩ rfl rfl q629 (by decide +kernel) q663 q661 rfl (by decide) (zkI (fun x6 h7 => ?_)) zxo
      refine s_if_eq (pc := 21) (tgt := 55) dX2_areApart_21 (by decide) (fun _ => ?_) (fun _ => ?_)
      · exact s_sub (pc := 55) [0, 1] rfl (w_X2_areApart_55 a0 a1 h7)
      · refine s_aload_n (pc := 24) 2 dX2_areApart_24 rfl rfl ?_
        refine zS_ite (fun ht => ?_) (fun _ => ?_)
        · refine s_callF (pc := 25) (np := 0) (as := []) (rest := []) dX2_areApart_25 ht (q := (RX9, TX9, 2)) rfl (c_X9_next (by decide) a2 h7) ⟨_, _, _, q677⟩ rfl rfl q670 (by decide +kernel) q675 q673 rfl (by decide) (zkR (fun r59 h60 => ?_)) zxo
          refine s_cast (pc := 30) dX2_areApart_30 q836 zcs_FloatingDock_Ship ?_
          refine s_ast_n (pc := 33) (L2 := [(0, va_rf a0), (1, .int a1), (2, va_rf a2)]) [0, 1, 2] dX2_areApart_33 rfl (by decide) rfl rfl (zcB (j := 2) rfl (zcat_rf a2) rfl) ?_
          refine s_iload_n (pc := 34) 2 dX2_areApart_34 rfl rfl ?_
          refine s_aload_n (pc := 35) 0 dX2_areApart_35 rfl rfl ?_
          refine zS_ite (fun ht => ?_) (fun _ => zS_none)
          refine s_callV (pc := 36) (np := 0) (as := []) (rest := [.int a1]) dX2_areApart_36 ht (q := (RX6, TX6, 9)) rfl (c_X6_isInDock (by decide) r59 h60) rfl rfl q837 q367 q368 rfl (by simp [zcat_rf, zcat_i, zcat_l, zcat_f, zcat_d]) (zkI (fun x61 h62 => ?_)) zxo
          refine s_if_eq (pc := 39) (tgt := 49) dX2_areApart_39 (by decide) (fun _ => ?_) (fun _ => ?_)
          · refine s_iconst (pc := 49) (v := 0) dX2_areApart_49 (by decide) ?_
            exact s_sub (pc := 50) [1, 3] rfl (w_X2_areApart_50 (f_X2_areApart_15 n) ih a0 a2 0 a1 h62)
          · refine s_aload_n (pc := 42) 0 dX2_areApart_42 rfl rfl ?_
            refine s_gI (pc := 43) dX2_areApart_43 gf_X2_183 (fun x63 => ?_)
            refine s_goto (pc := 46) (tgt := 50) dX2_areApart_46 (by decide) ?_
            exact s_sub (pc := 50) [1, 3] rfl (w_X2_areApart_50 (f_X2_areApart_15 n) ih a0 a2 x63 a1 h62)
        refine zS_ite (fun ht => ?_) (fun _ => ?_)
        · refine s_callF (pc := 25) (np := 0) (as := []) (rest := []) dX2_areApart_25 ht (q := (RJ15, TJ15, 4)) rfl (c_J15_next (by decide) a2 h7) ⟨_, _, _, q788⟩ rfl rfl q670 (by decide +kernel) q786 q784 rfl (by decide) (zkR (fun r59 h60 => ?_)) zxo
          refine s_cast (pc := 30) dX2_areApart_30 q836 zcs_FloatingDock_Ship ?_
          refine s_ast_n (pc := 33) (L2 := [(0, va_rf a0), (1, .int a1), (2, va_rf a2)]) [0, 1, 2] dX2_areApart_33 rfl (by decide) rfl rfl (zcB (j := 2) rfl (zcat_rf a2) rfl) ?_
          refine s_iload_n (pc := 34) 2 dX2_areApart_34 rfl rfl ?_
          refine s_aload_n (pc := 35) 0 dX2_areApart_35 rfl rfl ?_
          refine zS_ite (fun ht => ?_) (fun _ => zS_none)
          refine s_callV (pc := 36) (np := 0) (as := []) (rest := [.int a1]) dX2_areApart_36 ht (q := (RX6, TX6, 9)) rfl (c_X6_isInDock (by decide) r59 h60) rfl rfl q837 q367 q368 rfl (by simp [zcat_rf, zcat_i, zcat_l, zcat_f, zcat_d]) (zkI (fun x64 h65 => ?_)) zxo
          refine s_if_eq (pc := 39) (tgt := 49) dX2_areApart_39 (by decide) (fun _ => ?_) (fun _ => ?_)
          · refine s_iconst (pc := 49) (v := 0) dX2_areApart_49 (by decide) ?_
            exact s_sub (pc := 50) [1, 3] rfl (w_X2_areApart_50 (f_X2_areApart_15 n) ih a0 a2 0 a1 h65)
          · refine s_aload_n (pc := 42) 0 dX2_areApart_42 rfl rfl ?_
            refine s_gI (pc := 43) dX2_areApart_43 gf_X2_183 (fun x66 => ?_)
            refine s_goto (pc := 46) (tgt := 50) dX2_areApart_46 (by decide) ?_
            exact s_sub (pc := 50) [1, 3] rfl (w_X2_areApart_50 (f_X2_areApart_15 n) ih a0 a2 x66 a1 h65)
        refine zS_ite (fun ht => ?_) (fun _ => ?_)
        · refine s_callF (pc := 25) (np := 0) (as := []) (rest := []) dX2_areApart_25 ht (q := (RJ17, TJ17, 5)) rfl (c_J17_next (by decide) a2 h7) ⟨_, _, _, q799⟩ rfl rfl q670 (by decide +kernel) q797 q795 rfl (by decide) (zkR (fun r59 h60 => ?_)) zxo
          refine s_cast (pc := 30) dX2_areApart_30 q836 zcs_FloatingDock_Ship ?_
          refine s_ast_n (pc := 33) (L2 := [(0, va_rf a0), (1, .int a1), (2, va_rf a2)]) [0, 1, 2] dX2_areApart_33 rfl (by decide) rfl rfl (zcB (j := 2) rfl (zcat_rf a2) rfl) ?_
          refine s_iload_n (pc := 34) 2 dX2_areApart_34 rfl rfl ?_
          refine s_aload_n (pc := 35) 0 dX2_areApart_35 rfl rfl ?_
          refine zS_ite (fun ht => ?_) (fun _ => zS_none)
          refine s_callV (pc := 36) (np := 0) (as := []) (rest := [.int a1]) dX2_areApart_36 ht (q := (RX6, TX6, 9)) rfl (c_X6_isInDock (by decide) r59 h60) rfl rfl q837 q367 q368 rfl (by simp [zcat_rf, zcat_i, zcat_l, zcat_f, zcat_d]) (zkI (fun x67 h68 => ?_)) zxo
          refine s_if_eq (pc := 39) (tgt := 49) dX2_areApart_39 (by decide) (fun _ => ?_) (fun _ => ?_)
          · refine s_iconst (pc := 49) (v := 0) dX2_areApart_49 (by decide) ?_
            exact s_sub (pc := 50) [1, 3] rfl (w_X2_areApart_50 (f_X2_areApart_15 n) ih a0 a2 0 a1 h68)
          · refine s_aload_n (pc := 42) 0 dX2_areApart_42 rfl rfl ?_
            refine s_gI (pc := 43) dX2_areApart_43 gf_X2_183 (fun x69 => ?_)
            refine s_goto (pc := 46) (tgt := 50) dX2_areApart_46 (by decide) ?_
            exact s_sub (pc := 50) [1, 3] rfl (w_X2_areApart_50 (f_X2_areApart_15 n) ih a0 a2 x69 a1 h68)
        refine zS_ite (fun ht => ?_) (fun _ => ?_)
        · refine s_callF (pc := 25) (np := 0) (as := []) (rest := []) dX2_areApart_25 ht (q := (RJ21, TJ21, 5)) rfl (c_J21_next (by decide) a2 h7) ⟨_, _, _, q812⟩ rfl rfl q670 (by decide +kernel) q810 q808 rfl (by decide) (zkR (fun r59 h60 => ?_)) zxo
          refine s_cast (pc := 30) dX2_areApart_30 q836 zcs_FloatingDock_Ship ?_
          refine s_ast_n (pc := 33) (L2 := [(0, va_rf a0), (1, .int a1), (2, va_rf a2)]) [0, 1, 2] dX2_areApart_33 rfl (by decide) rfl rfl (zcB (j := 2) rfl (zcat_rf a2) rfl) ?_
          refine s_iload_n (pc := 34) 2 dX2_areApart_34 rfl rfl ?_
          refine s_aload_n (pc := 35) 0 dX2_areApart_35 rfl rfl ?_
          refine zS_ite (fun ht => ?_) (fun _ => zS_none)
          refine s_callV (pc := 36) (np := 0) (as := []) (rest := [.int a1]) dX2_areApart_36 ht (q := (RX6, TX6, 9)) rfl (c_X6_isInDock (by decide) r59 h60) rfl rfl q837 q367 q368 rfl (by simp [zcat_rf, zcat_i, zcat_l, zcat_f, zcat_d]) (zkI (fun x70 h71 => ?_)) zxo
          refine s_if_eq (pc := 39) (tgt := 49) dX2_areApart_39 (by decide) (fun _ => ?_) (fun _ => ?_)
          · refine s_iconst (pc := 49) (v := 0) dX2_areApart_49 (by decide) ?_
            exact s_sub (pc := 50) [1, 3] rfl (w_X2_areApart_50 (f_X2_areApart_15 n) ih a0 a2 0 a1 h71)
          · refine s_aload_n (pc := 42) 0 dX2_areApart_42 rfl rfl ?_
            refine s_gI (pc := 43) dX2_areApart_43 gf_X2_183 (fun x72 => ?_)
            refine s_goto (pc := 46) (tgt := 50) dX2_areApart_46 (by decide) ?_
            exact s_sub (pc := 50) [1, 3] rfl (w_X2_areApart_50 (f_X2_areApart_15 n) ih a0 a2 x72 a1 h71)
        refine zS_ite (fun ht => ?_) (fun _ => zS_none)
        refine s_callF (pc := 25) (np := 0) (as := []) (rest := []) dX2_areApart_25 ht (q := (RJ22, TJ22, 5)) rfl (c_J22_next (by decide) a2 h7) ⟨_, _, _, q832⟩ rfl rfl q670 (by decide +kernel) q830 q828 rfl (by decide) (zkR (fun r59 h60 => ?_)) zxo
        refine s_cast (pc := 30) dX2_areApart_30 q836 zcs_FloatingDock_Ship ?_
        refine s_ast_n (pc := 33) (L2 := [(0, va_rf a0), (1, .int a1), (2, va_rf a2)]) [0, 1, 2] dX2_areApart_33 rfl (by decide) rfl rfl (zcB (j := 2) rfl (zcat_rf a2) rfl) ?_
        refine s_iload_n (pc := 34) 2 dX2_areApart_34 rfl rfl ?_
        refine s_aload_n (pc := 35) 0 dX2_areApart_35 rfl rfl ?_
        refine zS_ite (fun ht => ?_) (fun _ => zS_none)
        refine s_callV (pc := 36) (np := 0) (as := []) (rest := [.int a1]) dX2_areApart_36 ht (q := (RX6, TX6, 9)) rfl (c_X6_isInDock (by decide) r59 h60) rfl rfl q837 q367 q368 rfl (by simp [zcat_rf, zcat_i, zcat_l, zcat_f, zcat_d]) (zkI (fun x73 h74 => ?_)) zxo
        refine s_if_eq (pc := 39) (tgt := 49) dX2_areApart_39 (by decide) (fun _ => ?_) (fun _ => ?_)
        · refine s_iconst (pc := 49) (v := 0) dX2_areApart_49 (by decide) ?_
          exact s_sub (pc := 50) [1, 3] rfl (w_X2_areApart_50 (f_X2_areApart_15 n) ih a0 a2 0 a1 h74)
        · refine s_aload_n (pc := 42) 0 dX2_areApart_42 rfl rfl ?_
          refine s_gI (pc := 43) dX2_areApart_43 gf_X2_183 (fun x75 => ?_)
          refine s_goto (pc := 46) (tgt := 50) dX2_areApart_46 (by decide) ?_
          exact s_sub (pc := 50) [1, 3] rfl (w_X2_areApart_50 (f_X2_areApart_15 n) ih a0 a2 x75 a1 h74)
    refine zS_ite (fun ht => ?_) (fun _ => zS_none)
    refine s_callF (pc := 16) (np := 0) (as := []) (rest := []) dX2_areApart_16 ht (q := (RJ22, TJ22, 5)) rfl (c_J20_hasNext (by decide) a2 h) ⟨_, _, _, q665⟩ rfl rfl q629 (by decide +kernel) q663 q667 rfl (by decide) (zkI (fun x6 h7 => ?_)) zxo
    refine s_if_eq (pc := 21) (tgt := 55) dX2_areApart_21 (by decide) (fun _ => ?_) (fun _ => ?_)
    · exact s_sub (pc := 55) [0, 1] rfl (w_X2_areApart_55 a0 a1 h7)
    · refine s_aload_n (pc := 24) 2 dX2_areApart_24 rfl rfl ?_
      refine zS_ite (fun ht => ?_) (fun _ => ?_)
      · refine s_callF (pc := 25) (np := 0) (as := []) (rest := []) dX2_areApart_25 ht (q := (RX9, TX9, 2)) rfl (c_X9_next (by decide) a2 h7) ⟨_, _, _, q677⟩ rfl rfl q670 (by decide +kernel) q675 q673 rfl (by decide) (zkR (fun r76 h77 => ?_)) zxo
        refine s_cast (pc := 30) dX2_areApart_30 q836 zcs_FloatingDock_Ship ?_
        refine s_ast_n (pc := 33) (L2 := [(0, va_rf a0), (1, .int a1), (2, va_rf a2)]) [0, 1, 2] dX2_areApart_33 rfl (by decide) rfl rfl (zcB (j := 2) rfl (zcat_rf a2) rfl) ?_
        refine s_iload_n (pc := 34) 2 dX2_areApart_34 rfl rfl ?_
        refine s_aload_n (pc := 35) 0 dX2_areApart_35 rfl rfl ?_
        refine zS_ite (fun ht => ?_) (fun _ => zS_none)
        refine s_callV (pc := 36) (np := 0) (as := []) (rest := [.int a1]) dX2_areApart_36 ht (q := (RX6, TX6, 9)) rfl (c_X6_isInDock (by decide) r76 h77) rfl rfl q837 q367 q368 rfl (by simp [zcat_rf, zcat_i, zcat_l, zcat_f, zcat_d]) (zkI (fun x78 h79 => ?_)) zxo
        refine s_if_eq (pc := 39) (tgt := 49) dX2_areApart_39 (by decide) (fun _ => ?_) (fun _ => ?_)
        · refine s_iconst (pc := 49) (v := 0) dX2_areApart_49 (by decide) ?_
          exact s_sub (pc := 50) [1, 3] rfl (w_X2_areApart_50 (f_X2_areApart_15 n) ih a0 a2 0 a1 h79)
        · refine s_aload_n (pc := 42) 0 dX2_areApart_42 rfl rfl ?_
          refine s_gI (pc := 43) dX2_areApart_43 gf_X2_183 (fun x80 => ?_)
          refine s_goto (pc := 46) (tgt := 50) dX2_areApart_46 (by decide) ?_
          exact s_sub (pc := 50) [1, 3] rfl (w_X2_areApart_50 (f_X2_areApart_15 n) ih a0 a2 x80 a1 h79)
      refine zS_ite (fun ht => ?_) (fun _ => ?_)
      · refine s_callF (pc := 25) (np := 0) (as := []) (rest := []) dX2_areApart_25 ht (q := (RJ15, TJ15, 4)) rfl (c_J15_next (by decide) a2 h7) ⟨_, _, _, q788⟩ rfl rfl q670 (by decide +kernel) q786 q784 rfl (by decide) (zkR (fun r76 h77 => ?_)) zxo
        refine s_cast (pc := 30) dX2_areApart_30 q836 zcs_FloatingDock_Ship ?_
        refine s_ast_n (pc := 33) (L2 := [(0, va_rf a0), (1, .int a1), (2, va_rf a2)]) [0, 1, 2] dX2_areApart_33 rfl (by decide) rfl rfl (zcB (j := 2) rfl (zcat_rf a2) rfl) ?_
        refine s_iload_n (pc := 34) 2 dX2_areApart_34 rfl rfl ?_
        refine s_aload_n (pc := 35) 0 dX2_areApart_35 rfl rfl ?_
        refine zS_ite (fun ht => ?_) (fun _ => zS_none)
        refine s_callV (pc := 36) (np := 0) (as := []) (rest := [.int a1]) dX2_areApart_36 ht (q := (RX6, TX6, 9)) rfl (c_X6_isInDock (by decide) r76 h77) rfl rfl q837 q367 q368 rfl (by simp [zcat_rf, zcat_i, zcat_l, zcat_f, zcat_d]) (zkI (fun x81 h82 => ?_)) zxo
        refine s_if_eq (pc := 39) (tgt := 49) dX2_areApart_39 (by decide) (fun _ => ?_) (fun _ => ?_)
        · refine s_iconst (pc := 49) (v := 0) dX2_areApart_49 (by decide) ?_
          exact s_sub (pc := 50) [1, 3] rfl (w_X2_areApart_50 (f_X2_areApart_15 n) ih a0 a2 0 a1 h82)
        · refine s_aload_n (pc := 42) 0 dX2_areApart_42 rfl rfl ?_
          refine s_gI (pc := 43) dX2_areApart_43 gf_X2_183 (fun x83 => ?_)
          refine s_goto (pc := 46) (tgt := 50) dX2_areApart_46 (by decide) ?_
          exact s_sub (pc := 50) [1, 3] rfl (w_X2_areApart_50 (f_X2_areApart_15 n) ih a0 a2 x83 a1 h82)
      refine zS_ite (fun ht => ?_) (fun _ => ?_)
      · refine s_callF (pc := 25) (np := 0) (as := []) (rest := []) dX2_areApart_25 ht (q := (RJ17, TJ17, 5)) rfl (c_J17_next (by decide) a2 h7) ⟨_, _, _, q799⟩ rfl rfl q670 (by decide +kernel) q797 q795 rfl (by decide) (zkR (fun r76 h77 => ?_)) zxo
        refine s_cast (pc := 30) dX2_areApart_30 q836 zcs_FloatingDock_Ship ?_
        refine s_ast_n (pc := 33) (L2 := [(0, va_rf a0), (1, .int a1), (2, va_rf a2)]) [0, 1, 2] dX2_areApart_33 rfl (by decide) rfl rfl (zcB (j := 2) rfl (zcat_rf a2) rfl) ?_
        refine s_iload_n (pc := 34) 2 dX2_areApart_34 rfl rfl ?_
        refine s_aload_n (pc := 35) 0 dX2_areApart_35 rfl rfl ?_
        refine zS_ite (fun ht => ?_) (fun _ => zS_none)
        refine s_callV (pc := 36) (np := 0) (as := []) (rest := [.int a1]) dX2_areApart_36 ht (q := (RX6, TX6, 9)) rfl (c_X6_isInDock (by decide) r76 h77) rfl rfl q837 q367 q368 rfl (by simp [zcat_rf, zcat_i, zcat_l, zcat_f, zcat_d]) (zkI (fun x84 h85 => ?_)) zxo
        refine s_if_eq (pc := 39) (tgt := 49) dX2_areApart_39 (by decide) (fun _ => ?_) (fun _ => ?_)
        · refine s_iconst (pc := 49) (v := 0) dX2_areApart_49 (by decide) ?_
          exact s_sub (pc := 50) [1, 3] rfl (w_X2_areApart_50 (f_X2_areApart_15 n) ih a0 a2 0 a1 h85)
        · refine s_aload_n (pc := 42) 0 dX2_areApart_42 rfl rfl ?_
          refine s_gI (pc := 43) dX2_areApart_43 gf_X2_183 (fun x86 => ?_)
          refine s_goto (pc := 46) (tgt := 50) dX2_areApart_46 (by decide) ?_
          exact s_sub (pc := 50) [1, 3] rfl (w_X2_areApart_50 (f_X2_areApart_15 n) ih a0 a2 x86 a1 h85)
      refine zS_ite (fun ht => ?_) (fun _ => ?_)
      · refine s_callF (pc := 25) (np := 0) (as := []) (rest := []) dX2_areApart_25 ht (q := (RJ21, TJ21, 5)) rfl (c_J21_next (by decide) a2 h7) ⟨_, _, _, q812⟩ rfl rfl q670 (by decide +kernel) q810 q808 rfl (by decide) (zkR (fun r76 h77 => ?_)) zxo
        refine s_cast (pc := 30) dX2_areApart_30 q836 zcs_FloatingDock_Ship ?_
        refine s_ast_n (pc := 33) (L2 := [(0, va_rf a0), (1, .int a1), (2, va_rf a2)]) [0, 1, 2] dX2_areApart_33 rfl (by decide) rfl rfl (zcB (j := 2) rfl (zcat_rf a2) rfl) ?_
        refine s_iload_n (pc := 34) 2 dX2_areApart_34 rfl rfl ?_
        refine s_aload_n (pc := 35) 0 dX2_areApart_35 rfl rfl ?_
        refine zS_ite (fun ht => ?_) (fun _ => zS_none)
        refine s_callV (pc := 36) (np := 0) (as := []) (rest := [.int a1]) dX2_areApart_36 ht (q := (RX6, TX6, 9)) rfl (c_X6_isInDock (by decide) r76 h77) rfl rfl q837 q367 q368 rfl (by simp [zcat_rf, zcat_i, zcat_l, zcat_f, zcat_d]) (zkI (fun x87 h88 => ?_)) zxo
        refine s_if_eq (pc := 39) (tgt := 49) dX2_areApart_39 (by decide) (fun _ => ?_) (fun _ => ?_)
        · refine s_iconst (pc := 49) (v := 0) dX2_areApart_49 (by decide) ?_
          exact s_sub (pc := 50) [1, 3] rfl (w_X2_areApart_50 (f_X2_areApart_15 n) ih a0 a2 0 a1 h88)
        · refine s_aload_n (pc := 42) 0 dX2_areApart_42 rfl rfl ?_
          refine s_gI (pc := 43) dX2_areApart_43 gf_X2_183 (fun x89 => ?_)
          refine s_goto (pc := 46) (tgt := 50) dX2_areApart_46 (by decide) ?_
          exact s_sub (pc := 50) [1, 3] rfl (w_X2_areApart_50 (f_X2_areApart_15 n) ih a0 a2 x89 a1 h88)
      refine zS_ite (fun ht => ?_) (fun _ => zS_none)
      refine s_callF (pc := 25) (np := 0) (as := []) (rest := []) dX2_areApart_25 ht (q := (RJ22, TJ22, 5)) rfl (c_J22_next (by decide) a2 h7) ⟨_, _, _, q832⟩ rfl rfl q670 (by decide +kernel) q830 q828 rfl (by decide) (zkR (fun r76 h77 => ?_)) zxo
      refine s_cast (pc := 30) dX2_areApart_30 q836 zcs_FloatingDock_Ship ?_
      refine s_ast_n (pc := 33) (L2 := [(0, va_rf a0), (1, .int a1), (2, va_rf a2)]) [0, 1, 2] dX2_areApart_33 rfl (by decide) rfl rfl (zcB (j := 2) rfl (zcat_rf a2) rfl) ?_
      refine s_iload_n (pc := 34) 2 dX2_areApart_34 rfl rfl ?_
      refine s_aload_n (pc := 35) 0 dX2_areApart_35 rfl rfl ?_
      refine zS_ite (fun ht => ?_) (fun _ => zS_none)
      refine s_callV (pc := 36) (np := 0) (as := []) (rest := [.int a1]) dX2_areApart_36 ht (q := (RX6, TX6, 9)) rfl (c_X6_isInDock (by decide) r76 h77) rfl rfl q837 q367 q368 rfl (by simp [zcat_rf, zcat_i, zcat_l, zcat_f, zcat_d]) (zkI (fun x90 h91 => ?_)) zxo
      refine s_if_eq (pc := 39) (tgt := 49) dX2_areApart_39 (by decide) (fun _ => ?_) (fun _ => ?_)
      · refine s_iconst (pc := 49) (v := 0) dX2_areApart_49 (by decide) ?_
        exact s_sub (pc := 50) [1, 3] rfl (w_X2_areApart_50 (f_X2_areApart_15 n) ih a0 a2 0 a1 h91)
      · refine s_aload_n (pc := 42) 0 dX2_areApart_42 rfl rfl ?_
        refine s_gI (pc := 43) dX2_areApart_43 gf_X2_183 (fun x92 => ?_)
        refine s_goto (pc := 46) (tgt := 50) dX2_areApart_46 (by decide) ?_
        exact s_sub (pc := 50) [1, 3] rfl (w_X2_areApart_50 (f_X2_areApart_15 n) ih a0 a2 x92 a1 h91)
theorem w_X2_areApart (v0 : Option Nat) (h : zH) : zS D z yX2_areApart cX2_areApart 4 (some .boolean) [] 11 h 0 [(0, va_rf v0)] [] (f_X2_areApart v0 h) := by
  unfold f_X2_areApart
  refine s_iconst (pc := 0) (v := 0) dX2_areApart_0 (by decide) ?_
  refine s_ist_n (pc := 1) (L2 := [(0, va_rf v0)]) [0] dX2_areApart_1 rfl (by decide) rfl rfl (zcB (j := 0) rfl (zcat_rf v0) rfl) ?_
  refine s_aload_n (pc := 2) 1 dX2_areApart_2 rfl rfl ?_
  refine s_gR (pc := 3) dX2_areApart_3 gf_X2_12 (fun r1 => ?_)
  refine zS_ite (fun ht => ?_) (fun _ => zS_none)
  refine s_callV (pc := 6) (np := 0) (as := []) (rest := []) dX2_areApart_6 ht (q := (RJ2, TJ2, 12)) rfl (c_J2_values (by decide) r1 h) rfl rfl q413 q414 q415 rfl (by decide) (zkR (fun r2 h3 => ?_)) zxo
  refine zS_ite (fun ht => ?_) (fun _ => zS_none)
  refine s_callF (pc := 9) (np := 0) (as := []) (rest := []) dX2_areApart_9 ht (q := (RJ13, TJ13, 2)) rfl (c_J13_iterator (by decide) r2 h3) ⟨_, _, _, q615⟩ rfl rfl q436 (by decide +kernel) q613 q611 rfl (by decide) (zkR (fun r4 h5 => ?_)) zxo
  refine s_ast_n (pc := 14) (L2 := [(1, .int 0), (0, va_rf v0)]) [0, 1] dX2_areApart_14 rfl (by decide) rfl rfl (zcB (j := 0) rfl rfl rfl) ?_
  exact s_sub (pc := 15) [2, 1, 0] rfl (w_X2_areApart_15 zfuel v0 0 r4 h5)
theorem c_X2_areApart {d0 : Nat} (hd0 : 11 < d0) (v0 : Option Nat) (h : zH) : zCal D z d0 h yX2_areApart [va_rf v0] (f_X2_areApart v0 h) :=
  ⟨cX2_areApart, 4, (some .boolean), [], 11, (show lv_args 0 [va_rf v0] = [(0, va_rf v0)] by simp [lv_args, zcat_rf, zcat_i, zcat_l, zcat_f, zcat_d]) ▸ w_X2_areApart v0 h, (plainFor_of_name (by decide)), by simp [lg_sl, zcat_rf, zcat_i, zcat_l, zcat_f, zcat_d], q1944, q96, hd0, by decide, by decide⟩
theorem w_X2_isConsistent_80 (K42 : Option Nat → Int32 → Option Nat → zH → zO) (hK42 : ∀ (a0 : Option Nat) (a1 : Int32) (a2 : Option Nat) (h : zH), zS D z yX2_isConsistent cX2_isConsistent 4 (some .boolean) [] 12 h 42 [(0, va_rf a0), (1, .int a1), (2, va_rf a2)] [] (K42 a0 a1 a2 h)) (a0 : Option Nat) (a2 : Option Nat) (s0 : Int32) (s1 : Int32) (h : zH) : zS D z yX2_isConsistent cX2_isConsistent 4 (some .boolean) [] 12 h 80 [(0, va_rf a0), (2, va_rf a2)] [.int s0, .int s1] (f_X2_isConsistent_80 K42 a0 a2 s0 s1 h) := by
  unfold f_X2_isConsistent_80
  refine s_iand (pc := 80) dX2_isConsistent_80 ?_
  refine s_nm (pc := 81) Value.int (fun x124 => ?_)
  refine s_ist_n (pc := 81) (L2 := [(0, va_rf a0), (2, va_rf a2)]) [0, 1] dX2_isConsistent_81 rfl (by decide) rfl rfl (zcB (j := 0) rfl (zcat_rf a0) rfl) ?_
  refine s_goto (pc := 82) (tgt := 42) dX2_isConsistent_82 (by decide) ?_
  exact s_sub (pc := 42) [1, 0, 2] rfl (hK42 a0 x124 a2 h)
theorem w_X2_isConsistent_118 (K90 : Option Nat → Int32 → Int32 → zH → zO) (hK90 : ∀ (a0 : Option Nat) (a1 : Int32) (a2 : Int32) (h : zH), zS D z yX2_isConsistent cX2_isConsistent 4 (some .boolean) [] 12 h 90 [(0, va_rf a0), (1, .int a1), (2, .int a2)] [] (K90 a0 a1 a2 h)) (a0 : Option Nat) (a2 : Int32) (s0 : Int32) (s1 : Int32) (h : zH) : zS D z yX2_isConsistent cX2_isConsistent 4 (some .boolean) [] 12 h 118 [(0, va_rf a0), (2, .int a2)] [.int s0, .int s1] (f_X2_isConsistent_118 K90 a0 a2 s0 s1 h) := by
  unfold f_X2_isConsistent_118
  refine s_iand (pc := 118) dX2_isConsistent_118 ?_
  refine s_nm (pc := 119) Value.int (fun x131 => ?_)
  refine s_ist_n (pc := 119) (L2 := [(0, va_rf a0), (2, .int a2)]) [0, 1] dX2_isConsistent_119 rfl (by decide) rfl rfl (zcB (j := 0) rfl (zcat_rf a0) rfl) ?_
  refine s_inc (pc := 120) (v := 1) (L2 := [(1, .int x131), (0, va_rf a0)]) 2 [0, 1] dX2_isConsistent_120 rfl (by decide) (by decide) rfl rfl (zcB (j := 0) rfl rfl rfl) (fun x132 => ?_)
  refine s_goto (pc := 123) (tgt := 90) dX2_isConsistent_123 (by decide) ?_
  exact s_sub (pc := 90) [2, 1, 0] rfl (hK90 a0 x131 x132 h)
theorem w_X2_isConsistent_90 : ∀ (n : Nat) (a0 : Option Nat) (a1 : Int32) (a2 : Int32) (h : zH), zS D z yX2_isConsistent cX2_isConsistent 4 (some .boolean) [] 12 h 90 [(0, va_rf a0), (1, .int a1), (2, .int a2)] [] (f_X2_isConsistent_90 n a0 a1 a2 h) := by
  intro n
  induction n with
  | zero => intros; exact zS_none
  | succ n ih =>
    intro a0 a1 a2 h
    rw [f_X2_isConsistent_90.eq_2]
    refine s_iload_n (pc := 90) 2 dX2_isConsistent_90 rfl rfl ?_
    refine s_aload_n (pc := 91) 0 dX2_isConsistent_91 rfl rfl ?_
    refine s_gI (pc := 92) dX2_isConsistent_92 gf_X2_29 (fun x126 => ?_)
    refine s_bipush (pc := 95) (v := 24) dX2_isConsistent_95 (by decide) ?_
    refine s_iadd (pc := 97) dX2_isConsistent_97 ?_
    refine s_icmp_gt (pc := 98) (tgt := 126) dX2_isConsistent_98 (by decide) (fun _ => ?_) (fun _ => ?_)
    · refine s_iload_n (pc := 126) 1 dX2_isConsistent_126 rfl rfl ?_
      exact s_nret (pc := 127) dX2_isConsistent_127 rfl
    · refine s_iload_n (pc := 101) 1 dX2_isConsistent_101 rfl rfl ?_
      refine s_iload_n (pc := 102) 2 dX2_isConsistent_102 rfl rfl ?_
      refine s_callSN (pc := 103) (np := 1) (as := [.int a2]) (rest := [.int a1]) dX2_isConsistent_103 (c_X1_seaLevelOf (by decide) a2 h) ⟨_, _, _, q1976⟩ rfl rfl q1974 q1975 rfl (by simp [zcat_rf, zcat_i, zcat_l, zcat_f, zcat_d]) (zkI (fun x127 h128 => ?_)) zxo
      refine s_iload_n (pc := 106) 2 dX2_isConsistent_106 rfl rfl ?_
      refine s_callSN (pc := 107) (np := 1) (as := [.int a2]) (rest := [.int x127, .int a1]) dX2_isConsistent_107 (c_X1_seaLevelSteps (by decide) a2 h128) ⟨_, _, _, q1979⟩ rfl rfl q1977 q1978 rfl (by simp [zcat_rf, zcat_i, zcat_l, zcat_f, zcat_d]) (zkI (fun x129 h130 => ?_)) zxo
      refine s_icmp_ne (pc := 110) (tgt := 117) dX2_isConsistent_110 (by decide) (fun _ => ?_) (fun _ => ?_)
      · refine s_iconst (pc := 117) (v := 0) dX2_isConsistent_117 (by decide) ?_
        exact s_sub (pc := 118) [0, 2] rfl (w_X2_isConsistent_118 (f_X2_isConsistent_90 n) ih a0 a2 0 a1 h130)
      · refine s_iconst (pc := 113) (v := 1) dX2_isConsistent_113 (by decide) ?_
        refine s_goto (pc := 114) (tgt := 118) dX2_isConsistent_114 (by decide) ?_
        exact s_sub (pc := 118) [0, 2] rfl (w_X2_isConsistent_118 (f_X2_isConsistent_90 n) ih a0 a2 1 a1 h130)
theorem w_X2_isConsistent_85 (a0 : Option Nat) (a1 : Int32) (h : zH) : zS D z yX2_isConsistent cX2_isConsistent 4 (some .boolean) [] 12 h 85 [(0, va_rf a0), (1, .int a1)] [] (f_X2_isConsistent_85 a0 a1 h) := by
  unfold f_X2_isConsistent_85
  refine s_aload_n (pc := 85) 0 dX2_isConsistent_85 rfl rfl ?_
  refine s_gI (pc := 86) dX2_isConsistent_86 gf_X2_29 (fun x125 => ?_)
  refine s_ist_n (pc := 89) (L2 := [(0, va_rf a0), (1, .int a1)]) [0, 1] dX2_isConsistent_89 rfl (by decide) rfl rfl (zcB (j := 1) rfl rfl rfl) ?_
  exact s_sub (pc := 90) [1, 2, 0] rfl (w_X2_isConsistent_90 zfuel a0 a1 x125 h)
theorem w_X2_isConsistent_42 : ∀ (n : Nat) (a0 : Option Nat) (a1 : Int32) (a2 : Option Nat) (h : zH), zS D z yX2_isConsistent cX2_isConsistent 4 (some .boolean) [] 12 h 42 [(0, va_rf a0), (1, .int a1), (2, va_rf a2)] [] (f_X2_isConsistent_42 n a0 a1 a2 h) := by
  intro n
  induction n with
  | zero => intros; exact zS_none
  | succ n ih =>
    intro a0 a1 a2 h
    rw [f_X2_isConsistent_42.eq_2]
    refine s_aload_n (pc := 42) 2 dX2_isConsistent_42 rfl rfl ?_
    refine zS_ite (fun ht => ?_) (fun _ => ?_)
    · refine s_callF (pc := 43) (np := 0) (as := []) (rest := []) dX2_isConsistent_43 ht (q := (RX9, TX9, 2)) rfl (c_X9_hasNext (by decide) a2 h) ⟨_, _, _, q637⟩ rfl rfl q629 (by decide +kernel) q635 q633 rfl (by decide) (zkI (fun x12 h13 => ?_)) zxo
      refine s_if_eq (pc := 48) (tgt := 85) dX2_isConsistent_48 (by decide) (fun _ => ?_) (fun _ => ?_)
      · exact s_sub (pc := 85) [0, 1] rfl (w_X2_isConsistent_85 a0 a1 h13)
      · refine s_aload_n (pc := 51) 2 dX2_isConsistent_51 rfl rfl ?_
        refine zS_ite (fun ht => ?_) (fun _ => ?_)
        · refine s_callF (pc := 52) (np := 0) (as := []) (rest := []) dX2_isConsistent_52 ht (q := (RX9, TX9, 2)) rfl (c_X9_next (by decide) a2 h13) ⟨_, _, _, q677⟩ rfl rfl q670 (by decide +kernel) q675 q673 rfl (by decide) (zkR (fun r14 h15 => ?_)) zxo
          refine s_cast (pc := 57) dX2_isConsistent_57 q836 zcs_FloatingDock_Ship ?_
          refine s_ast_n (pc := 60) (L2 := [(0, va_rf a0), (1, .int a1), (2, va_rf a2)]) [0, 1, 2] dX2_isConsistent_60 rfl (by decide) rfl rfl (zcB (j := 2) rfl (zcat_rf a2) rfl) ?_
          refine s_iload_n (pc := 61) 2 dX2_isConsistent_61 rfl rfl ?_
          refine s_aload_n (pc := 62) 1 dX2_isConsistent_62 rfl rfl ?_
          refine s_aload_n (pc := 63) 0 dX2_isConsistent_63 rfl rfl ?_
          refine zS_ite (fun ht => ?_) (fun _ => zS_none)
          refine s_callV (pc := 64) (np := 1) (as := [va_rf r14]) (rest := [.int a1]) dX2_isConsistent_64 ht (q := (RX2, TX2, 10)) rfl (c_X2_blocksBeneath (by decide) a0 r14 h15) rfl rfl q1946 q1947 q1948 rfl (by simp [zcat_rf, zcat_i, zcat_l, zcat_f, zcat_d]) (zkI (fun x16 h17 => ?_)) zxo
          refine s_aload_n (pc := 67) 1 dX2_isConsistent_67 rfl rfl ?_
          refine s_aload_n (pc := 68) 0 dX2_isConsistent_68 rfl rfl ?_
          refine zS_ite (fun ht => ?_) (fun _ => zS_none)
          refine s_callV (pc := 69) (np := 1) (as := [va_rf r14]) (rest := [.int x16, .int a1]) dX2_isConsistent_69 ht (q := (RX2, TX2, 10)) rfl (c_X2_blocksBeneathByMetres (by decide) a0 r14 h17) rfl rfl q1951 q1952 q1953 rfl (by simp [zcat_rf, zcat_i, zcat_l, zcat_f, zcat_d]) (zkI (fun x18 h19 => ?_)) zxo
          refine s_icmp_ne (pc := 72) (tgt := 79) dX2_isConsistent_72 (by decide) (fun _ => ?_) (fun _ => ?_)
          · refine s_iconst (pc := 79) (v := 0) dX2_isConsistent_79 (by decide) ?_
            exact s_sub (pc := 80) [1, 3] rfl (w_X2_isConsistent_80 (f_X2_isConsistent_42 n) ih a0 a2 0 a1 h19)
          · refine s_iconst (pc := 75) (v := 1) dX2_isConsistent_75 (by decide) ?_
            refine s_goto (pc := 76) (tgt := 80) dX2_isConsistent_76 (by decide) ?_
            exact s_sub (pc := 80) [1, 3] rfl (w_X2_isConsistent_80 (f_X2_isConsistent_42 n) ih a0 a2 1 a1 h19)
        refine zS_ite (fun ht => ?_) (fun _ => ?_)
        · refine s_callF (pc := 52) (np := 0) (as := []) (rest := []) dX2_isConsistent_52 ht (q := (RJ15, TJ15, 4)) rfl (c_J15_next (by decide) a2 h13) ⟨_, _, _, q788⟩ rfl rfl q670 (by decide +kernel) q786 q784 rfl (by decide) (zkR (fun r14 h15 => ?_)) zxo
          refine s_cast (pc := 57) dX2_isConsistent_57 q836 zcs_FloatingDock_Ship ?_
          refine s_ast_n (pc := 60) (L2 := [(0, va_rf a0), (1, .int a1), (2, va_rf a2)]) [0, 1, 2] dX2_isConsistent_60 rfl (by decide) rfl rfl (zcB (j := 2) rfl (zcat_rf a2) rfl) ?_
          refine s_iload_n (pc := 61) 2 dX2_isConsistent_61 rfl rfl ?_
          refine s_aload_n (pc := 62) 1 dX2_isConsistent_62 rfl rfl ?_
          refine s_aload_n (pc := 63) 0 dX2_isConsistent_63 rfl rfl ?_
          refine zS_ite (fun ht => ?_) (fun _ => zS_none)
          refine s_callV (pc := 64) (np := 1) (as := [va_rf r14]) (rest := [.int a1]) dX2_isConsistent_64 ht (q := (RX2, TX2, 10)) rfl (c_X2_blocksBeneath (by decide) a0 r14 h15) rfl rfl q1946 q1947 q1948 rfl (by simp [zcat_rf, zcat_i, zcat_l, zcat_f, zcat_d]) (zkI (fun x20 h21 => ?_)) zxo
          refine s_aload_n (pc := 67) 1 dX2_isConsistent_67 rfl rfl ?_
          refine s_aload_n (pc := 68) 0 dX2_isConsistent_68 rfl rfl ?_
          refine zS_ite (fun ht => ?_) (fun _ => zS_none)
          refine s_callV (pc := 69) (np := 1) (as := [va_rf r14]) (rest := [.int x20, .int a1]) dX2_isConsistent_69 ht (q := (RX2, TX2, 10)) rfl (c_X2_blocksBeneathByMetres (by decide) a0 r14 h21) rfl rfl q1951 q1952 q1953 rfl (by simp [zcat_rf, zcat_i, zcat_l, zcat_f, zcat_d]) (zkI (fun x22 h23 => ?_)) zxo
          refine s_icmp_ne (pc := 72) (tgt := 79) dX2_isConsistent_72 (by decide) (fun _ => ?_) (fun _ => ?_)
          · refine s_iconst (pc := 79) (v := 0) dX2_isConsistent_79 (by decide) ?_
            exact s_sub (pc := 80) [1, 3] rfl (w_X2_isConsistent_80 (f_X2_isConsistent_42 n) ih a0 a2 0 a1 h23)
          · refine s_iconst (pc := 75) (v := 1) dX2_isConsistent_75 (by decide) ?_
            refine s_goto (pc := 76) (tgt := 80) dX2_isConsistent_76 (by decide) ?_
            exact s_sub (pc := 80) [1, 3] rfl (w_X2_isConsistent_80 (f_X2_isConsistent_42 n) ih a0 a2 1 a1 h23)
        refine zS_ite (fun ht => ?_) (fun _ => ?_)
        · refine s_callF (pc := 52) (np := 0) (as := []) (rest := []) dX2_isConsistent_52 ht (q := (RJ17, TJ17, 5)) rfl (c_J17_next (by decide) a2 h13) ⟨_, _, _, q799⟩ rfl rfl q670 (by decide +kernel) q797 q795 rfl (by decide) (zkR (fun r14 h15 => ?_)) zxo
          refine s_cast (pc := 57) dX2_isConsistent_57 q836 zcs_FloatingDock_Ship ?_
          refine s_ast_n (pc := 60) (L2 := [(0, va_rf a0), (1, .int a1), (2, va_rf a2)]) [0, 1, 2] dX2_isConsistent_60 rfl (by decide) rfl rfl (zcB (j := 2) rfl (zcat_rf a2) rfl) ?_
          refine s_iload_n (pc := 61) 2 dX2_isConsistent_61 rfl rfl ?_
          refine s_aload_n (pc := 62) 1 dX2_isConsistent_62 rfl rfl ?_
          refine s_aload_n (pc := 63) 0 dX2_isConsistent_63 rfl rfl ?_
          refine zS_ite (fun ht => ?_) (fun _ => zS_none)
          refine s_callV (pc := 64) (np := 1) (as := [va_rf r14]) (rest := [.int a1]) dX2_isConsistent_64 ht (q := (RX2, TX2, 10)) rfl (c_X2_blocksBeneath (by decide) a0 r14 h15) rfl rfl q1946 q1947 q1948 rfl (by simp [zcat_rf, zcat_i, zcat_l, zcat_f, zcat_d]) (zkI (fun x24 h25 => ?_)) zxo
          refine s_aload_n (pc := 67) 1 dX2_isConsistent_67 rfl rfl ?_
          refine s_aload_n (pc := 68) 0 dX2_isConsistent_68 rfl rfl ?_
          refine zS_ite (fun ht => ?_) (fun _ => zS_none)
          refine s_callV (pc := 69) (np := 1) (as := [va_rf r14]) (rest := [.int x24, .int a1]) dX2_isConsistent_69 ht (q := (RX2, TX2, 10)) rfl (c_X2_blocksBeneathByMetres (by decide) a0 r14 h25) rfl rfl q1951 q1952 q1953 rfl (by simp [zcat_rf, zcat_i, zcat_l, zcat_f, zcat_d]) (zkI (fun x26 h27 => ?_)) zxo
          refine s_icmp_ne (pc := 72) (tgt := 79) dX2_isConsistent_72 (by decide) (fun _ => ?_) (fun _ => ?_)
          · refine s_iconst (pc := 79) (v := 0) dX2_isConsistent_79 (by decide) ?_
            exact s_sub (pc := 80) [1, 3] rfl (w_X2_isConsistent_80 (f_X2_isConsistent_42 n) ih a0 a2 0 a1 h27)
          · refine s_iconst (pc := 75) (v := 1) dX2_isConsistent_75 (by decide) ?_
            refine s_goto (pc := 76) (tgt := 80) dX2_isConsistent_76 (by decide) ?_
            exact s_sub (pc := 80) [1, 3] rfl (w_X2_isConsistent_80 (f_X2_isConsistent_42 n) ih a0 a2 1 a1 h27)
        refine zS_ite (fun ht => ?_) (fun _ => ?_)
        · refine s_callF (pc := 52) (np := 0) (as := []) (rest := []) dX2_isConsistent_52 ht (q := (RJ21, TJ21, 5)) rfl (c_J21_next (by decide) a2 h13) ⟨_, _, _, q812⟩ rfl rfl q670 (by decide +kernel) q810 q808 rfl (by decide) (zkR (fun r14 h15 => ?_)) zxo
          refine s_cast (pc := 57) dX2_isConsistent_57 q836 zcs_FloatingDock_Ship ?_
          refine s_ast_n (pc := 60) (L2 := [(0, va_rf a0), (1, .int a1), (2, va_rf a2)]) [0, 1, 2] dX2_isConsistent_60 rfl (by decide) rfl rfl (zcB (j := 2) rfl (zcat_rf a2) rfl) ?_
          refine s_iload_n (pc := 61) 2 dX2_isConsistent_61 rfl rfl ?_
          refine s_aload_n (pc := 62) 1 dX2_isConsistent_62 rfl rfl ?_
          refine s_aload_n (pc := 63) 0 dX2_isConsistent_63 rfl rfl ?_
          refine zS_ite (fun ht => ?_) (fun _ => zS_none)
          refine s_callV (pc := 64) (np := 1) (as := [va_rf r14]) (rest := [.int a1]) dX2_isConsistent_64 ht (q := (RX2, TX2, 10)) rfl (c_X2_blocksBeneath (by decide) a0 r14 h15) rfl rfl q1946 q1947 q1948 rfl (by simp [zcat_rf, zcat_i, zcat_l, zcat_f, zcat_d]) (zkI (fun x28 h29 => ?_)) zxo
          refine s_aload_n (pc := 67) 1 dX2_isConsistent_67 rfl rfl ?_
          refine s_aload_n (pc := 68) 0 dX2_isConsistent_68 rfl rfl ?_
          refine zS_ite (fun ht => ?_) (fun _ => zS_none)
          refine s_callV (pc := 69) (np := 1) (as := [va_rf r14]) (rest := [.int x28, .int a1]) dX2_isConsistent_69 ht (q := (RX2, TX2, 10)) rfl (c_X2_blocksBeneathByMetres (by decide) a0 r14 h29) rfl rfl q1951 q1952 q1953 rfl (by simp [zcat_rf, zcat_i, zcat_l, zcat_f, zcat_d]) (zkI (fun x30 h31 => ?_)) zxo
          refine s_icmp_ne (pc := 72) (tgt := 79) dX2_isConsistent_72 (by decide) (fun _ => ?_) (fun _ => ?_)
          · refine s_iconst (pc := 79) (v := 0) dX2_isConsistent_79 (by decide) ?_
            exact s_sub (pc := 80) [1, 3] rfl (w_X2_isConsistent_80 (f_X2_isConsistent_42 n) ih a0 a2 0 a1 h31)
          · refine s_iconst (pc := 75) (v := 1) dX2_isConsistent_75 (by decide) ?_
            refine s_goto (pc := 76) (tgt := 80) dX2_isConsistent_76 (by decide) ?_
            exact s_sub (pc := 80) [1, 3] rfl (w_X2_isConsistent_80 (f_X2_isConsistent_42 n) ih a0 a2 1 a1 h31)
        refine zS_ite (fun ht => ?_) (fun _ => zS_none)
        refine s_callF (pc := 52) (np := 0) (as := []) (rest := []) dX2_isConsistent_52 ht (q := (RJ22, TJ22, 5)) rfl (c_J22_next (by decide) a2 h13) ⟨_, _, _, q832⟩ rfl rfl q670 (by decide +kernel) q830 q828 rfl (by decide) (zkR (fun r14 h15 => ?_)) zxo
        refine s_cast (pc := 57) dX2_isConsistent_57 q836 zcs_FloatingDock_Ship ?_
        refine s_ast_n (pc := 60) (L2 := [(0, va_rf a0), (1, .int a1), (2, va_rf a2)]) [0, 1, 2] dX2_isConsistent_60 rfl (by decide) rfl rfl (zcB (j := 2) rfl (zcat_rf a2) rfl) ?_
        refine s_iload_n (pc := 61) 2 dX2_isConsistent_61 rfl rfl ?_
        refine s_aload_n (pc := 62) 1 dX2_isConsistent_62 rfl rfl ?_
        refine s_aload_n (pc := 63) 0 dX2_isConsistent_63 rfl rfl ?_
        refine zS_ite (fun ht => ?_) (fun _ => zS_none)
        refine s_callV (pc := 64) (np := 1) (as := [va_rf r14]) (rest := [.int a1]) dX2_isConsistent_64 ht (q := (RX2, TX2, 10)) rfl (c_X2_blocksBeneath (by decide) a0 r14 h15) rfl rfl q1946 q1947 q1948 rfl (by simp [zcat_rf, zcat_i, zcat_l, zcat_f, zcat_d]) (zkI (fun x32 h33 => ?_)) zxo
        refine s_aload_n (pc := 67) 1 dX2_isConsistent_67 rfl rfl ?_
        refine s_aload_n (pc := 68) 0 dX2_isConsistent_68 rfl rfl ?_
        refine zS_ite (fun ht => ?_) (fun _ => zS_none)
        refine s_callV (pc := 69) (np := 1) (as := [va_rf r14]) (rest := [.int x32, .int a1]) dX2_isConsistent_69 ht (q := (RX2, TX2, 10)) rfl (c_X2_blocksBeneathByMetres (by decide) a0 r14 h33) rfl rfl q1951 q1952 q1953 rfl (by simp [zcat_rf, zcat_i, zcat_l, zcat_f, zcat_d]) (zkI (fun x34 h35 => ?_)) zxo
        refine s_icmp_ne (pc := 72) (tgt := 79) dX2_isConsistent_72 (by decide) (fun _ => ?_) (fun _ => ?_)
        · refine s_iconst (pc := 79) (v := 0) dX2_isConsistent_79 (by decide) ?_
          exact s_sub (pc := 80) [1, 3] rfl (w_X2_isConsistent_80 (f_X2_isConsistent_42 n) ih a0 a2 0 a1 h35)
        · refine s_iconst (pc := 75) (v := 1) dX2_isConsistent_75 (by decide) ?_
          refine s_goto (pc := 76) (tgt := 80) dX2_isConsistent_76 (by decide) ?_
          exact s_sub (pc := 80) [1, 3] rfl (w_X2_isConsistent_80 (f_X2_isConsistent_42 n) ih a0 a2 1 a1 h35)
    refine zS_ite (fun ht => ?_) (fun _ => ?_)
    · refine s_callF (pc := 43) (np := 0) (as := []) (rest := []) dX2_isConsistent_43 ht (q := (RJ15, TJ15, 4)) rfl (c_J15_hasNext (by decide) a2 h) ⟨_, _, _, q653⟩ rfl rfl q629 (by decide +kernel) q651 q649 rfl (by decide) (zkI (fun x12 h13 => ?_)) zxo
      refine s_if_eq (pc := 48) (tgt := 85) dX2_isConsistent_48 (by decide) (fun _ => ?_) (fun _ => ?_)
      · exact s_sub (pc := 85) [0, 1] rfl (w_X2_isConsistent_85 a0 a1 h13)
      · refine s_aload_n (pc := 51) 2 dX2_isConsistent_51 rfl rfl ?_
        refine zS_ite (fun ht => ?_) (fun _ => ?_)
        · refine s_callF (pc := 52) (np := 0) (as := []) (rest := []) dX2_isConsistent_52 ht (q := (RX9, TX9, 2)) rfl (c_X9_next (by decide) a2 h13) ⟨_, _, _, q677⟩ rfl rfl q670 (by decide +kernel) q675 q673 rfl (by decide) (zkR (fun r36 h37 => ?_)) zxo
          refine s_cast (pc := 57) dX2_isConsistent_57 q836 zcs_FloatingDock_Ship ?_
          refine s_ast_n (pc := 60) (L2 := [(0, va_rf a0), (1, .int a1), (2, va_rf a2)]) [0, 1, 2] dX2_isConsistent_60 rfl (by decide) rfl rfl (zcB (j := 2) rfl (zcat_rf a2) rfl) ?_
          refine s_iload_n (pc := 61) 2 dX2_isConsistent_61 rfl rfl ?_
          refine s_aload_n (pc := 62) 1 dX2_isConsistent_62 rfl rfl ?_
          refine s_aload_n (pc := 63) 0 dX2_isConsistent_63 rfl rfl ?_
          refine zS_ite (fun ht => ?_) (fun _ => zS_none)
          refine s_callV (pc := 64) (np := 1) (as := [va_rf r36]) (rest := [.int a1]) dX2_isConsistent_64 ht (q := (RX2, TX2, 10)) rfl (c_X2_blocksBeneath (by decide) a0 r36 h37) rfl rfl q1946 q1947 q1948 rfl (by simp [zcat_rf, zcat_i, zcat_l, zcat_f, zcat_d]) (zkI (fun x38 h39 => ?_)) zxo
          refine s_aload_n (pc := 67) 1 dX2_isConsistent_67 rfl rfl ?_
          refine s_aload_n (pc := 68) 0 dX2_isConsistent_68 rfl rfl ?_
          refine zS_ite (fun ht => ?_) (fun _ => zS_none)
          refine s_callV (pc := 69) (np := 1) (as := [va_rf r36]) (rest := [.int x38, .int a1]) dX2_isConsistent_69 ht (q := (RX2, TX2, 10)) rfl (c_X2_blocksBeneathByMetres (by decide) a0 r36 h39) rfl rfl q1951 q1952 q1953 rfl (by simp [zcat_rf, zcat_i, zcat_l, zcat_f, zcat_d]) (zkI (fun x40 h41 => ?_)) zxo
          refine s_icmp_ne (pc := 72) (tgt := 79) dX2_isConsistent_72 (by decide) (fun _ => ?_) (fun _ => ?_)
          · refine s_iconst (pc := 79) (v := 0) dX2_isConsistent_79 (by decide) ?_
            exact s_sub (pc := 80) [1, 3] rfl (w_X2_isConsistent_80 (f_X2_isConsistent_42 n) ih a0 a2 0 a1 h41)
          · refine s_iconst (pc := 75) (v := 1) dX2_isConsistent_75 (by decide) ?_
            refine s_goto (pc := 76) (tgt := 80) dX2_isConsistent_76 (by decide) ?_
            exact s_sub (pc := 80) [1, 3] rfl (w_X2_isConsistent_80 (f_X2_isConsistent_42 n) ih a0 a2 1 a1 h41)
        refine zS_ite (fun ht => ?_) (fun _ => ?_)
        · refine s_callF (pc := 52) (np := 0) (as := []) (rest := []) dX2_isConsistent_52 ht (q := (RJ15, TJ15, 4)) rfl (c_J15_next (by decide) a2 h13) ⟨_, _, _, q788⟩ rfl rfl q670 (by decide +kernel) q786 q784 rfl (by decide) (zkR (fun r36 h37 => ?_)) zxo
          refine s_cast (pc := 57) dX2_isConsistent_57 q836 zcs_FloatingDock_Ship ?_
          refine s_ast_n (pc := 60) (L2 := [(0, va_rf a0), (1, .int a1), (2, va_rf a2)]) [0, 1, 2] dX2_isConsistent_60 rfl (by decide) rfl rfl (zcB (j := 2) rfl (zcat_rf a2) rfl) ?_
          refine s_iload_n (pc := 61) 2 dX2_isConsistent_61 rfl rfl ?_
          refine s_aload_n (pc := 62) 1 dX2_isConsistent_62 rfl rfl ?_
          refine s_aload_n (pc := 63) 0 dX2_isConsistent_63 rfl rfl ?_
          refine zS_ite (fun ht => ?_) (fun _ => zS_none)
          refine s_callV (pc := 64) (np := 1) (as := [va_rf r36]) (rest := [.int a1]) dX2_isConsistent_64 ht (q := (RX2, TX2, 10)) rfl (c_X2_blocksBeneath (by decide) a0 r36 h37) rfl rfl q1946 q1947 q1948 rfl (by simp [zcat_rf, zcat_i, zcat_l, zcat_f, zcat_d]) (zkI (fun x42 h43 => ?_)) zxo
          refine s_aload_n (pc := 67) 1 dX2_isConsistent_67 rfl rfl ?_
          refine s_aload_n (pc := 68) 0 dX2_isConsistent_68 rfl rfl ?_
          refine zS_ite (fun ht => ?_) (fun _ => zS_none)
          refine s_callV (pc := 69) (np := 1) (as := [va_rf r36]) (rest := [.int x42, .int a1]) dX2_isConsistent_69 ht (q := (RX2, TX2, 10)) rfl (c_X2_blocksBeneathByMetres (by decide) a0 r36 h43) rfl rfl q1951 q1952 q1953 rfl (by simp [zcat_rf, zcat_i, zcat_l, zcat_f, zcat_d]) (zkI (fun x44 h45 => ?_)) zxo
          refine s_icmp_ne (pc := 72) (tgt := 79) dX2_isConsistent_72 (by decide) (fun _ => ?_) (fun _ => ?_)
          · refine s_iconst (pc := 79) (v := 0) dX2_isConsistent_79 (by decide) ?_
            exact s_sub (pc := 80) [1, 3] rfl (w_X2_isConsistent_80 (f_X2_isConsistent_42 n) ih a0 a2 0 a1 h45)
          · refine s_iconst (pc := 75) (v := 1) dX2_isConsistent_75 (by decide) ?_
            refine s_goto (pc := 76) (tgt := 80) dX2_isConsistent_76 (by decide) ?_
            exact s_sub (pc := 80) [1, 3] rfl (w_X2_isConsistent_80 (f_X2_isConsistent_42 n) ih a0 a2 1 a1 h45)
        refine zS_ite (fun ht => ?_) (fun _ => ?_)
        · refine s_callF (pc := 52) (np := 0) (as := []) (rest := []) dX2_isConsistent_52 ht (q := (RJ17, TJ17, 5)) rfl (c_J17_next (by decide) a2 h13) ⟨_, _, _, q799⟩ rfl rfl q670 (by decide +kernel) q797 q795 rfl (by decide) (zkR (fun r36 h37 => ?_)) zxo
          refine s_cast (pc := 57) dX2_isConsistent_57 q836 zcs_FloatingDock_Ship ?_
          refine s_ast_n (pc := 60) (L2 := [(0, va_rf a0), (1, .int a1), (2, va_rf a2)]) [0, 1, 2] dX2_isConsistent_60 rfl (by decide) rfl rfl (zcB (j := 2) rfl (zcat_rf a2) rfl) ?_
          refine s_iload_n (pc := 61) 2 dX2_isConsistent_61 rfl rfl ?_
          refine s_aload_n (pc := 62) 1 dX2_isConsistent_62 rfl rfl ?_
          refine s_aload_n (pc := 63) 0 dX2_isConsistent_63 rfl rfl ?_
          refine zS_ite (fun ht => ?_) (fun _ => zS_none)
          refine s_callV (pc := 64) (np := 1) (as := [va_rf r36]) (rest := [.int a1]) dX2_isConsistent_64 ht (q := (RX2, TX2, 10)) rfl (c_X2_blocksBeneath (by decide) a0 r36 h37) rfl rfl q1946 q1947 q1948 rfl (by simp [zcat_rf, zcat_i, zcat_l, zcat_f, zcat_d]) (zkI (fun x46 h47 => ?_)) zxo
          refine s_aload_n (pc := 67) 1 dX2_isConsistent_67 rfl rfl ?_
          refine s_aload_n (pc := 68) 0 dX2_isConsistent_68 rfl rfl ?_
          refine zS_ite (fun ht => ?_) (fun _ => zS_none)
          refine s_callV (pc := 69) (np := 1) (as := [va_rf r36]) (rest := [.int x46, .int a1]) dX2_isConsistent_69 ht (q := (RX2, TX2, 10)) rfl (c_X2_blocksBeneathByMetres (by decide) a0 r36 h47) rfl rfl q1951 q1952 q1953 rfl (by simp [zcat_rf, zcat_i, zcat_l, zcat_f, zcat_d]) (zkI (fun x48 h49 => ?_)) zxo
          refine s_icmp_ne (pc := 72) (tgt := 79) dX2_isConsistent_72 (by decide) (fun _ => ?_) (fun _ => ?_)
          · refine s_iconst (pc := 79) (v := 0) dX2_isConsistent_79 (by decide) ?_
            exact s_sub (pc := 80) [1, 3] rfl (w_X2_isConsistent_80 (f_X2_isConsistent_42 n) ih a0 a2 0 a1 h49)
          · refine s_iconst (pc := 75) (v := 1) dX2_isConsistent_75 (by decide) ?_
            refine s_goto (pc := 76) (tgt := 80) dX2_isConsistent_76 (by decide) ?_
            exact s_sub (pc := 80) [1, 3] rfl (w_X2_isConsistent_80 (f_X2_isConsistent_42 n) ih a0 a2 1 a1 h49)
        refine zS_ite (fun ht => ?_) (fun _ => ?_)
        · refine s_callF (pc := 52) (np := 0) (as := []) (rest := []) dX2_isConsistent_52 ht (q := (RJ21, TJ21, 5)) rfl (c_J21_next (by decide) a2 h13) ⟨_, _, _, q812⟩ rfl rfl q670 (by decide +kernel) q810 q808 rfl (by decide) (zkR (fun r36 h37 => ?_)) zxo
          refine s_cast (pc := 57) dX2_isConsistent_57 q836 zcs_FloatingDock_Ship ?_
          refine s_ast_n (pc := 60) (L2 := [(0, va_rf a0), (1, .int a1), (2, va_rf a2)]) [0, 1, 2] dX2_isConsistent_60 rfl (by decide) rfl rfl (zcB (j := 2) rfl (zcat_rf a2) rfl) ?_
          refine s_iload_n (pc := 61) 2 dX2_isConsistent_61 rfl rfl ?_
          refine s_aload_n (pc := 62) 1 dX2_isConsistent_62 rfl rfl ?_
          refine s_aload_n (pc := 63) 0 dX2_isConsistent_63 rfl rfl ?_
          refine zS_ite (fun ht => ?_) (fun _ => zS_none)
          refine s_callV (pc := 64) (np := 1) (as := [va_rf r36]) (rest := [.int a1]) dX2_isConsistent_64 ht (q := (RX2, TX2, 10)) rfl (c_X2_blocksBeneath (by decide) a0 r36 h37) rfl rfl q1946 q1947 q1948 rfl (by simp [zcat_rf, zcat_i, zcat_l, zcat_f, zcat_d]) (zkI (fun x50 h51 => ?_)) zxo
          refine s_aload_n (pc := 67) 1 dX2_isConsistent_67 rfl rfl ?_
          refine s_aload_n (pc := 68) 0 dX2_isConsistent_68 rfl rfl ?_
          refine zS_ite (fun ht => ?_) (fun _ => zS_none)
          refine s_callV (pc := 69) (np := 1) (as := [va_rf r36]) (rest := [.int x50, .int a1]) dX2_isConsistent_69 ht (q := (RX2, TX2, 10)) rfl (c_X2_blocksBeneathByMetres (by decide) a0 r36 h51) rfl rfl q1951 q1952 q1953 rfl (by simp [zcat_rf, zcat_i, zcat_l, zcat_f, zcat_d]) (zkI (fun x52 h53 => ?_)) zxo
          refine s_icmp_ne (pc := 72) (tgt := 79) dX2_isConsistent_72 (by decide) (fun _ => ?_) (fun _ => ?_)
          · refine s_iconst (pc := 79) (v := 0) dX2_isConsistent_79 (by decide) ?_
            exact s_sub (pc := 80) [1, 3] rfl (w_X2_isConsistent_80 (f_X2_isConsistent_42 n) ih a0 a2 0 a1 h53)
          · refine s_iconst (pc := 75) (v := 1) dX2_isConsistent_75 (by decide) ?_
            refine s_goto (pc := 76) (tgt := 80) dX2_isConsistent_76 (by decide) ?_
            exact s_sub (pc := 80) [1, 3] rfl (w_X2_isConsistent_80 (f_X2_isConsistent_42 n) ih a0 a2 1 a1 h53)
        refine zS_ite (fun ht => ?_) (fun _ => zS_none)
        refine s_callF (pc := 52) (np := 0) (as := []) (rest := []) dX2_isConsistent_52 ht (q := (RJ22, TJ22, 5)) rfl (c_J22_next (by decide) a2 h13) ⟨_, _, _, q832⟩ rfl rfl q670 (by decide +kernel) q830 q828 rfl (by decide) (zkR (fun r36 h37 => ?_)) zxo
        refine s_cast (pc := 57) dX2_isConsistent_57 q836 zcs_FloatingDock_Ship ?_
        refine s_ast_n (pc := 60) (L2 := [(0, va_rf a0), (1, .int a1), (2, va_rf a2)]) [0, 1, 2] dX2_isConsistent_60 rfl (by decide) rfl rfl (zcB (j := 2) rfl (zcat_rf a2) rfl) ?_
        refine s_iload_n (pc := 61) 2 dX2_isConsistent_61 rfl rfl ?_
        refine s_aload_n (pc := 62) 1 dX2_isConsistent_62 rfl rfl ?_
        refine s_aload_n (pc := 63) 0 dX2_isConsistent_63 rfl rfl ?_
        refine zS_ite (fun ht => ?_) (fun _ => zS_none)
        refine s_callV (pc := 64) (np := 1) (as := [va_rf r36]) (rest := [.int a1]) dX2_isConsistent_64 ht (q := (RX2, TX2, 10)) rfl (c_X2_blocksBeneath (by decide) a0 r36 h37) rfl rfl q1946 q1947 q1948 rfl (by simp [zcat_rf, zcat_i, zcat_l, zcat_f, zcat_d]) (zkI (fun x54 h55 => ?_)) zxo
        refine s_aload_n (pc := 67) 1 dX2_isConsistent_67 rfl rfl ?_
        refine s_aload_n (pc := 68) 0 dX2_isConsistent_68 rfl rfl ?_
        refine zS_ite (fun ht => ?_) (fun _ => zS_none)
        refine s_callV (pc := 69) (np := 1) (as := [va_rf r36]) (rest := [.int x54, .int a1]) dX2_isConsistent_69 ht (q := (RX2, TX2, 10)) rfl (c_X2_blocksBeneathByMetres (by decide) a0 r36 h55) rfl rfl q1951 q1952 q1953 rfl (by simp [zcat_rf, zcat_i, zcat_l, zcat_f, zcat_d]) (zkI (fun x56 h57 => ?_)) zxo
        refine s_icmp_ne (pc := 72) (tgt := 79) dX2_isConsistent_72 (by decide) (fun _ => ?_) (fun _ => ?_)
        · refine s_iconst (pc := 79) (v := 0) dX2_isConsistent_79 (by decide) ?_
          exact s_sub (pc := 80) [1, 3] rfl (w_X2_isConsistent_80 (f_X2_isConsistent_42 n) ih a0 a2 0 a1 h57)
        · refine s_iconst (pc := 75) (v := 1) dX2_isConsistent_75 (by decide) ?_
          refine s_goto (pc := 76) (tgt := 80) dX2_isConsistent_76 (by decide) ?_
          exact s_sub (pc := 80) [1, 3] rfl (w_X2_isConsistent_80 (f_X2_isConsistent_42 n) ih a0 a2 1 a1 h57)
    refine zS_ite (fun ht => ?_) (fun _ => ?_)
    · refine s_callF (pc := 43) (np := 0) (as := []) (rest := []) dX2_isConsistent_43 ht (q := (RJ17, TJ17, 5)) rfl (c_J16_hasNext (by decide) a2 h) ⟨_, _, _, q659⟩ rfl rfl q629 (by decide +kernel) q657 q655 rfl (by decide) (zkI (fun x12 h13 => ?_)) zxo
      refine s_if_eq (pc := 48) (tgt := 85) dX2_isConsistent_48 (by decide) (fun _ => ?_) (fun _ => ?_)
      · exact s_sub (pc := 85) [0, 1] rfl (w_X2_isConsistent_85 a0 a1 h13)
      · refine s_aload_n (pc := 51) 2 dX2_isConsistent_51 rfl rfl ?_
        refine zS_ite (fun ht => ?_) (fun _ => ?_)
        · refine s_callF (pc := 52) (np := 0) (as := []) (rest := []) dX2_isConsistent_52 ht (q := (RX9, TX9, 2)) rfl (c_X9_next (by decide) a2 h13) ⟨_, _, _, q677⟩ rfl rfl q670 (by decide +kernel) q675 q673 rfl (by decide) (zkR (fun r58 h59 => ?_)) zxo
          refine s_cast (pc := 57) dX2_isConsistent_57 q836 zcs_FloatingDock_Ship ?_
          refine s_ast_n (pc := 60) (L2 := [(0, va_rf a0), (1, .int a1), (2, va_rf a2)]) [0, 1, 2] dX2_isConsistent_60 rfl (by decide) rfl rfl (zcB (j := 2) rfl (zcat_rf a2) rfl) ?_
          refine s_iload_n (pc := 61) 2 dX2_isConsistent_61 rfl rfl ?_
          refine s_aload_n (pc := 62) 1 dX2_isConsistent_62 rfl rfl ?_
          refine s_aload_n (pc := 63) 0 dX2_isConsistent_63 rfl rfl ?_
          refine zS_ite (fun ht => ?_) (fun _ => zS_none)
          refine s_callV (pc := 64) (np := 1) (as := [va_rf r58]) (rest := [.int a1]) dX2_isConsistent_64 ht (q := (RX2, TX2, 10)) rfl (c_X2_blocksBeneath (by decide) a0 r58 h59) rfl rfl q1946 q1947 q1948 rfl (by simp [zcat_rf, zcat_i, zcat_l, zcat_f, zcat_d]) (zkI (fun x60 h61 => ?_)) zxo
          refine s_aload_n (pc := 67) 1 dX2_isConsistent_67 rfl rfl ?_
          refine s_aload_n (pc := 68) 0 dX2_isConsistent_68 rfl rfl ?_
          refine zS_ite (fun ht => ?_) (fun _ => zS_none)
          refine s_callV (pc := 69) (np := 1) (as := [va_rf r58]) (rest := [.int x60, .int a1]) dX2_isConsistent_69 ht (q := (RX2, TX2, 10)) rfl (c_X2_blocksBeneathByMetres (by decide) a0 r58 h61) rfl rfl q1951 q1952 q1953 rfl (by simp [zcat_rf, zcat_i, zcat_l, zcat_f, zcat_d]) (zkI (fun x62 h63 => ?_)) zxo
          refine s_icmp_ne (pc := 72) (tgt := 79) dX2_isConsistent_72 (by decide) (fun _ => ?_) (fun _ => ?_)
          · refine s_iconst (pc := 79) (v := 0) dX2_isConsistent_79 (by decide) ?_
            exact s_sub (pc := 80) [1, 3] rfl (w_X2_isConsistent_80 (f_X2_isConsistent_42 n) ih a0 a2 0 a1 h63)
          · refine s_iconst (pc := 75) (v := 1) dX2_isConsistent_75 (by decide) ?_
            refine s_goto (pc := 76) (tgt := 80) dX2_isConsistent_76 (by decide) ?_
            exact s_sub (pc := 80) [1, 3] rfl (w_X2_isConsistent_80 (f_X2_isConsistent_42 n) ih a0 a2 1 a1 h63)
        refine zS_ite (fun ht => ?_) (fun _ => ?_)
        · refine s_callF (pc := 52) (np := 0) (as := []) (rest := []) dX2_isConsistent_52 ht (q := (RJ15, TJ15, 4)) rfl (c_J15_next (by decide) a2 h13) ⟨_, _, _, q788⟩ rfl rfl q670 (by decide +kernel) q786 q784 rfl (by decide) (zkR (fun r58 h59 => ?_)) zxo
          refine s_cast (pc := 57) dX2_isConsistent_57 q836 zcs_FloatingDock_Ship ?_
          refine s_ast_n (pc := 60) (L2 := [(0, va_rf a0), (1, .int a1), (2, va_rf a2)]) [0, 1, 2] dX2_isConsistent_60 rfl (by decide) rfl rfl (zcB (j := 2) rfl (zcat_rf a2) rfl) ?_
          refine s_iload_n (pc := 61) 2 dX2_isConsistent_61 rfl rfl ?_
          refine s_aload_n (pc := 62) 1 dX2_isConsistent_62 rfl rfl ?_
          refine s_aload_n (pc := 63) 0 dX2_isConsistent_63 rfl rfl ?_
          refine zS_ite (fun ht => ?_) (fun _ => zS_none)
          refine s_callV (pc := 64) (np := 1) (as := [va_rf r58]) (rest := [.int a1]) dX2_isConsistent_64 ht (q := (RX2, TX2, 10)) rfl (c_X2_blocksBeneath (by decide) a0 r58 h59) rfl rfl q1946 q1947 q1948 rfl (by simp [zcat_rf, zcat_i, zcat_l, zcat_f, zcat_d]) (zkI (fun x64 h65 => ?_)) zxo
          refine s_aload_n (pc := 67) 1 dX2_isConsistent_67 rfl rfl ?_
          refine s_aload_n (pc := 68) 0 dX2_isConsistent_68 rfl rfl ?_
          refine zS_ite (fun ht => ?_) (fun _ => zS_none)
          refine s_callV (pc := 69) (np := 1) (as := [va_rf r58]) (rest := [.int x64, .int a1]) dX2_isConsistent_69 ht (q := (RX2, TX2, 10)) rfl (c_X2_blocksBeneathByMetres (by decide) a0 r58 h65) rfl rfl q1951 q1952 q1953 rfl (by simp [zcat_rf, zcat_i, zcat_l, zcat_f, zcat_d]) (zkI (fun x66 h67 => ?_)) zxo
          refine s_icmp_ne (pc := 72) (tgt := 79) dX2_isConsistent_72 (by decide) (fun _ => ?_) (fun _ => ?_)
          · refine s_iconst (pc := 79) (v := 0) dX2_isConsistent_79 (by decide) ?_
            exact s_sub (pc := 80) [1, 3] rfl (w_X2_isConsistent_80 (f_X2_isConsistent_42 n) ih a0 a2 0 a1 h67)
          · refine s_iconst (pc := 75) (v := 1) dX2_isConsistent_75 (by decide) ?_
            refine s_goto (pc := 76) (tgt := 80) dX2_isConsistent_76 (by decide) ?_
            exact s_sub (pc := 80) [1, 3] rfl (w_X2_isConsistent_80 (f_X2_isConsistent_42 n) ih a0 a2 1 a1 h67)
        refine zS_ite (fun ht => ?_) (fun _ => ?_)
        · refine s_callF (pc := 52) (np := 0) (as := []) (rest := []) dX2_isConsistent_52 ht (q := (RJ17, TJ17, 5)) rfl (c_J17_next (by decide) a2 h13) ⟨_, _, _, q799⟩ rfl rfl q670 (by decide +kernel) q797 q795 rfl (by decide) (zkR (fun r58 h59 => ?_)) zxo
          refine s_cast (pc := 57) dX2_isConsistent_57 q836 zcs_FloatingDock_Ship ?_
          refine s_ast_n (pc := 60) (L2 := [(0, va_rf a0), (1, .int a1), (2, va_rf a2)]) [0, 1, 2] dX2_isConsistent_60 rfl (by decide) rfl rfl (zcB (j := 2) rfl (zcat_rf a2) rfl) ?_
          refine s_iload_n (pc := 61) 2 dX2_isConsistent_61 rfl rfl ?_
          refine s_aload_n (pc := 62) 1 dX2_isConsistent_62 rfl rfl ?_
          refine s_aload_n (pc := 63) 0 dX2_isConsistent_63 rfl rfl ?_
          refine zS_ite (fun ht => ?_) (fun _ => zS_none)
          refine s_callV (pc := 64) (np := 1) (as := [va_rf r58]) (rest := [.int a1]) dX2_isConsistent_64 ht (q := (RX2, TX2, 10)) rfl (c_X2_blocksBeneath (by decide) a0 r58 h59) rfl rfl q1946 q1947 q1948 rfl (by simp [zcat_rf, zcat_i, zcat_l, zcat_f, zcat_d]) (zkI (fun x68 h69 => ?_)) zxo
          refine s_aload_n (pc := 67) 1 dX2_isConsistent_67 rfl rfl ?_
          refine s_aload_n (pc := 68) 0 dX2_isConsistent_68 rfl rfl ?_
          refine zS_ite (fun ht => ?_) (fun _ => zS_none)
          refine s_callV (pc := 69) (np := 1) (as := [va_rf r58]) (rest := [.int x68, .int a1]) dX2_isConsistent_69 ht (q := (RX2, TX2, 10)) rfl (c_X2_blocksBeneathByMetres (by decide) a0 r58 h69) rfl rfl q1951 q1952 q1953 rfl (by simp [zcat_rf, zcat_i, zcat_l, zcat_f, zcat_d]) (zkI (fun x70 h71 => ?_)) zxo
          refine s_icmp_ne (pc := 72) (tgt := 79) dX2_isConsistent_72 (by decide) (fun _ => ?_) (fun _ => ?_)
          · refine s_iconst (pc := 79) (v := 0) dX2_isConsistent_79 (by decide) ?_
            exact s_sub (pc := 80) [1, 3] rfl (w_X2_isConsistent_80 (f_X2_isConsistent_42 n) ih a0 a2 0 a1 h71)
          · refine s_iconst (pc := 75) (v := 1) dX2_isConsistent_75 (by decide) ?_
            refine s_goto (pc := 76) (tgt := 80) dX2_isConsistent_76 (by decide) ?_
            exact s_sub (pc := 80) [1, 3] rfl (w_X2_isConsistent_80 (f_X2_isConsistent_42 n) ih a0 a2 1 a1 h71)
        refine zS_ite (fun ht => ?_) (fun _ => ?_)
        · refine s_callF (pc := 52) (np := 0) (as := []) (rest := []) dX2_isConsistent_52 ht (q := (RJ21, TJ21, 5)) rfl (c_J21_next (by decide) a2 h13) ⟨_, _, _, q812⟩ rfl rfl q670 (by decide +kernel) q810 q808 rfl (by decide) (zkR (fun r58 h59 => ?_)) zxo
          refine s_cast (pc := 57) dX2_isConsistent_57 q836 zcs_FloatingDock_Ship ?_
          refine s_ast_n (pc := 60) (L2 := [(0, va_rf a0), (1, .int a1), (2, va_rf a2)]) [0, 1, 2] dX2_isConsistent_60 rfl (by decide) rfl rfl (zcB (j := 2) rfl (zcat_rf a2) rfl) ?_
          refine s_iload_n (pc := 61) 2 dX2_isConsistent_61 rfl rfl ?_
          refine s_aload_n (pc := 62) 1 dX2_isConsistent_62 rfl rfl ?_
          refine s_aload_n (pc := 63) 0 dX2_isConsistent_63 rfl rfl ?_
          refine zS_ite (fun ht => ?_) (fun _ => zS_none)
          refine s_callV (pc := 64) (np := 1) (as := [va_rf r58]) (rest := [.int a1]) dX2_isConsistent_64 ht (q := (RX2, TX2, 10)) rfl (c_X2_blocksBeneath (by decide) a0 r58 h59) rfl rfl q1946 q1947 q1948 rfl (by simp [zcat_rf, zcat_i, zcat_l, zcat_f, zcat_d]) (zkI (fun x72 h73 => ?_)) zxo
          refine s_aload_n (pc := 67) 1 dX2_isConsistent_67 rfl rfl ?_
          refine s_aload_n (pc := 68) 0 dX2_isConsistent_68 rfl rfl ?_
          refine zS_ite (fun ht => ?_) (fun _ => zS_none)
          refine s_callV (pc := 69) (np := 1) (as := [va_rf r58]) (rest := [.int x72, .int a1]) dX2_isConsistent_69 ht (q := (RX2, TX2, 10)) rfl (c_X2_blocksBeneathByMetres (by decide) a0 r58 h73) rfl rfl q1951 q1952 q1953 rfl (by simp [zcat_rf, zcat_i, zcat_l, zcat_f, zcat_d]) (zkI (fun x74 h75 => ?_)) zxo
          refine s_icmp_ne (pc := 72) (tgt := 79) dX2_isConsistent_72 (by decide) (fun _ => ?_) (fun _ => ?_)
          · refine s_iconst (pc := 79) (v := 0) dX2_isConsistent_79 (by decide) ?_
            exact s_sub (pc := 80) [1, 3] rfl (w_X2_isConsistent_80 (f_X2_isConsistent_42 n) ih a0 a2 0 a1 h75)
          · refine s_iconst (pc := 75) (v := 1) dX2_isConsistent_75 (by decide) ?_
            refine s_goto (pc := 76) (tgt := 80) dX2_isConsistent_76 (by decide) ?_
            exact s_sub (pc := 80) [1, 3] rfl (w_X2_isConsistent_80 (f_X2_isConsistent_42 n) ih a0 a2 1 a1 h75)
        refine zS_ite (fun ht => ?_) (fun _ => zS_none)
        refine s_callF (pc := 52) (np := 0) (as := []) (rest := []) dX2_isConsistent_52 ht (q := (RJ22, TJ22, 5)) rfl (c_J22_next (by decide) a2 h13) ⟨_, _, _, q832⟩ rfl rfl q670 (by decide +kernel) q830 q828 rfl (by decide) (zkR (fun r58 h59 => ?_)) zxo
        refine s_cast (pc := 57) dX2_isConsistent_57 q836 zcs_FloatingDock_Ship ?_
        refine s_ast_n (pc := 60) (L2 := [(0, va_rf a0), (1, .int a1), (2, va_rf a2)]) [0, 1, 2] dX2_isConsistent_60 rfl (by decide) rfl rfl (zcB (j := 2) rfl (zcat_rf a2) rfl) ?_
        refine s_iload_n (pc := 61) 2 dX2_isConsistent_61 rfl rfl ?_
        refine s_aload_n (pc := 62) 1 dX2_isConsistent_62 rfl rfl ?_
        refine s_aload_n (pc := 63) 0 dX2_isConsistent_63 rfl rfl ?_
        refine zS_ite (fun ht => ?_) (fun _ => zS_none)
        refine s_callV (pc := 64) (np := 1) (as := [va_rf r58]) (rest := [.int a1]) dX2_isConsistent_64 ht (q := (RX2, TX2, 10)) rfl (c_X2_blocksBeneath (by decide) a0 r58 h59) rfl rfl q1946 q1947 q1948 rfl (by simp [zcat_rf, zcat_i, zcat_l, zcat_f, zcat_d]) (zkI (fun x76 h77 => ?_)) zxo
        refine s_aload_n (pc := 67) 1 dX2_isConsistent_67 rfl rfl ?_
        refine s_aload_n (pc := 68) 0 dX2_isConsistent_68 rfl rfl ?_
        refine zS_ite (fun ht => ?_) (fun _ => zS_none)
        refine s_callV (pc := 69) (np := 1) (as := [va_rf r58]) (rest := [.int x76, .int a1]) dX2_isConsistent_69 ht (q := (RX2, TX2, 10)) rfl (c_X2_blocksBeneathByMetres (by decide) a0 r58 h77) rfl rfl q1951 q1952 q1953 rfl (by simp [zcat_rf, zcat_i, zcat_l, zcat_f, zcat_d]) (zkI (fun x78 h79 => ?_)) zxo
        refine s_icmp_ne (pc := 72) (tgt := 79) dX2_isConsistent_72 (by decide) (fun _ => ?_) (fun _ => ?_)
        · refine s_iconst (pc := 79) (v := 0) dX2_isConsistent_79 (by decide) ?_
          exact s_sub (pc := 80) [1, 3] rfl (w_X2_isConsistent_80 (f_X2_isConsistent_42 n) ih a0 a2 0 a1 h79)
        · refine s_iconst (pc := 75) (v := 1) dX2_isConsistent_75 (by decide) ?_
          refine s_goto (pc := 76) (tgt := 80) dX2_isConsistent_76 (by decide) ?_
          exact s_sub (pc := 80) [1, 3] rfl (w_X2_isConsistent_80 (f_X2_isConsistent_42 n) ih a0 a2 1 a1 h79)
    refine zS_ite (fun ht => ?_) (fun _ => ?_)
    · refine s_callF (pc := 43) (np := 0) (as := []) (rest := []) dX2_isConsistent_43 ht (q := (RJ21, TJ21, 5)) rfl (c_J20_hasNext (by decide) a2 h) ⟨_, _, _, q665⟩ rfl rfl q629 (by decide +kernel) q663 q661 rfl (by decide) (zkI (fun x12 h13 => ?_)) zxo
      refine s_if_eq (pc := 48) (tgt := 85) dX2_isConsistent_48 (by decide) (fun _ => ?_) (fun _ => ?_)
      · exact s_sub (pc := 85) [0, 1] rfl (w_X2_isConsistent_85 a0 a1 h13)
      · refine s_aload_n (pc := 51) 2 dX2_isConsistent_51 rfl rfl ?_
        refine zS_ite (fun ht => ?_) (fun _ => ?_)
        · refine s_callF (pc := 52) (np := 0) (as := []) (rest := []) dX2_isConsistent_52 ht (q := (RX9, TX9, 2)) rfl (c_X9_next (by decide) a2 h13) ⟨_, _, _, q677⟩ rfl rfl q670 (by decide +kernel) q675 q673 rfl (by decide) (zkR (fun r80 h81 => ?_)) zxo
          refine s_cast (pc := 57) dX2_isConsistent_57 q836 zcs_FloatingDock_Ship ?_
          refine s_ast_n (pc := 60) (L2 := [(0, va_rf a0), (1, .int a1), (2, va_rf a2)]) [0, 1, 2] dX2_isConsistent_60 rfl (by decide) rfl rfl (zcB (j := 2) rfl (zcat_rf a2) rfl) ?_
          refine s_iload_n (pc := 61) 2 dX2_isConsistent_61 rfl rfl ?_
          refine s_aload_n (pc := 62) 1 dX2_isConsistent_62 rfl rfl ?_
          refine s_aload_n (pc := 63) 0 dX2_isConsistent_63 rfl rfl ?_
          refine zS_ite (fun ht => ?_) (fun _ => zS_none)
          refine s_callV (pc := 64) (np := 1) (as := [va_rf r80]) (rest := [.int a1]) dX2_isConsistent_64 ht (q := (RX2, TX2, 10)) rfl (c_X2_blocksBeneath (by decide) a0 r80 h81) rfl rfl q1946 q1947 q1948 rfl (by simp [zcat_rf, zcat_i, zcat_l, zcat_f, zcat_d]) (zkI (fun x82 h83 => ?_)) zxo
          refine s_aload_n (pc := 67) 1 dX2_isConsistent_67 rfl rfl ?_
          refine s_aload_n (pc := 68) 0 dX2_isConsistent_68 rfl rfl ?_
          refine zS_ite (fun ht => ?_) (fun _ => zS_none)
          refine s_callV (pc := 69) (np := 1) (as := [va_rf r80]) (rest := [.int x82, .int a1]) dX2_isConsistent_69 ht (q := (RX2, TX2, 10)) rfl (c_X2_blocksBeneathByMetres (by decide) a0 r80 h83) rfl rfl q1951 q1952 q1953 rfl (by simp [zcat_rf, zcat_i, zcat_l, zcat_f, zcat_d]) (zkI (fun x84 h85 => ?_)) zxo
          refine s_icmp_ne (pc := 72) (tgt := 79) dX2_isConsistent_72 (by decide) (fun _ => ?_) (fun _ => ?_)
          · refine s_iconst (pc := 79) (v := 0) dX2_isConsistent_79 (by decide) ?_
            exact s_sub (pc := 80) [1, 3] rfl (w_X2_isConsistent_80 (f_X2_isConsistent_42 n) ih a0 a2 0 a1 h85)
          · refine s_iconst (pc := 75) (v := 1) dX2_isConsistent_75 (by decide) ?_
            refine s_goto (pc := 76) (tgt := 80) dX2_isConsistent_76 (by decide) ?_
            exact s_sub (pc := 80) [1, 3] rfl (w_X2_isConsistent_80 (f_X2_isConsistent_42 n) ih a0 a2 1 a1 h85)
        refine zS_ite (fun ht => ?_) (fun _ => ?_)
        · refine s_callF (pc := 52) (np := 0) (as := []) (rest := []) dX2_isConsistent_52 ht (q := (RJ15, TJ15, 4)) rfl (c_J15_next (by decide) a2 h13) ⟨_, _, _, q788⟩ rfl rfl q670 (by decide +kernel) q786 q784 rfl (by decide) (zkR (fun r80 h81 => ?_)) zxo
          refine s_cast (pc := 57) dX2_isConsistent_57 q836 zcs_FloatingDock_Ship ?_
          refine s_ast_n (pc := 60) (L2 := [(0, va_rf a0), (1, .int a1), (2, va_rf a2)]) [0, 1, 2] dX2_isConsistent_60 rfl (by decide) rfl rfl (zcB (j := 2) rfl (zcat_rf a2) rfl) ?_
          refine s_iload_n (pc := 61) 2 dX2_isConsistent_61 rfl rfl ?_
          refine s_aload_n (pc := 62) 1 dX2_isConsistent_62 rfl rfl ?_
          refine s_aload_n (pc := 63) 0 dX2_isConsistent_63 rfl rfl ?_
          refine zS_ite (fun ht => ?_) (fun _ => zS_none)
          refine s_callV (pc := 64) (np := 1) (as := [va_rf r80]) (rest := [.int a1]) dX2_isConsistent_64 ht (q := (RX2, TX2, 10)) rfl (c_X2_blocksBeneath (by decide) a0 r80 h81) rfl rfl q1946 q1947 q1948 rfl (by simp [zcat_rf, zcat_i, zcat_l, zcat_f, zcat_d]) (zkI (fun x86 h87 => ?_)) zxo
          refine s_aload_n (pc := 67) 1 dX2_isConsistent_67 rfl rfl ?_
          refine s_aload_n (pc := 68) 0 dX2_isConsistent_68 rfl rfl ?_
          refine zS_ite (fun ht => ?_) (fun _ => zS_none)
          refine s_callV (pc := 69) (np := 1) (as := [va_rf r80]) (rest := [.int x86, .int a1]) dX2_isConsistent_69 ht (q := (RX2, TX2, 10)) rfl (c_X2_blocksBeneathByMetres (by decide) a0 r80 h87) rfl rfl q1951 q1952 q1953 rfl (by simp [zcat_rf, zcat_i, zcat_l, zcat_f, zcat_d]) (zkI (fun x88 h89 => ?_)) zxo
          refine s_icmp_ne (pc := 72) (tgt := 79) dX2_isConsistent_72 (by decide) (fun _ => ?_) (fun _ => ?_)
          · refine s_iconst (pc := 79) (v := 0) dX2_isConsistent_79 (by decide) ?_
            exact s_sub (pc := 80) [1, 3] rfl (w_X2_isConsistent_80 (f_X2_isConsistent_42 n) ih a0 a2 0 a1 h89)
          · refine s_iconst (pc := 75) (v := 1) dX2_isConsistent_75 (by decide) ?_
            refine s_goto (pc := 76) (tgt := 80) dX2_isConsistent_76 (by decide) ?_
            exact s_sub (pc := 80) [1, 3] rfl (w_X2_isConsistent_80 (f_X2_isConsistent_42 n) ih a0 a2 1 a1 h89)
        refine zS_ite (fun ht => ?_) (fun _ => ?_)
        · refine s_callF (pc := 52) (np := 0) (as := []) (rest := []) dX2_isConsistent_52 ht (q := (RJ17, TJ17, 5)) rfl (c_J17_next (by decide) a2 h13) ⟨_, _, _, q799⟩ rfl rfl q670 (by decide +kernel) q797 q795 rfl (by decide) (zkR (fun r80 h81 => ?_)) zxo
          refine s_cast (pc := 57) dX2_isConsistent_57 q836 zcs_FloatingDock_Ship ?_
          refine s_ast_n (pc := 60) (L2 := [(0, va_rf a0), (1, .int a1), (2, va_rf a2)]) [0, 1, 2] dX2_isConsistent_60 rfl (by decide) rfl rfl (zcB (j := 2) rfl (zcat_rf a2) rfl) ?_
          refine s_iload_n (pc := 61) 2 dX2_isConsistent_61 rfl rfl ?_
          refine s_aload_n (pc := 62) 1 dX2_isConsistent_62 rfl rfl ?_
          refine s_aload_n (pc := 63) 0 dX2_isConsistent_63 rfl rfl ?_
          refine zS_ite (fun ht => ?_) (fun _ => zS_none)
          refine s_callV (pc := 64) (np := 1) (as := [va_rf r80]) (rest := [.int a1]) dX2_isConsistent_64 ht (q := (RX2, TX2, 10)) rfl (c_X2_blocksBeneath (by decide) a0 r80 h81) rfl rfl q1946 q1947 q1948 rfl (by simp [zcat_rf, zcat_i, zcat_l, zcat_f, zcat_d]) (zkI (fun x90 h91 => ?_)) zxo
          refine s_aload_n (pc := 67) 1 dX2_isConsistent_67 rfl rfl ?_
          refine s_aload_n (pc := 68) 0 dX2_isConsistent_68 rfl rfl ?_
          refine zS_ite (fun ht => ?_) (fun _ => zS_none)
          refine s_callV (pc := 69) (np := 1) (as := [va_rf r80]) (rest := [.int x90, .int a1]) dX2_isConsistent_69 ht (q := (RX2, TX2, 10)) rfl (c_X2_blocksBeneathByMetres (by decide) a0 r80 h91) rfl rfl q1951 q1952 q1953 rfl (by simp [zcat_rf, zcat_i, zcat_l, zcat_f, zcat_d]) (zkI (fun x92 h93 => ?_)) zxo
          refine s_icmp_ne (pc := 72) (tgt := 79) dX2_isConsistent_72 (by decide) (fun _ => ?_) (fun _ => ?_)
          · refine s_iconst (pc := 79) (v := 0) dX2_isConsistent_79 (by decide) ?_
            exact s_sub (pc := 80) [1, 3] rfl (w_X2_isConsistent_80 (f_X2_isConsistent_42 n) ih a0 a2 0 a1 h93)
          · refine s_iconst (pc := 75) (v := 1) dX2_isConsistent_75 (by decide) ?_
            refine s_goto (pc := 76) (tgt := 80) dX2_isConsistent_76 (by decide) ?_
            exact s_sub (pc := 80) [1, 3] rfl (w_X2_isConsistent_80 (f_X2_isConsistent_42 n) ih a0 a2 1 a1 h93)
        refine zS_ite (fun ht => ?_) (fun _ => ?_)
        · refine s_callF (pc := 52) (np := 0) (as := []) (rest := []) dX2_isConsistent_52 ht (q := (RJ21, TJ21, 5)) rfl (c_J21_next (by decide) a2 h13) ⟨_, _, _, q812⟩ rfl rfl q670 (by decide +kernel) q810 q808 rfl (by decide) (zkR (fun r80 h81 => ?_)) zxo
          refine s_cast (pc := 57) dX2_isConsistent_57 q836 zcs_FloatingDock_Ship ?_
          refine s_ast_n (pc := 60) (L2 := [(0, va_rf a0), (1, .int a1), (2, va_rf a2)]) [0, 1, 2] dX2_isConsistent_60 rfl (by decide) rfl rfl (zcB (j := 2) rfl (zcat_rf a2) rfl) ?_
          refine s_iload_n (pc := 61) 2 dX2_isConsistent_61 rfl rfl ?_
          refine s_aload_n (pc := 62) 1 dX2_isConsistent_62 rfl rfl ?_
          refine s_aload_n (pc := 63) 0 dX2_isConsistent_63 rfl rfl ?_
          refine zS_ite (fun ht => ?_) (fun _ => zS_none)
          refine s_callV (pc := 64) (np := 1) (as := [va_rf r80]) (rest := [.int a1]) dX2_isConsistent_64 ht (q := (RX2, TX2, 10)) rfl (c_X2_blocksBeneath (by decide) a0 r80 h81) rfl rfl q1946 q1947 q1948 rfl (by simp [zcat_rf, zcat_i, zcat_l, zcat_f, zcat_d]) (zkI (fun x94 h95 => ?_)) zxo
          refine s_aload_n (pc := 67) 1 dX2_isConsistent_67 rfl rfl ?_
          refine s_aload_n (pc := 68) 0 dX2_isConsistent_68 rfl rfl ?_
          refine zS_ite (fun ht => ?_) (fun _ => zS_none)
          refine s_callV (pc := 69) (np := 1) (as := [va_rf r80]) (rest := [.int x94, .int a1]) dX2_isConsistent_69 ht (q := (RX2, TX2, 10)) rfl (c_X2_blocksBeneathByMetres (by decide) a0 r80 h95) rfl rfl q1951 q1952 q1953 rfl (by simp [zcat_rf, zcat_i, zcat_l, zcat_f, zcat_d]) (zkI (fun x96 h97 => ?_)) zxo
          refine s_icmp_ne (pc := 72) (tgt := 79) dX2_isConsistent_72 (by decide) (fun _ => ?_) (fun _ => ?_)
          · refine s_iconst (pc := 79) (v := 0) dX2_isConsistent_79 (by decide) ?_
            exact s_sub (pc := 80) [1, 3] rfl (w_X2_isConsistent_80 (f_X2_isConsistent_42 n) ih a0 a2 0 a1 h97)
          · refine s_iconst (pc := 75) (v := 1) dX2_isConsistent_75 (by decide) ?_
            refine s_goto (pc := 76) (tgt := 80) dX2_isConsistent_76 (by decide) ?_
            exact s_sub (pc := 80) [1, 3] rfl (w_X2_isConsistent_80 (f_X2_isConsistent_42 n) ih a0 a2 1 a1 h97)
        refine zS_ite (fun ht => ?_) (fun _ => zS_none)
        refine s_callF (pc := 52) (np := 0) (as := []) (rest := []) dX2_isConsistent_52 ht (q := (RJ22, TJ22, 5)) rfl (c_J22_next (by decide) a2 h13) ⟨_, _, _, q832⟩ rfl rfl q670 (by decide +kernel) q830 q828 rfl (by decide) (zkR (fun r80 h81 => ?_)) zxo
        refine s_cast (pc := 57) dX2_isConsistent_57 q836 zcs_FloatingDock_Ship ?_
        refine s_ast_n (pc := 60) (L2 := [(0, va_rf a0), (1, .int a1), (2, va_rf a2)]) [0, 1, 2] dX2_isConsistent_60 rfl (by decide) rfl rfl (zcB (j := 2) rfl (zcat_rf a2) rfl) ?_
        refine s_iload_n (pc := 61) 2 dX2_isConsistent_61 rfl rfl ?_
        refine s_aload_n (pc := 62) 1 dX2_isConsistent_62 rfl rfl ?_
        refine s_aload_n (pc := 63) 0 dX2_isConsistent_63 rfl rfl ?_
        refine zS_ite (fun ht => ?_) (fun _ => zS_none)
        refine s_callV (pc := 64) (np := 1) (as := [va_rf r80]) (rest := [.int a1]) dX2_isConsistent_64 ht (q := (RX2, TX2, 10)) rfl (c_X2_blocksBeneath (by decide) a0 r80 h81) rfl rfl q1946 q1947 q1948 rfl (by simp [zcat_rf, zcat_i, zcat_l, zcat_f, zcat_d]) (zkI (fun x98 h99 => ?_)) zxo
        refine s_aload_n (pc := 67) 1 dX2_isConsistent_67 rfl rfl ?_
        refine s_aload_n (pc := 68) 0 dX2_isConsistent_68 rfl rfl ?_
        refine zS_ite (fun ht => ?_) (fun _ => zS_none)
        refine s_callV (pc := 69) (np := 1) (as := [va_rf r80]) (rest := [.int x98, .int a1]) dX2_isConsistent_69 ht (q := (RX2, TX2, 10)) rfl (c_X2_blocksBeneathByMetres (by decide) a0 r80 h99) rfl rfl q1951 q1952 q1953 rfl (by simp [zcat_rf, zcat_i, zcat_l, zcat_f, zcat_d]) (zkI (fun x100 h101 => ?_)) zxo
        refine s_icmp_ne (pc := 72) (tgt := 79) dX2_isConsistent_72 (by decide) (fun _ => ?_) (fun _ => ?_)
        · refine s_iconst (pc := 79) (v := 0) dX2_isConsistent_79 (by decide) ?_
          exact s_sub (pc := 80) [1, 3] rfl (w_X2_isConsistent_80 (f_X2_isConsistent_42 n) ih a0 a2 0 a1 h101)
        · refine s_iconst (pc := 75) (v := 1) dX2_isConsistent_75 (by decide) ?_
          refine s_goto (pc := 76) (tgt := 80) dX2_isConsistent_76 (by decide) ?_
          exact s_sub (pc := 80) [1, 3] rfl (w_X2_isConsistent_80 (f_X2_isConsistent_42 n) ih a0 a2 1 a1 h101)
    refine zS_ite (fun ht => ?_) (fun _ => zS_none)
    refine s_callF (pc := 43) (np := 0) (as := []) (rest := []) dX2_isConsistent_43 ht (q := (RJ22, TJ22, 5)) rfl (c_J20_hasNext (by decide) a2 h) ⟨_, _, _, q665⟩ rfl rfl q629 (by decide +kernel) q663 q667 rfl (by decide) (zkI (fun x12 h13 => ?_)) zxo
    refine s_if_eq (pc := 48) (tgt := 85) dX2_isConsistent_48 (by decide) (fun _ => ?_) (fun _ => ?_)
    · exact s_sub (pc := 85) [0, 1] rfl (w_X2_isConsistent_85 a0 a1 h13)
    · refine s_aload_n (pc := 51) 2 dX2_isConsistent_51 rfl rfl ?_
      refine zS_ite (fun ht => ?_) (fun _ => ?_)
      · refine s_callF (pc := 52) (np := 0) (as := []) (rest := []) dX2_isConsistent_52 ht (q := (RX9, TX9, 2)) rfl (c_X9_next (by decide) a2 h13) ⟨_, _, _, q677⟩ rfl rfl q670 (by decide +kernel) q675 q673 rfl (by decide) (zkR (fun r102 h103 => ?_)) zxo
        refine s_cast (pc := 57) dX2_isConsistent_57 q836 zcs_FloatingDock_Ship ?_
        refine s_ast_n (pc := 60) (L2 := [(0, va_rf a0), (1, .int a1), (2, va_rf a2)]) [0, 1, 2] dX2_isConsistent_60 rfl (by decide) rfl rfl (zcB (j := 2) rfl (zcat_rf a2) rfl) ?_
        refine s_iload_n (pc := 61) 2 dX2_isConsistent_61 rfl rfl ?_
        refine s_aload_n (pc := 62) 1 dX2_isConsistent_62 rfl rfl ?_
        refine s_aload_n (pc := 63) 0 dX2_isConsistent_63 rfl rfl ?_
        refine zS_ite (fun ht => ?_) (fun _ => zS_none)
        refine s_callV (pc := 64) (np := 1) (as := [va_rf r102]) (rest := [.int a1]) dX2_isConsistent_64 ht (q := (RX2, TX2, 10)) rfl (c_X2_blocksBeneath (by decide) a0 r102 h103) rfl rfl q1946 q1947 q1948 rfl (by simp [zcat_rf, zcat_i, zcat_l, zcat_f, zcat_d]) (zkI (fun x104 h105 => ?_)) zxo
        refine s_aload_n (pc := 67) 1 dX2_isConsistent_67 rfl rfl ?_
        refine s_aload_n (pc := 68) 0 dX2_isConsistent_68 rfl rfl ?_
        refine zS_ite (fun ht => ?_) (fun _ => zS_none)
        refine s_callV (pc := 69) (np := 1) (as := [va_rf r102]) (rest := [.int x104, .int a1]) dX2_isConsistent_69 ht (q := (RX2, TX2, 10)) rfl (c_X2_blocksBeneathByMetres (by decide) a0 r102 h105) rfl rfl q1951 q1952 q1953 rfl (by simp [zcat_rf, zcat_i, zcat_l, zcat_f, zcat_d]) (zkI (fun x106 h107 => ?_)) zxo
        refine s_icmp_ne (pc := 72) (tgt := 79) dX2_isConsistent_72 (by decide) (fun _ => ?_) (fun _ => ?_)
        · refine s_iconst (pc := 79) (v := 0) dX2_isConsistent_79 (by decide) ?_
          exact s_sub (pc := 80) [1, 3] rfl (w_X2_isConsistent_80 (f_X2_isConsistent_42 n) ih a0 a2 0 a1 h107)
        · refine s_iconst (pc := 75) (v := 1) dX2_isConsistent_75 (by decide) ?_
          refine s_goto (pc := 76) (tgt := 80) dX2_isConsistent_76 (by decide) ?_
          exact s_sub (pc := 80) [1, 3] rfl (w_X2_isConsistent_80 (f_X2_isConsistent_42 n) ih a0 a2 1 a1 h107)
      refine zS_ite (fun ht => ?_) (fun _ => ?_)
      · refine s_callF (pc := 52) (np := 0) (as := []) (rest := []) dX2_isConsistent_52 ht (q := (RJ15, TJ15, 4)) rfl (c_J15_next (by decide) a2 h13) ⟨_, _, _, q788⟩ rfl rfl q670 (by decide +kernel) q786 q784 rfl (by decide) (zkR (fun r102 h103 => ?_)) zxo
        refine s_cast (pc := 57) dX2_isConsistent_57 q836 zcs_FloatingDock_Ship ?_
        refine s_ast_n (pc := 60) (L2 := [(0, va_rf a0), (1, .int a1), (2, va_rf a2)]) [0, 1, 2] dX2_isConsistent_60 rfl (by decide) rfl rfl (zcB (j := 2) rfl (zcat_rf a2) rfl) ?_
        refine s_iload_n (pc := 61) 2 dX2_isConsistent_61 rfl rfl ?_
        refine s_aload_n (pc := 62) 1 dX2_isConsistent_62 rfl rfl ?_
        refine s_aload_n (pc := 63) 0 dX2_isConsistent_63 rfl rfl ?_
        refine zS_ite (fun ht => ?_) (fun _ => zS_none)
        refine s_callV (pc := 64) (np := 1) (as := [va_rf r102]) (rest := [.int a1]) dX2_isConsistent_64 ht (q := (RX2, TX2, 10)) rfl (c_X2_blocksBeneath (by decide) a0 r102 h103) rfl rfl q1946 q1947 q1948 rfl (by simp [zcat_rf, zcat_i, zcat_l, zcat_f, zcat_d]) (zkI (fun x108 h109 => ?_)) zxo
        refine s_aload_n (pc := 67) 1 dX2_isConsistent_67 rfl rfl ?_
        refine s_aload_n (pc := 68) 0 dX2_isConsistent_68 rfl rfl ?_
        refine zS_ite (fun ht => ?_) (fun _ => zS_none)
        refine s_callV (pc := 69) (np := 1) (as := [va_rf r102]) (rest := [.int x108, .int a1]) dX2_isConsistent_69 ht (q := (RX2, TX2, 10)) rfl (c_X2_blocksBeneathByMetres (by decide) a0 r102 h109) rfl rfl q1951 q1952 q1953 rfl (by simp [zcat_rf, zcat_i, zcat_l, zcat_f, zcat_d]) (zkI (fun x110 h111 => ?_)) zxo
        refine s_icmp_ne (pc := 72) (tgt := 79) dX2_isConsistent_72 (by decide) (fun _ => ?_) (fun _ => ?_)
        · refine s_iconst (pc := 79) (v := 0) dX2_isConsistent_79 (by decide) ?_
          exact s_sub (pc := 80) [1, 3] rfl (w_X2_isConsistent_80 (f_X2_isConsistent_42 n) ih a0 a2 0 a1 h111)
        · refine s_iconst (pc := 75) (v := 1) dX2_isConsistent_75 (by decide) ?_
          refine s_goto (pc := 76) (tgt := 80) dX2_isConsistent_76 (by decide) ?_
          exact s_sub (pc := 80) [1, 3] rfl (w_X2_isConsistent_80 (f_X2_isConsistent_42 n) ih a0 a2 1 a1 h111)
      refine zS_ite (fun ht => ?_) (fun _ => ?_)
      · refine s_callF (pc := 52) (np := 0) (as := []) (rest := []) dX2_isConsistent_52 ht (q := (RJ17, TJ17, 5)) rfl (c_J17_next (by decide) a2 h13) ⟨_, _, _, q799⟩ rfl rfl q670 (by decide +kernel) q797 q795 rfl (by decide) (zkR (fun r102 h103 => ?_)) zxo
        refine s_cast (pc := 57) dX2_isConsistent_57 q836 zcs_FloatingDock_Ship ?_
        refine s_ast_n (pc := 60) (L2 := [(0, va_rf a0), (1, .int a1), (2, va_rf a2)]) [0, 1, 2] dX2_isConsistent_60 rfl (by decide) rfl rfl (zcB (j := 2) rfl (zcat_rf a2) rfl) ?_
        refine s_iload_n (pc := 61) 2 dX2_isConsistent_61 rfl rfl ?_
        refine s_aload_n (pc := 62) 1 dX2_isConsistent_62 rfl rfl ?_
        refine s_aload_n (pc := 63) 0 dX2_isConsistent_63 rfl rfl ?_
        refine zS_ite (fun ht => ?_) (fun _ => zS_none)
        refine s_callV (pc := 64) (np := 1) (as := [va_rf r102]) (rest := [.int a1]) dX2_isConsistent_64 ht (q := (RX2, TX2, 10)) rfl (c_X2_blocksBeneath (by decide) a0 r102 h103) rfl rfl q1946 q1947 q1948 rfl (by simp [zcat_rf, zcat_i, zcat_l, zcat_f, zcat_d]) (zkI (fun x112 h113 => ?_)) zxo
        refine s_aload_n (pc := 67) 1 dX2_isConsistent_67 rfl rfl ?_
        refine s_aload_n (pc := 68) 0 dX2_isConsistent_68 rfl rfl ?_
        refine zS_ite (fun ht => ?_) (fun _ => zS_none)
        refine s_callV (pc := 69) (np := 1) (as := [va_rf r102]) (rest := [.int x112, .int a1]) dX2_isConsistent_69 ht (q := (RX2, TX2, 10)) rfl (c_X2_blocksBeneathByMetres (by decide) a0 r102 h113) rfl rfl q1951 q1952 q1953 rfl (by simp [zcat_rf, zcat_i, zcat_l, zcat_f, zcat_d]) (zkI (fun x114 h115 => ?_)) zxo
        refine s_icmp_ne (pc := 72) (tgt := 79) dX2_isConsistent_72 (by decide) (fun _ => ?_) (fun _ => ?_)
        · refine s_iconst (pc := 79) (v := 0) dX2_isConsistent_79 (by decide) ?_
          exact s_sub (pc := 80) [1, 3] rfl (w_X2_isConsistent_80 (f_X2_isConsistent_42 n) ih a0 a2 0 a1 h115)
        · refine s_iconst (pc := 75) (v := 1) dX2_isConsistent_75 (by decide) ?_
          refine s_goto (pc := 76) (tgt := 80) dX2_isConsistent_76 (by decide) ?_
          exact s_sub (pc := 80) [1, 3] rfl (w_X2_isConsistent_80 (f_X2_isConsistent_42 n) ih a0 a2 1 a1 h115)
      refine zS_ite (fun ht => ?_) (fun _ => ?_)
      · refine s_callF (pc := 52) (np := 0) (as := []) (rest := []) dX2_isConsistent_52 ht (q := (RJ21, TJ21, 5)) rfl (c_J21_next (by decide) a2 h13) ⟨_, _, _, q812⟩ rfl rfl q670 (by decide +kernel) q810 q808 rfl (by decide) (zkR (fun r102 h103 => ?_)) zxo
        refine s_cast (pc := 57) dX2_isConsistent_57 q836 zcs_FloatingDock_Ship ?_
        refine s_ast_n (pc := 60) (L2 := [(0, va_rf a0), (1, .int a1), (2, va_rf a2)]) [0, 1, 2] dX2_isConsistent_60 rfl (by decide) rfl rfl (zcB (j := 2) rfl (zcat_rf a2) rfl) ?_
        refine s_iload_n (pc := 61) 2 dX2_isConsistent_61 rfl rfl ?_
        refine s_aload_n (pc := 62) 1 dX2_isConsistent_62 rfl rfl ?_
        refine s_aload_n (pc := 63) 0 dX2_isConsistent_63 rfl rfl ?_
        refine zS_ite (fun ht => ?_) (fun _ => zS_none)
        refine s_callV (pc := 64) (np := 1) (as := [va_rf r102]) (rest := [.int a1]) dX2_isConsistent_64 ht (q := (RX2, TX2, 10)) rfl (c_X2_blocksBeneath (by decide) a0 r102 h103) rfl rfl q1946 q1947 q1948 rfl (by simp [zcat_rf, zcat_i, zcat_l, zcat_f, zcat_d]) (zkI (fun x116 h117 => ?_)) zxo
        refine s_aload_n (pc := 67) 1 dX2_isConsistent_67 rfl rfl ?_
        refine s_aload_n (pc := 68) 0 dX2_isConsistent_68 rfl rfl ?_
        refine zS_ite (fun ht => ?_) (fun _ => zS_none)
        refine s_callV (pc := 69) (np := 1) (as := [va_rf r102]) (rest := [.int x116, .int a1]) dX2_isConsistent_69 ht (q := (RX2, TX2, 10)) rfl (c_X2_blocksBeneathByMetres (by decide) a0 r102 h117) rfl rfl q1951 q1952 q1953 rfl (by simp [zcat_rf, zcat_i, zcat_l, zcat_f, zcat_d]) (zkI (fun x118 h119 => ?_)) zxo
        refine s_icmp_ne (pc := 72) (tgt := 79) dX2_isConsistent_72 (by decide) (fun _ => ?_) (fun _ => ?_)
        · refine s_iconst (pc := 79) (v := 0) dX2_isConsistent_79 (by decide) ?_
          exact s_sub (pc := 80) [1, 3] rfl (w_X2_isConsistent_80 (f_X2_isConsistent_42 n) ih a0 a2 0 a1 h119)
        · refine s_iconst (pc := 75) (v := 1) dX2_isConsistent_75 (by decide) ?_
          refine s_goto (pc := 76) (tgt := 80) dX2_isConsistent_76 (by decide) ?_
          exact s_sub (pc := 80) [1, 3] rfl (w_X2_isConsistent_80 (f_X2_isConsistent_42 n) ih a0 a2 1 a1 h119)
      refine zS_ite (fun ht => ?_) (fun _ => zS_none)
      refine s_callF (pc := 52) (np := 0) (as := []) (rest := []) dX2_isConsistent_52 ht (q := (RJ22, TJ22, 5)) rfl (c_J22_next (by decide) a2 h13) ⟨_, _, _, q832⟩ rfl rfl q670 (by decide +kernel) q830 q828 rfl (by decide) (zkR (fun r102 h103 => ?_)) zxo
      refine s_cast (pc := 57) dX2_isConsistent_57 q836 zcs_FloatingDock_Ship ?_
      refine s_ast_n (pc := 60) (L2 := [(0, va_rf a0), (1, .int a1), (2, va_rf a2)]) [0, 1, 2] dX2_isConsistent_60 rfl (by decide) rfl rfl (zcB (j := 2) rfl (zcat_rf a2) rfl) ?_
      refine s_iload_n (pc := 61) 2 dX2_isConsistent_61 rfl rfl ?_
      refine s_aload_n (pc := 62) 1 dX2_isConsistent_62 rfl rfl ?_
      refine s_aload_n (pc := 63) 0 dX2_isConsistent_63 rfl rfl ?_
      refine zS_ite (fun ht => ?_) (fun _ => zS_none)
      refine s_callV (pc := 64) (np := 1) (as := [va_rf r102]) (rest := [.int a1]) dX2_isConsistent_64 ht (q := (RX2, TX2, 10)) rfl (c_X2_blocksBeneath (by decide) a0 r102 h103) rfl rfl q1946 q1947 q1948 rfl (by simp [zcat_rf, zcat_i, zcat_l, zcat_f, zcat_d]) (zkI (fun x120 h121 => ?_)) zxo
      refine s_aload_n (pc := 67) 1 dX2_isConsistent_67 rfl rfl ?_
      refine s_aload_n (pc := 68) 0 dX2_isConsistent_68 rfl rfl ?_
      refine zS_ite (fun ht => ?_) (fun _ => zS_none)
      refine s_callV (pc := 69) (np := 1) (as := [va_rf r102]) (rest := [.int x120, .int a1]) dX2_isConsistent_69 ht (q := (RX2, TX2, 10)) rfl (c_X2_blocksBeneathByMetres (by decide) a0 r102 h121) rfl rfl q1951 q1952 q1953 rfl (by simp [zcat_rf, zcat_i, zcat_l, zcat_f, zcat_d]) (zkI (fun x122 h123 => ?_)) zxo
      refine s_icmp_ne (pc := 72) (tgt := 79) dX2_isConsistent_72 (by decide) (fun _ => ?_) (fun _ => ?_)
      · refine s_iconst (pc := 79) (v := 0) dX2_isConsistent_79 (by decide) ?_
        exact s_sub (pc := 80) [1, 3] rfl (w_X2_isConsistent_80 (f_X2_isConsistent_42 n) ih a0 a2 0 a1 h123)
      · refine s_iconst (pc := 75) (v := 1) dX2_isConsistent_75 (by decide) ?_
        refine s_goto (pc := 76) (tgt := 80) dX2_isConsistent_76 (by decide) ?_
        exact s_sub (pc := 80) [1, 3] rfl (w_X2_isConsistent_80 (f_X2_isConsistent_42 n) ih a0 a2 1 a1 h123)
theorem w_X2_isConsistent_28 (a0 : Option Nat) (s0 : Int32) (h : zH) : zS D z yX2_isConsistent cX2_isConsistent 4 (some .boolean) [] 12 h 28 [(0, va_rf a0)] [.int s0] (f_X2_isConsistent_28 a0 s0 h) := by
  unfold f_X2_isConsistent_28
  refine s_ist_n (pc := 28) (L2 := [(0, va_rf a0)]) [0] dX2_isConsistent_28 rfl (by decide) rfl rfl (zcB (j := 0) rfl (zcat_rf a0) rfl) ?_
  refine s_aload_n (pc := 29) 1 dX2_isConsistent_29 rfl rfl ?_
  refine s_gR (pc := 30) dX2_isConsistent_30 gf_X2_12 (fun r7 => ?_)
  refine zS_ite (fun ht => ?_) (fun _ => zS_none)
  refine s_callV (pc := 33) (np := 0) (as := []) (rest := []) dX2_isConsistent_33 ht (q := (RJ2, TJ2, 12)) rfl (c_J2_values (by decide) r7 h) rfl rfl q413 q414 q415 rfl (by decide) (zkR (fun r8 h9 => ?_)) zxo
  refine zS_ite (fun ht => ?_) (fun _ => zS_none)
  refine s_callF (pc := 36) (np := 0) (as := []) (rest := []) dX2_isConsistent_36 ht (q := (RJ13, TJ13, 2)) rfl (c_J13_iterator (by decide) r8 h9) ⟨_, _, _, q615⟩ rfl rfl q436 (by decide +kernel) q613 q611 rfl (by decide) (zkR (fun r10 h11 => ?_)) zxo
  refine s_ast_n (pc := 41) (L2 := [(1, .int s0), (0, va_rf a0)]) [0, 1] dX2_isConsistent_41 rfl (by decide) rfl rfl (zcB (j := 0) rfl rfl rfl) ?_
  exact s_sub (pc := 42) [2, 1, 0] rfl (w_X2_isConsistent_42 zfuel a0 s0 r10 h11)
theorem w_X2_isConsistent_27 (a0 : Option Nat) (h : zH) : zS D z yX2_isConsistent cX2_isConsistent 4 (some .boolean) [] 12 h 27 [(0, va_rf a0)] [] (f_X2_isConsistent_27 a0 h) := by
  unfold f_X2_isConsistent_27
  refine s_iconst (pc := 27) (v := 0) dX2_isConsistent_27 (by decide) ?_
  exact s_sub (pc := 28) [0] rfl (w_X2_isConsistent_28 a0 0 h)
theorem w_X2_isConsistent (v0 : Option Nat) (h : zH) : zS D z yX2_isConsistent cX2_isConsistent 4 (some .boolean) [] 12 h 0 [(0, va_rf v0)] [] (f_X2_isConsistent v0 h) := by
  unfold f_X2_isConsistent
  refine s_aload_n (pc := 0) 0 dX2_isConsistent_0 rfl rfl ?_
  refine zS_ite (fun ht => ?_) (fun _ => zS_none)
  refine s_callV (pc := 1) (np := 0) (as := []) (rest := []) dX2_isConsistent_1 ht (q := (RX2, TX2, 10)) rfl (c_X2_areApart (by decide) v0 h) rfl rfl q1941 q1943 qs13 rfl (by decide) (zkI (fun x1 h2 => ?_)) zxo
  refine s_if_eq (pc := 4) (tgt := 27) dX2_isConsistent_4 (by decide) (fun _ => ?_) (fun _ => ?_)
  · exact s_sub (pc := 27) [0] rfl (w_X2_isConsistent_27 v0 h2)
  · refine s_aload_n (pc := 7) 0 dX2_isConsistent_7 rfl rfl ?_
    refine zS_ite (fun ht => ?_) (fun _ => zS_none)
    refine s_callV (pc := 8) (np := 0) (as := []) (rest := []) dX2_isConsistent_8 ht (q := (RX2, TX2, 10)) rfl (c_X2_bills (by decide) v0 h2) rfl rfl q1945 q1483 q1484 rfl (by decide) (zkI (fun x3 h4 => ?_)) zxo
    refine s_aload_n (pc := 11) 0 dX2_isConsistent_11 rfl rfl ?_
    refine s_gI (pc := 12) dX2_isConsistent_12 gf_X2_90 (fun x5 => ?_)
    refine s_aload_n (pc := 15) 0 dX2_isConsistent_15 rfl rfl ?_
    refine s_gI (pc := 16) dX2_isConsistent_16 gf_X2_93 (fun x6 => ?_)
    refine s_isub (pc := 19) dX2_isConsistent_19 ?_
    refine s_icmp_ne (pc := 20) (tgt := 27) dX2_isConsistent_20 (by decide) (fun _ => ?_) (fun _ => ?_)
    · exact s_sub (pc := 27) [0] rfl (w_X2_isConsistent_27 v0 h4)
    · refine s_iconst (pc := 23) (v := 1) dX2_isConsistent_23 (by decide) ?_
      refine s_goto (pc := 24) (tgt := 28) dX2_isConsistent_24 (by decide) ?_
      exact s_sub (pc := 28) [0] rfl (w_X2_isConsistent_28 v0 1 h4)
theorem c_X2_isConsistent {d0 : Nat} (hd0 : 12 < d0) (v0 : Option Nat) (h : zH) : zCal D z d0 h yX2_isConsistent [va_rf v0] (f_X2_isConsistent v0 h) :=
  ⟨cX2_isConsistent, 4, (some .boolean), [], 12, (show lv_args 0 [va_rf v0] = [(0, va_rf v0)] by simp [lv_args, zcat_rf, zcat_i, zcat_l, zcat_f, zcat_d]) ▸ w_X2_isConsistent v0 h, (plainFor_of_name (by decide)), by simp [lg_sl, zcat_rf, zcat_i, zcat_l, zcat_f, zcat_d], q1940, q96, hd0, by decide, by decide⟩
theorem w_X2_areGapsAlike_63 (K4 : Option Nat → Option Nat → Int32 → Int32 → zH → zO) (hK4 : ∀ (a0 : Option Nat) (a1 : Option Nat) (a2 : Int32) (a3 : Int32) (h : zH), zS D z yX2_areGapsAlike cX2_areGapsAlike 8 (some .boolean) [] 15 h 4 [(0, va_rf a0), (1, va_rf a1), (2, .int a2), (3, .int a3)] [] (K4 a0 a1 a2 a3 h)) (K21 : Option Nat → Option Nat → Int32 → Int32 → Option Nat → Int32 → Int32 → zH → zO) (hK21 : ∀ (a0 : Option Nat) (a1 : Option Nat) (a2 : Int32) (a3 : Int32) (a4 : Option Nat) (a5 : Int32) (a6 : Int32) (h : zH), zS D z yX2_areGapsAlike cX2_areGapsAlike 8 (some .boolean) [] 15 h 21 [(0, va_rf a0), (1, va_rf a1), (2, .int a2), (3, .int a3), (4, va_rf a4), (5, .int a5), (6, .int a6)] [] (K21 a0 a1 a2 a3 a4 a5 a6 h)) (a0 : Option Nat) (a1 : Option Nat) (a3 : Int32) (a4 : Option Nat) (a5 : Int32) (a6 : Int32) (s0 : Int32) (s1 : Int32) (h : zH) : zS D z yX2_areGapsAlike cX2_areGapsAlike 8 (some .boolean) [] 15 h 63 [(0, va_rf a0), (1, va_rf a1), (3, .int a3), (4, va_rf a4), (5, .int a5), (6, .int a6)] [.int s0, .int s1] (f_X2_areGapsAlike_63 K4 K21 a0 a1 a3 a4 a5 a6 s0 s1 h) := by
  unfold f_X2_areGapsAlike_63
  refine s_iand (pc := 63) dX2_areGapsAlike_63 ?_
  refine s_nm (pc := 64) Value.int (fun x8 => ?_)
  refine s_ist_n (pc := 64) (L2 := [(0, va_rf a0), (1, va_rf a1), (3, .int a3), (4, va_rf a4), (5, .int a5), (6, .int a6)]) [0, 1, 2, 3, 4, 5] dX2_areGapsAlike_64 rfl (by decide) rfl rfl (zcB (j := 1) rfl (zcat_rf a1) rfl) ?_
  refine s_inc (pc := 65) (v := 1) (L2 := [(2, .int x8), (0, va_rf a0), (1, va_rf a1), (3, .int a3), (4, va_rf a4), (5, .int a5)]) 6 [0, 1, 2, 3, 4, 5] dX2_areGapsAlike_65 rfl (by decide) (by decide) rfl rfl (zcB (j := 5) rfl rfl rfl) (fun x9 => ?_)
  refine s_goto (pc := 68) (tgt := 21) dX2_areGapsAlike_68 (by decide) ?_
  exact s_sub (pc := 21) [2, 3, 1, 4, 5, 6, 0] rfl (hK21 a0 a1 x8 a3 a4 a5 x9 h)
theorem w_X2_areGapsAlike_71 (K4 : Option Nat → Option Nat → Int32 → Int32 → zH → zO) (hK4 : ∀ (a0 : Option Nat) (a1 : Option Nat) (a2 : Int32) (a3 : Int32) (h : zH), zS D z yX2_areGapsAlike cX2_areGapsAlike 8 (some .boolean) [] 15 h 4 [(0, va_rf a0), (1, va_rf a1), (2, .int a2), (3, .int a3)] [] (K4 a0 a1 a2 a3 h)) (a0 : Option Nat) (a1 : Option Nat) (a2 : Int32) (a3 : Int32) (h : zH) : zS D z yX2_areGapsAlike cX2_areGapsAlike 8 (some .boolean) [] 15 h 71 [(0, va_rf a0), (1, va_rf a1), (2, .int a2), (3, .int a3)] [] (f_X2_areGapsAlike_71 K4 a0 a1 a2 a3 h) := by
  unfold f_X2_areGapsAlike_71
  refine s_inc (pc := 71) (v := 1) (L2 := [(0, va_rf a0), (1, va_rf a1), (2, .int a2)]) 3 [0, 1, 2] dX2_areGapsAlike_71 rfl (by decide) (by decide) rfl rfl (zcB (j := 2) rfl rfl rfl) (fun x10 => ?_)
  refine s_goto (pc := 74) (tgt := 4) dX2_areGapsAlike_74 (by decide) ?_
  exact s_sub (pc := 4) [1, 2, 3, 0] rfl (hK4 a0 a1 a2 x10 h)
theorem w_X2_areGapsAlike_21 (K4 : Option Nat → Option Nat → Int32 → Int32 → zH → zO) (hK4 : ∀ (a0 : Option Nat) (a1 : Option Nat) (a2 : Int32) (a3 : Int32) (h : zH), zS D z yX2_areGapsAlike cX2_areGapsAlike 8 (some .boolean) [] 15 h 4 [(0, va_rf a0), (1, va_rf a1), (2, .int a2), (3, .int a3)] [] (K4 a0 a1 a2 a3 h)) : ∀ (n : Nat) (a0 : Option Nat) (a1 : Option Nat) (a2 : Int32) (a3 : Int32) (a4 : Option Nat) (a5 : Int32) (a6 : Int32) (h : zH), zS D z yX2_areGapsAlike cX2_areGapsAlike 8 (some .boolean) [] 15 h 21 [(0, va_rf a0), (1, va_rf a1), (2, .int a2), (3, .int a3), (4, va_rf a4), (5, .int a5), (6, .int a6)] [] (f_X2_areGapsAlike_21 K4 n a0 a1 a2 a3 a4 a5 a6 h) := by
  intro n
  induction n with
  | zero => intros; exact zS_none
  | succ n ih =>
    intro a0 a1 a2 a3 a4 a5 a6 h
    rw [f_X2_areGapsAlike_21.eq_2]
    refine s_iload (pc := 21) 6 dX2_areGapsAlike_21 rfl ?_
    refine s_iload (pc := 23) 5 dX2_areGapsAlike_23 rfl ?_
    refine s_icmp_ge (pc := 25) (tgt := 71) dX2_areGapsAlike_25 (by decide) (fun _ => ?_) (fun _ => ?_)
    · exact s_sub (pc := 71) [0, 1, 2, 3] rfl (w_X2_areGapsAlike_71 K4 hK4 a0 a1 a2 a3 h)
    · refine s_aload (pc := 28) 4 dX2_areGapsAlike_28 rfl ?_
      refine s_iload (pc := 30) 6 dX2_areGapsAlike_30 rfl ?_
      refine s_aald (pc := 32) dX2_areGapsAlike_32 zrefs_ok (fun r2 => ?_)
      refine s_ast (pc := 33) (L2 := [(0, va_rf a0), (1, va_rf a1), (2, .int a2), (3, .int a3), (4, va_rf a4), (5, .int a5), (6, .int a6)]) [0, 1, 2, 3, 4, 5, 6] dX2_areGapsAlike_33 (by decide) rfl rfl (zcB (j := 6) rfl rfl rfl) ?_
      refine s_iload_n (pc := 35) 3 dX2_areGapsAlike_35 rfl rfl ?_
      refine s_aload (pc := 36) 0 dX2_areGapsAlike_36 rfl ?_
      refine s_aload_n (pc := 38) 1 dX2_areGapsAlike_38 rfl rfl ?_
      refine s_iload_n (pc := 39) 4 dX2_areGapsAlike_39 rfl rfl ?_
      refine s_callL (pc := 40) (np := 2) (as := [va_rf a0, .int a3]) (rest := [.int a2]) (d' := 14) dX2_areGapsAlike_40 (by decide) (c_gf_find (by decide) r2 a0 a3 h) rfl rfl q1985 rfl (by simp [zcat_rf, zcat_i, zcat_l, zcat_f, zcat_d]) (zkI (fun x3 h4 => ?_)) zxo
      refine s_aload_n (pc := 45) 2 dX2_areGapsAlike_45 rfl rfl ?_
      refine s_iconst (pc := 46) (v := 0) dX2_areGapsAlike_46 (by decide) ?_
      refine s_aald (pc := 47) dX2_areGapsAlike_47 zrefs_ok (fun r5 => ?_)
      refine s_aload_n (pc := 48) 1 dX2_areGapsAlike_48 rfl rfl ?_
      refine s_iload_n (pc := 49) 4 dX2_areGapsAlike_49 rfl rfl ?_
      refine s_callL (pc := 50) (np := 2) (as := [va_rf a0, .int a3]) (rest := [.int x3, .int a2]) (d' := 14) dX2_areGapsAlike_50 (by decide) (c_gf_find (by decide) r5 a0 a3 h4) rfl rfl q1985 rfl (by simp [zcat_rf, zcat_i, zcat_l, zcat_f, zcat_d]) (zkI (fun x6 h7 => ?_)) zxo
      refine s_icmp_ne (pc := 55) (tgt := 62) dX2_areGapsAlike_55 (by decide) (fun _ => ?_) (fun _ => ?_)
      · refine s_iconst (pc := 62) (v := 0) dX2_areGapsAlike_62 (by decide) ?_
        exact s_sub (pc := 63) [1, 2, 4, 5, 6, 7] rfl (w_X2_areGapsAlike_63 K4 hK4 (f_X2_areGapsAlike_21 K4 n) ih a0 a1 a3 a4 a5 a6 0 a2 h7)
      · refine s_iconst (pc := 58) (v := 1) dX2_areGapsAlike_58 (by decide) ?_
        refine s_goto (pc := 59) (tgt := 63) dX2_areGapsAlike_59 (by decide) ?_
        exact s_sub (pc := 63) [1, 2, 4, 5, 6, 7] rfl (w_X2_areGapsAlike_63 K4 hK4 (f_X2_areGapsAlike_21 K4 n) ih a0 a1 a3 a4 a5 a6 1 a2 h7)
theorem w_X2_areGapsAlike_4 : ∀ (n : Nat) (a0 : Option Nat) (a1 : Option Nat) (a2 : Int32) (a3 : Int32) (h : zH), zS D z yX2_areGapsAlike cX2_areGapsAlike 8 (some .boolean) [] 15 h 4 [(0, va_rf a0), (1, va_rf a1), (2, .int a2), (3, .int a3)] [] (f_X2_areGapsAlike_4 n a0 a1 a2 a3 h) := by
  intro n
  induction n with
  | zero => intros; exact zS_none
  | succ n ih =>
    intro a0 a1 a2 a3 h
    rw [f_X2_areGapsAlike_4.eq_2]
    refine s_iload_n (pc := 4) 3 dX2_areGapsAlike_4 rfl rfl ?_
    refine s_bipush (pc := 5) (v := 60) dX2_areGapsAlike_5 (by decide) ?_
    refine s_icmp_gt (pc := 7) (tgt := 77) dX2_areGapsAlike_7 (by decide) (fun _ => ?_) (fun _ => ?_)
    · refine s_iload_n (pc := 77) 2 dX2_areGapsAlike_77 rfl rfl ?_
      exact s_nret (pc := 78) dX2_areGapsAlike_78 rfl
    · refine s_aload_n (pc := 10) 1 dX2_areGapsAlike_10 rfl rfl ?_
      refine s_ast (pc := 11) (L2 := [(0, va_rf a0), (1, va_rf a1), (2, .int a2), (3, .int a3)]) [0, 1, 2, 3] dX2_areGapsAlike_11 (by decide) rfl rfl (zcB (j := 3) rfl rfl rfl) ?_
      refine s_aload (pc := 13) 0 dX2_areGapsAlike_13 rfl ?_
      refine s_alen (pc := 15) dX2_areGapsAlike_15 zarrs_ok (fun x1 => ?_)
      refine s_ist (pc := 16) (L2 := [(4, va_rf a1), (0, va_rf a0), (1, va_rf a1), (2, .int a2), (3, .int a3)]) [0, 1, 2, 3, 4] dX2_areGapsAlike_16 (by decide) rfl rfl (zcB (j := 0) rfl (zcat_rf a1) rfl) ?_
      refine s_iconst (pc := 18) (v := 0) dX2_areGapsAlike_18 (by decide) ?_
      refine s_ist (pc := 19) (L2 := [(5, .int x1), (4, va_rf a1), (0, va_rf a0), (1, va_rf a1), (2, .int a2), (3, .int a3)]) [0, 1, 2, 3, 4, 5] dX2_areGapsAlike_19 (by decide) rfl rfl (zcB (j := 0) rfl rfl rfl) ?_
      exact s_sub (pc := 21) [3, 4, 5, 6, 2, 1, 0] rfl (w_X2_areGapsAlike_21 (f_X2_areGapsAlike_4 n) ih zfuel a0 a1 a2 a3 a1 x1 0 h)
theorem w_X2_areGapsAlike (v0 : Option Nat) (v1 : Option Nat) (h : zH) : zS D z yX2_areGapsAlike cX2_areGapsAlike 8 (some .boolean) [] 15 h 0 [(0, va_rf v0), (1, va_rf v1)] [] (f_X2_areGapsAlike v0 v1 h) := by
  unfold f_X2_areGapsAlike
  refine s_iconst (pc := 0) (v := 1) dX2_areGapsAlike_0 (by decide) ?_
  refine s_ist_n (pc := 1) (L2 := [(0, va_rf v0), (1, va_rf v1)]) [0, 1] dX2_areGapsAlike_1 rfl (by decide) rfl rfl (zcB (j := 1) rfl (zcat_rf v1) rfl) ?_
  refine s_iconst (pc := 2) (v := 1) dX2_areGapsAlike_2 (by decide) ?_
  refine s_ist_n (pc := 3) (L2 := [(2, .int 1), (0, va_rf v0), (1, va_rf v1)]) [0, 1, 2] dX2_areGapsAlike_3 rfl (by decide) rfl rfl (zcB (j := 0) rfl rfl rfl) ?_
  exact s_sub (pc := 4) [2, 3, 1, 0] rfl (w_X2_areGapsAlike_4 zfuel v0 v1 1 1 h)
theorem c_X2_areGapsAlike {d0 : Nat} (hd0 : 15 < d0) (v0 : Option Nat) (v1 : Option Nat) (h : zH) : zCal D z d0 h yX2_areGapsAlike [va_rf v0, va_rf v1] (f_X2_areGapsAlike v0 v1 h) :=
  ⟨cX2_areGapsAlike, 8, (some .boolean), [], 15, (show lv_args 0 [va_rf v0, va_rf v1] = [(0, va_rf v0), (1, va_rf v1)] by simp [lv_args, zcat_rf, zcat_i, zcat_l, zcat_f, zcat_d]) ▸ w_X2_areGapsAlike v0 v1 h, (plainFor_of_name (by decide)), by simp [lg_sl, zcat_rf, zcat_i, zcat_l, zcat_f, zcat_d], q1983, q96, hd0, by decide, by decide⟩
theorem w_X1_isConsistent_88 (K41 : Option Nat → Int32 → Option Nat → Int32 → Int32 → zH → zO) (hK41 : ∀ (a0 : Option Nat) (a1 : Int32) (a2 : Option Nat) (a3 : Int32) (a4 : Int32) (h : zH), zS D z yX1_isConsistent cX1_isConsistent 6 (some .boolean) [] 20 h 41 [(0, va_rf a0), (1, .int a1), (2, va_rf a2), (3, .int a3), (4, .int a4)] [] (K41 a0 a1 a2 a3 a4 h)) (a0 : Option Nat) (a2 : Option Nat) (a3 : Int32) (a4 : Int32) (s0 : Int32) (s1 : Int32) (h : zH) : zS D z yX1_isConsistent cX1_isConsistent 6 (some .boolean) [] 20 h 88 [(0, va_rf a0), (2, va_rf a2), (3, .int a3), (4, .int a4)] [.int s0, .int s1] (f_X1_isConsistent_88 K41 a0 a2 a3 a4 s0 s1 h) := by
  unfold f_X1_isConsistent_88
  refine s_iand (pc := 88) dX1_isConsistent_88 ?_
  refine s_nm (pc := 89) Value.int (fun x19 => ?_)
  refine s_ist_n (pc := 89) (L2 := [(0, va_rf a0), (2, va_rf a2), (3, .int a3), (4, .int a4)]) [0, 1, 2, 3] dX1_isConsistent_89 rfl (by decide) rfl rfl (zcB (j := 0) rfl (zcat_rf a0) rfl) ?_
  refine s_inc (pc := 90) (v := 1) (L2 := [(1, .int x19), (0, va_rf a0), (2, va_rf a2), (3, .int a3)]) 4 [0, 1, 2, 3] dX1_isConsistent_90 rfl (by decide) (by decide) rfl rfl (zcB (j := 3) rfl rfl rfl) (fun x20 => ?_)
  refine s_goto (pc := 93) (tgt := 41) dX1_isConsistent_93 (by decide) ?_
  exact s_sub (pc := 41) [2, 1, 3, 4, 0] rfl (hK41 a0 x19 a2 a3 x20 h)
theorem w_X1_isConsistent_41 : ∀ (n : Nat) (a0 : Option Nat) (a1 : Int32) (a2 : Option Nat) (a3 : Int32) (a4 : Int32) (h : zH), zS D z yX1_isConsistent cX1_isConsistent 6 (some .boolean) [] 20 h 41 [(0, va_rf a0), (1, .int a1), (2, va_rf a2), (3, .int a3), (4, .int a4)] [] (f_X1_isConsistent_41 n a0 a1 a2 a3 a4 h) := by
  intro n
  induction n with
  | zero => intros; exact zS_none
  | succ n ih =>
    intro a0 a1 a2 a3 a4 h
    rw [f_X1_isConsistent_41.eq_2]
    refine s_iload (pc := 41) 4 dX1_isConsistent_41 rfl ?_
    refine s_iload_n (pc := 43) 3 dX1_isConsistent_43 rfl rfl ?_
    refine s_icmp_ge (pc := 44) (tgt := 96) dX1_isConsistent_44 (by decide) (fun _ => ?_) (fun _ => ?_)
    · refine s_iload_n (pc := 96) 1 dX1_isConsistent_96 rfl rfl ?_
      exact s_nret (pc := 97) dX1_isConsistent_97 rfl
    · refine s_aload_n (pc := 47) 2 dX1_isConsistent_47 rfl rfl ?_
      refine s_iload (pc := 48) 4 dX1_isConsistent_48 rfl ?_
      refine s_aald (pc := 50) dX1_isConsistent_50 zrefs_ok (fun r10 => ?_)
      refine s_ast (pc := 51) (L2 := [(0, va_rf a0), (1, .int a1), (2, va_rf a2), (3, .int a3), (4, .int a4)]) [0, 1, 2, 3, 4] dX1_isConsistent_51 (by decide) rfl rfl (zcB (j := 4) rfl rfl rfl) ?_
      refine s_iload_n (pc := 53) 2 dX1_isConsistent_53 rfl rfl ?_
      refine s_aload (pc := 54) 0 dX1_isConsistent_54 rfl ?_
      refine s_aload_n (pc := 56) 1 dX1_isConsistent_56 rfl rfl ?_
      refine s_gR (pc := 57) dX1_isConsistent_57 gf_X1_30 (fun r11 => ?_)
      refine s_callL (pc := 60) (np := 1) (as := [va_rf r11]) (rest := [.int a1]) (d' := 19) dX1_isConsistent_60 (by decide) (c_pk_most (by decide) r10 r11 h) rfl rfl q1463 rfl (by simp [zcat_rf, zcat_i, zcat_l, zcat_f, zcat_d]) (zkI (fun x12 h13 => ?_)) zxo
      refine s_aload_n (pc := 65) 1 dX1_isConsistent_65 rfl rfl ?_
      refine s_gR (pc := 66) dX1_isConsistent_66 gf_X1_23 (fun r14 => ?_)
      refine s_iconst (pc := 69) (v := 0) dX1_isConsistent_69 (by decide) ?_
      refine s_aald (pc := 70) dX1_isConsistent_70 zrefs_ok (fun r15 => ?_)
      refine s_aload_n (pc := 71) 1 dX1_isConsistent_71 rfl rfl ?_
      refine s_gR (pc := 72) dX1_isConsistent_72 gf_X1_30 (fun r16 => ?_)
      refine s_callL (pc := 75) (np := 1) (as := [va_rf r16]) (rest := [.int x12, .int a1]) (d' := 19) dX1_isConsistent_75 (by decide) (c_pk_most (by decide) r15 r16 h13) rfl rfl q1463 rfl (by simp [zcat_rf, zcat_i, zcat_l, zcat_f, zcat_d]) (zkI (fun x17 h18 => ?_)) zxo
      refine s_icmp_ne (pc := 80) (tgt := 87) dX1_isConsistent_80 (by decide) (fun _ => ?_) (fun _ => ?_)
      · refine s_iconst (pc := 87) (v := 0) dX1_isConsistent_87 (by decide) ?_
        exact s_sub (pc := 88) [1, 3, 4, 5] rfl (w_X1_isConsistent_88 (f_X1_isConsistent_41 n) ih a0 a2 a3 a4 0 a1 h18)
      · refine s_iconst (pc := 83) (v := 1) dX1_isConsistent_83 (by decide) ?_
        refine s_goto (pc := 84) (tgt := 88) dX1_isConsistent_84 (by decide) ?_
        exact s_sub (pc := 88) [1, 3, 4, 5] rfl (w_X1_isConsistent_88 (f_X1_isConsistent_41 n) ih a0 a2 a3 a4 1 a1 h18)
theorem w_X1_isConsistent_29 (a0 : Option Nat) (s0 : Int32) (h : zH) : zS D z yX1_isConsistent cX1_isConsistent 6 (some .boolean) [] 20 h 29 [(0, va_rf a0)] [.int s0] (f_X1_isConsistent_29 a0 s0 h) := by
  unfold f_X1_isConsistent_29
  refine s_ist_n (pc := 29) (L2 := [(0, va_rf a0)]) [0] dX1_isConsistent_29 rfl (by decide) rfl rfl (zcB (j := 0) rfl (zcat_rf a0) rfl) ?_
  refine s_aload_n (pc := 30) 1 dX1_isConsistent_30 rfl rfl ?_
  refine s_gR (pc := 31) dX1_isConsistent_31 gf_X1_23 (fun r8 => ?_)
  refine s_ast_n (pc := 34) (L2 := [(1, .int s0), (0, va_rf a0)]) [0, 1] dX1_isConsistent_34 rfl (by decide) rfl rfl (zcB (j := 0) rfl rfl rfl) ?_
  refine s_aload_n (pc := 35) 0 dX1_isConsistent_35 rfl rfl ?_
  refine s_alen (pc := 36) dX1_isConsistent_36 zarrs_ok (fun x9 => ?_)
  refine s_ist_n (pc := 37) (L2 := [(2, va_rf r8), (1, .int s0), (0, va_rf a0)]) [0, 1, 2] dX1_isConsistent_37 rfl (by decide) rfl rfl (zcB (j := 0) rfl (zcat_rf r8) rfl) ?_
  refine s_iconst (pc := 38) (v := 0) dX1_isConsistent_38 (by decide) ?_
  refine s_ist (pc := 39) (L2 := [(3, .int x9), (2, va_rf r8), (1, .int s0), (0, va_rf a0)]) [0, 1, 2, 3] dX1_isConsistent_39 (by decide) rfl rfl (zcB (j := 0) rfl rfl rfl) ?_
  exact s_sub (pc := 41) [4, 3, 2, 1, 0] rfl (w_X1_isConsistent_41 zfuel a0 s0 r8 x9 0 h)
theorem w_X1_isConsistent_28 (a0 : Option Nat) (h : zH) : zS D z yX1_isConsistent cX1_isConsistent 6 (some .boolean) [] 20 h 28 [(0, va_rf a0)] [] (f_X1_isConsistent_28 a0 h) := by
  unfold f_X1_isConsistent_28
  refine s_iconst (pc := 28) (v := 0) dX1_isConsistent_28 (by decide) ?_
  exact s_sub (pc := 29) [0] rfl (w_X1_isConsistent_29 a0 0 h)
theorem w_X1_isConsistent (v0 : Option Nat) (h : zH) : zS D z yX1_isConsistent cX1_isConsistent 6 (some .boolean) [] 20 h 0 [(0, va_rf v0)] [] (f_X1_isConsistent v0 h) := by
  unfold f_X1_isConsistent
  refine s_aload_n (pc := 0) 0 dX1_isConsistent_0 rfl rfl ?_
  refine s_gR (pc := 1) dX1_isConsistent_1 gf_X1_30 (fun r1 => ?_)
  refine zS_ite (fun ht => ?_) (fun _ => zS_none)
  refine s_callV (pc := 4) (np := 0) (as := []) (rest := []) dX1_isConsistent_4 ht (q := (RX2, TX2, 10)) rfl (c_X2_isConsistent (by decide) r1 h) rfl rfl q1937 q1938 q1939 rfl (by decide) (zkI (fun x2 h3 => ?_)) zxo
  refine s_if_eq (pc := 7) (tgt := 28) dX1_isConsistent_7 (by decide) (fun _ => ?_) (fun _ => ?_)
  · exact s_sub (pc := 28) [0] rfl (w_X1_isConsistent_28 v0 h3)
  · refine s_aload_n (pc := 10) 0 dX1_isConsistent_10 rfl rfl ?_
    refine s_gR (pc := 11) dX1_isConsistent_11 gf_X1_30 (fun r4 => ?_)
    refine s_aload_n (pc := 14) 0 dX1_isConsistent_14 rfl rfl ?_
    refine s_gR (pc := 15) dX1_isConsistent_15 gf_X1_17 (fun r5 => ?_)
    refine zS_ite (fun ht => ?_) (fun _ => zS_none)
    refine s_callVN (pc := 18) (np := 1) (as := [va_rf r5]) (rest := []) dX1_isConsistent_18 ht (q := (RX2, TX2, 10)) rfl (c_X2_areGapsAlike (by decide) r4 r5 h3) ⟨_, _, _, q1983⟩ rfl rfl q1980 q1982 qs14 rfl (by decide) (zkI (fun x6 h7 => ?_)) zxo
    refine s_if_eq (pc := 21) (tgt := 28) dX1_isConsistent_21 (by decide) (fun _ => ?_) (fun _ => ?_)
    · exact s_sub (pc := 28) [0] rfl (w_X1_isConsistent_28 v0 h7)
    · refine s_iconst (pc := 24) (v := 1) dX1_isConsistent_24 (by decide) ?_
      refine s_goto (pc := 25) (tgt := 29) dX1_isConsistent_25 (by decide) ?_
      exact s_sub (pc := 29) [0] rfl (w_X1_isConsistent_29 v0 1 h7)
theorem c_X1_isConsistent {d0 : Nat} (hd0 : 20 < d0) (v0 : Option Nat) (h : zH) : zCal D z d0 h yX1_isConsistent [va_rf v0] (f_X1_isConsistent v0 h) :=
  ⟨cX1_isConsistent, 6, (some .boolean), [], 20, (show lv_args 0 [va_rf v0] = [(0, va_rf v0)] by simp [lv_args, zcat_rf, zcat_i, zcat_l, zcat_f, zcat_d]) ▸ w_X1_isConsistent v0 h, (plainFor_of_name (by decide)), by simp [lg_sl, zcat_rf, zcat_i, zcat_l, zcat_f, zcat_d], q1936, q95, hd0, by decide, by decide⟩
theorem w_X1_save (v0 : Option Nat) (h : zH) : zS D z yX1_save cX1_save 1 (some .int) [] 11 h 0 [(0, va_rf v0)] [] (f_X1_save v0 h) := by
  unfold f_X1_save
  refine s_aload_n (pc := 0) 0 dX1_save_0 rfl rfl ?_
  refine s_new (pc := 1) dX1_save_1 nf_X1_27 (fun r1 h2 => ?_)
  refine s_dup (pc := 4) dX1_save_4 (zcat_rf _) ?_
  refine s_aload_n (pc := 5) 0 dX1_save_5 rfl rfl ?_
  refine s_gR (pc := 6) dX1_save_6 gf_X1_30 (fun r3 => ?_)
  refine zS_ite (fun hr => ?_) (fun _ => zS_none)
  refine s_callC (pc := 9) (np := 1) (as := [va_rf r3]) (rest := [va_rf r1, va_rf v0]) dX1_save_9 hr (c_X2_init_2 (by decide) r1 r3 h2) ⟨_, _, q1994⟩ rfl rfl rfl q1992 q1993 rfl (by simp [zcat_rf, zcat_i, zcat_l, zcat_f, zcat_d]) (zkV (fun h4 => ?_)) zxo
  refine s_putR (pc := 12) dX1_save_12 pf_X1_351 (fun h5 => ?_)
  refine s_aload_n (pc := 15) 0 dX1_save_15 rfl rfl ?_
  refine s_gR (pc := 16) dX1_save_16 gf_X1_351 (fun r6 => ?_)
  refine s_gR (pc := 19) dX1_save_19 gf_X1_151 (fun r7 => ?_)
  refine zS_ite (fun ht => ?_) (fun _ => zS_none)
  refine s_callVU (pc := 22) (np := 0) (as := []) (rest := []) (owner := "java/util/HashMap") dX1_save_22 ht (q := (RJ2, TJ2, 12)) rfl (c_J1_size (by decide) r7 h5) ⟨_, _, _, q1427⟩ rfl rfl q1422 q1423 (Or.inl ⟨_, _, _, q1426, q1427⟩) (by decide) q1426 q1425 rfl (by decide) (zkI (fun x8 h9 => ?_)) zxo
  exact s_iret (pc := 25) dX1_save_25 rfl
theorem c_X1_save {d0 : Nat} (hd0 : 11 < d0) (v0 : Option Nat) (h : zH) : zCal D z d0 h yX1_save [va_rf v0] (f_X1_save v0 h) :=
  ⟨cX1_save, 1, (some .int), [], 11, (show lv_args 0 [va_rf v0] = [(0, va_rf v0)] by simp [lv_args, zcat_rf, zcat_i, zcat_l, zcat_f, zcat_d]) ▸ w_X1_save v0 h, (plainFor_of_name (by decide)), by simp [lg_sl, zcat_rf, zcat_i, zcat_l, zcat_f, zcat_d], q1991, q95, hd0, by decide, by decide⟩
theorem w_X5_init (v0 : Option Nat) (h : zH) : zS D z yX5_init cX5_init 1 none [] 1 h 0 [(0, va_rf v0)] [] (f_X5_init v0 h) := by
  unfold f_X5_init
  refine s_aload_n (pc := 0) 0 dX5_init_0 rfl rfl ?_
  refine zS_ite (fun hr => ?_) (fun _ => zS_none)
  refine s_objinit (pc := 1) dX5_init_1 hr q3241 q164 q165 (by decide) (by decide) ?_
  refine s_aload_n (pc := 4) 0 dX5_init_4 rfl rfl ?_
  refine s_sipush (pc := 5) (v := 140) dX5_init_5 (by decide) ?_
  refine s_newa (pc := 8) (ty := .int) dX5_init_8 rfl ⟨rfl, by decide⟩ q1350 rfl rfl (fun r1 h2 => ?_)
  refine s_putA (pc := 10) dX5_init_10 pf_X5_9 (fun h3 => ?_)
  refine s_aload_n (pc := 13) 0 dX5_init_13 rfl rfl ?_
  refine s_sipush (pc := 14) (v := 140) dX5_init_14 (by decide) ?_
  refine s_newa (pc := 17) (ty := .int) dX5_init_17 rfl ⟨rfl, by decide⟩ q1350 rfl rfl (fun r4 h5 => ?_)
  refine s_putA (pc := 19) dX5_init_19 pf_X5_13 (fun h6 => ?_)
  refine s_aload_n (pc := 22) 0 dX5_init_22 rfl rfl ?_
  refine s_sipush (pc := 23) (v := 140) dX5_init_23 (by decide) ?_
  refine s_newa (pc := 26) (ty := .int) dX5_init_26 rfl ⟨rfl, by decide⟩ q1350 rfl rfl (fun r7 h8 => ?_)
  refine s_putA (pc := 28) dX5_init_28 pf_X5_16 (fun h9 => ?_)
  refine s_aload_n (pc := 31) 0 dX5_init_31 rfl rfl ?_
  refine s_sipush (pc := 32) (v := 1120) dX5_init_32 (by decide) ?_
  refine s_newa (pc := 35) (ty := .int) dX5_init_35 rfl ⟨rfl, by decide⟩ q1350 rfl rfl (fun r10 h11 => ?_)
  refine s_putA (pc := 37) dX5_init_37 pf_X5_19 (fun h12 => ?_)
  refine s_aload_n (pc := 40) 0 dX5_init_40 rfl rfl ?_
  refine s_iconst (pc := 41) (v := -1) dX5_init_41 (by decide) ?_
  refine s_putI (pc := 42) dX5_init_42 pf_X5_22 (fun h13 => ?_)
  refine s_aload_n (pc := 45) 0 dX5_init_45 rfl rfl ?_
  refine s_iconst (pc := 46) (v := -1) dX5_init_46 (by decide) ?_
  refine s_putI (pc := 47) dX5_init_47 pf_X5_26 (fun h14 => ?_)
  refine s_aload_n (pc := 50) 0 dX5_init_50 rfl rfl ?_
  refine s_bipush (pc := 51) (v := 60) dX5_init_51 (by decide) ?_
  refine s_newa (pc := 53) (ty := .int) dX5_init_53 rfl ⟨rfl, by decide⟩ q1350 rfl rfl (fun r15 h16 => ?_)
  refine s_putA (pc := 55) dX5_init_55 pf_X5_29 (fun h17 => ?_)
  refine s_aload_n (pc := 58) 0 dX5_init_58 rfl rfl ?_
  refine s_bipush (pc := 59) (v := 80) dX5_init_59 (by decide) ?_
  refine s_newa (pc := 61) (ty := .int) dX5_init_61 rfl ⟨rfl, by decide⟩ q1350 rfl rfl (fun r18 h19 => ?_)
  refine s_putA (pc := 63) dX5_init_63 pf_X5_32 (fun h20 => ?_)
  refine s_aload_n (pc := 66) 0 dX5_init_66 rfl rfl ?_
  refine s_sipush (pc := 67) (v := 256) dX5_init_67 (by decide) ?_
  refine s_newa (pc := 70) (ty := .boolean) dX5_init_70 rfl ⟨rfl, by decide⟩ q1417 rfl rfl (fun r21 h22 => ?_)
  refine s_putA (pc := 72) dX5_init_72 pf_X5_35 (fun h23 => ?_)
  refine s_aload_n (pc := 75) 0 dX5_init_75 rfl rfl ?_
  refine s_bipush (pc := 76) (v := 120) dX5_init_76 (by decide) ?_
  refine s_newa (pc := 78) (ty := .int) dX5_init_78 rfl ⟨rfl, by decide⟩ q1350 rfl rfl (fun r24 h25 => ?_)
  refine s_putA (pc := 80) dX5_init_80 pf_X5_39 (fun h26 => ?_)
  refine s_aload_n (pc := 83) 0 dX5_init_83 rfl rfl ?_
  refine s_gR (pc := 84) dX5_init_84 gf_X5_9 (fun r27 => ?_)
  refine s_iconst (pc := 87) (v := 0) dX5_init_87 (by decide) ?_
  refine s_iconst (pc := 88) (v := 3) dX5_init_88 (by decide) ?_
  refine s_iast (pc := 89) dX5_init_89 (ztc rfl zt0) (fun h28 => ?_)
  refine s_aload_n (pc := 90) 0 dX5_init_90 rfl rfl ?_
  refine s_gR (pc := 91) dX5_init_91 gf_X5_9 (fun r29 => ?_)
  refine s_iconst (pc := 94) (v := 1) dX5_init_94 (by decide) ?_
  refine s_bipush (pc := 95) (v := 100) dX5_init_95 (by decide) ?_
  refine s_iast (pc := 97) dX5_init_97 (ztc rfl zt0) (fun h30 => ?_)
  refine s_aload_n (pc := 98) 0 dX5_init_98 rfl rfl ?_
  refine s_gR (pc := 99) dX5_init_99 gf_X5_9 (fun r31 => ?_)
  refine s_iconst (pc := 102) (v := 2) dX5_init_102 (by decide) ?_
  refine s_iconst (pc := 103) (v := 1) dX5_init_103 (by decide) ?_
  refine s_iast (pc := 104) dX5_init_104 (ztc rfl zt0) (fun h32 => ?_)
  exact s_vret (pc := 105) dX5_init_105 rfl
theorem c_X5_init {d0 : Nat} (hd0 : 1 < d0) (v0 : Option Nat) (h : zH) : zCal D z d0 h yX5_init [va_rf v0] (f_X5_init v0 h) :=
  ⟨cX5_init, 1, none, [], 1, (show lv_args 0 [va_rf v0] = [(0, va_rf v0)] by simp [lv_args, zcat_rf, zcat_i, zcat_l, zcat_f, zcat_d]) ▸ w_X5_init v0 h, (plainFor_of_name (by decide)), by simp [lg_sl, zcat_rf, zcat_i, zcat_l, zcat_f, zcat_d], q3240, q140, hd0, by decide, by decide⟩
theorem w_X5_thrown (v0 : Option Nat) (h : zH) : zS D z yX5_thrown cX5_thrown 1 (some .int) [] 1 h 0 [(0, va_rf v0)] [] (f_X5_thrown v0 h) := by
  unfold f_X5_thrown
  refine s_aload_n (pc := 0) 0 dX5_thrown_0 rfl rfl ?_
  refine s_gI (pc := 1) dX5_thrown_1 gf_X5_42 (fun x1 => ?_)
  exact s_iret (pc := 4) dX5_thrown_4 rfl
theorem c_X5_thrown {d0 : Nat} (hd0 : 1 < d0) (v0 : Option Nat) (h : zH) : zCal D z d0 h yX5_thrown [va_rf v0] (f_X5_thrown v0 h) :=
  ⟨cX5_thrown, 1, (some .int), [], 1, (show lv_args 0 [va_rf v0] = [(0, va_rf v0)] by simp [lv_args, zcat_rf, zcat_i, zcat_l, zcat_f, zcat_d]) ▸ w_X5_thrown v0 h, (plainFor_of_name (by decide)), by simp [lg_sl, zcat_rf, zcat_i, zcat_l, zcat_f, zcat_d], q3306, q140, hd0, by decide, by decide⟩
theorem w_X5_holds_35 (a0 : Option Nat) (s0 : Int32) (s1 : Option Nat) (h : zH) : zS D z yX5_holds cX5_holds 5 (some .boolean) [] 1 h 35 [(0, va_rf a0)] [.int s0, va_rf s1] (f_X5_holds_35 a0 s0 s1 h) := by
  unfold f_X5_holds_35
  refine s_putI (pc := 35) dX5_holds_35 pf_X5_42 (fun h1 => ?_)
  refine s_aload_n (pc := 38) 0 dX5_holds_38 rfl rfl ?_
  refine s_gI (pc := 39) dX5_holds_39 gf_X5_42 (fun x2 => ?_)
  refine s_if_ne (pc := 42) (tgt := 49) dX5_holds_42 (by decide) (fun _ => ?_) (fun _ => ?_)
  · refine s_iconst (pc := 49) (v := 0) dX5_holds_49 (by decide) ?_
    exact s_nret (pc := 50) dX5_holds_50 rfl
  · refine s_iconst (pc := 45) (v := 1) dX5_holds_45 (by decide) ?_
    refine s_goto (pc := 46) (tgt := 50) dX5_holds_46 (by decide) ?_
    exact s_nret (pc := 50) dX5_holds_50 rfl
theorem w_X5_holds (v0 : Option Nat) (v1 : Int32) (v2 : Int32) (v3 : Int32) (v4 : Int32) (h : zH) : zS D z yX5_holds cX5_holds 5 (some .boolean) [] 1 h 0 [(0, va_rf v0), (1, .int v1), (2, .int v2), (3, .int v3), (4, .int v4)] [] (f_X5_holds v0 v1 v2 v3 v4 h) := by
  unfold f_X5_holds
  refine s_aload_n (pc := 0) 0 dX5_holds_0 rfl rfl ?_
  refine s_iload_n (pc := 1) 1 dX5_holds_1 rfl rfl ?_
  refine s_if_ne (pc := 2) (tgt := 9) dX5_holds_2 (by decide) (fun _ => ?_) (fun _ => ?_)
  · refine s_iload_n (pc := 9) 2 dX5_holds_9 rfl rfl ?_
    refine s_if_ne (pc := 10) (tgt := 17) dX5_holds_10 (by decide) (fun _ => ?_) (fun _ => ?_)
    · refine s_iload_n (pc := 17) 3 dX5_holds_17 rfl rfl ?_
      refine s_if_ne (pc := 18) (tgt := 25) dX5_holds_18 (by decide) (fun _ => ?_) (fun _ => ?_)
      · refine s_iload (pc := 25) 4 dX5_holds_25 rfl ?_
        refine s_if_ne (pc := 27) (tgt := 34) dX5_holds_27 (by decide) (fun _ => ?_) (fun _ => ?_)
        · refine s_iconst (pc := 34) (v := 0) dX5_holds_34 (by decide) ?_
          exact s_sub (pc := 35) [0] rfl (w_X5_holds_35 v0 0 v0 h)
        · refine s_iconst (pc := 30) (v := 4) dX5_holds_30 (by decide) ?_
          refine s_goto (pc := 31) (tgt := 35) dX5_holds_31 (by decide) ?_
          exact s_sub (pc := 35) [0] rfl (w_X5_holds_35 v0 4 v0 h)
      · refine s_iconst (pc := 21) (v := 3) dX5_holds_21 (by decide) ?_
        refine s_goto (pc := 22) (tgt := 35) dX5_holds_22 (by decide) ?_
        exact s_sub (pc := 35) [0] rfl (w_X5_holds_35 v0 3 v0 h)
    · refine s_iconst (pc := 13) (v := 2) dX5_holds_13 (by decide) ?_
      refine s_goto (pc := 14) (tgt := 35) dX5_holds_14 (by decide) ?_
      exact s_sub (pc := 35) [0] rfl (w_X5_holds_35 v0 2 v0 h)
  · refine s_iconst (pc := 5) (v := 1) dX5_holds_5 (by decide) ?_
    refine s_goto (pc := 6) (tgt := 35) dX5_holds_6 (by decide) ?_
    exact s_sub (pc := 35) [0] rfl (w_X5_holds_35 v0 1 v0 h)
theorem c_X5_holds {d0 : Nat} (hd0 : 1 < d0) (v0 : Option Nat) (v1 : Int32) (v2 : Int32) (v3 : Int32) (v4 : Int32) (h : zH) : zCal D z d0 h yX5_holds [va_rf v0, .int v1, .int v2, .int v3, .int v4] (f_X5_holds v0 v1 v2 v3 v4 h) :=
  ⟨cX5_holds, 5, (some .boolean), [], 1, (show lv_args 0 [va_rf v0, .int v1, .int v2, .int v3, .int v4] = [(0, va_rf v0), (1, .int v1), (2, .int v2), (3, .int v3), (4, .int v4)] by simp [lv_args, zcat_rf, zcat_i, zcat_l, zcat_f, zcat_d]) ▸ w_X5_holds v0 v1 v2 v3 v4 h, (plainFor_of_name (by decide)), by simp [lg_sl, zcat_rf, zcat_i, zcat_l, zcat_f, zcat_d], q3318, q140, hd0, by decide, by decide⟩
theorem w_X5_goes (v0 : Option Nat) (v1 : Int32) (h : zH) : zS D z yX5_goes cX5_goes 2 (some .boolean) [] 2 h 0 [(0, va_rf v0), (1, .int v1)] [] (f_X5_goes v0 v1 h) := by
  unfold f_X5_goes
  refine s_aload_n (pc := 0) 0 dX5_goes_0 rfl rfl ?_
  refine s_iload_n (pc := 1) 1 dX5_goes_1 rfl rfl ?_
  refine s_iconst (pc := 2) (v := 1) dX5_goes_2 (by decide) ?_
  refine s_iconst (pc := 3) (v := 1) dX5_goes_3 (by decide) ?_
  refine s_iconst (pc := 4) (v := 1) dX5_goes_4 (by decide) ?_
  refine zS_ite (fun ht => ?_) (fun _ => zS_none)
  refine s_callV (pc := 5) (np := 4) (as := [.int v1, .int 1, .int 1, .int 1]) (rest := []) dX5_goes_5 ht (q := (RX5, TX5, 20)) rfl (c_X5_holds (by decide) v0 v1 1 1 1 h) rfl rfl q3315 q3317 qs45 rfl (by decide) (zkI (fun x1 h2 => ?_)) zxo
  exact s_nret (pc := 8) dX5_goes_8 rfl
theorem c_X5_goes {d0 : Nat} (hd0 : 2 < d0) (v0 : Option Nat) (v1 : Int32) (h : zH) : zCal D z d0 h yX5_goes [va_rf v0, .int v1] (f_X5_goes v0 v1 h) :=
  ⟨cX5_goes, 2, (some .boolean), [], 2, (show lv_args 0 [va_rf v0, .int v1] = [(0, va_rf v0), (1, .int v1)] by simp [lv_args, zcat_rf, zcat_i, zcat_l, zcat_f, zcat_d]) ▸ w_X5_goes v0 v1 h, (plainFor_of_name (by decide)), by simp [lg_sl, zcat_rf, zcat_i, zcat_l, zcat_f, zcat_d], q3314, q140, hd0, by decide, by decide⟩
theorem w_X5_copies_3 : ∀ (n : Nat) (a0 : Option Nat) (a1 : Int32) (a2 : Option Nat) (a3 : Int32) (a4 : Int32) (h : zH), zS D z yX5_copies cX5_copies 5 none [] 1 h 3 [(0, va_rf a0), (1, .int a1), (2, va_rf a2), (3, .int a3), (4, .int a4)] [] (f_X5_copies_3 n a0 a1 a2 a3 a4 h) := by
  intro n
  induction n with
  | zero => intros; exact zS_none
  | succ n ih =>
    intro a0 a1 a2 a3 a4 h
    rw [f_X5_copies_3.eq_2]
    refine s_iload (pc := 3) 4 dX5_copies_3 rfl ?_
    refine s_sipush (pc := 5) (v := 140) dX5_copies_5 (by decide) ?_
    refine s_icmp_ge (pc := 8) (tgt := 29) dX5_copies_8 (by decide) (fun _ => ?_) (fun _ => ?_)
    · exact s_vret (pc := 29) dX5_copies_29 rfl
    · refine s_aload_n (pc := 11) 2 dX5_copies_11 rfl rfl ?_
      refine s_iload_n (pc := 12) 3 dX5_copies_12 rfl rfl ?_
      refine s_iload (pc := 13) 4 dX5_copies_13 rfl ?_
      refine s_iadd (pc := 15) dX5_copies_15 ?_
      refine s_aload_n (pc := 16) 0 dX5_copies_16 rfl rfl ?_
      refine s_iload_n (pc := 17) 1 dX5_copies_17 rfl rfl ?_
      refine s_iload (pc := 18) 4 dX5_copies_18 rfl ?_
      refine s_iadd (pc := 20) dX5_copies_20 ?_
      refine s_iald (pc := 21) dX5_copies_21 (ztc rfl zt0) (fun x1 => ?_)
      refine s_iast (pc := 22) dX5_copies_22 (ztc rfl zt0) (fun h2 => ?_)
      refine s_inc (pc := 23) (v := 1) (L2 := [(0, va_rf a0), (1, .int a1), (2, va_rf a2), (3, .int a3)]) 4 [0, 1, 2, 3] dX5_copies_23 rfl (by decide) (by decide) rfl rfl (zcB (j := 3) rfl rfl rfl) (fun x3 => ?_)
      refine s_goto (pc := 26) (tgt := 3) dX5_copies_26 (by decide) ?_
      exact s_sub (pc := 3) [1, 2, 3, 4, 0] rfl (ih a0 a1 a2 a3 x3 h2)
theorem w_X5_copies (v0 : Option Nat) (v1 : Int32) (v2 : Option Nat) (v3 : Int32) (h : zH) : zS D z yX5_copies cX5_copies 5 none [] 1 h 0 [(0, va_rf v0), (1, .int v1), (2, va_rf v2), (3, .int v3)] [] (f_X5_copies v0 v1 v2 v3 h) := by
  unfold f_X5_copies
  refine s_iconst (pc := 0) (v := 0) dX5_copies_0 (by decide) ?_
  refine s_ist (pc := 1) (L2 := [(0, va_rf v0), (1, .int v1), (2, va_rf v2), (3, .int v3)]) [0, 1, 2, 3] dX5_copies_1 (by decide) rfl rfl (zcB (j := 3) rfl rfl rfl) ?_
  exact s_sub (pc := 3) [1, 2, 3, 4, 0] rfl (w_X5_copies_3 zfuel v0 v1 v2 v3 0 h)
theorem c_X5_copies {d0 : Nat} (hd0 : 1 < d0) (v0 : Option Nat) (v1 : Int32) (v2 : Option Nat) (v3 : Int32) (h : zH) : zCal D z d0 h yX5_copies [va_rf v0, .int v1, va_rf v2, .int v3] (f_X5_copies v0 v1 v2 v3 h) :=
  ⟨cX5_copies, 5, none, [], 1, (show lv_args 0 [va_rf v0, .int v1, va_rf v2, .int v3] = [(0, va_rf v0), (1, .int v1), (2, va_rf v2), (3, .int v3)] by simp [lv_args, zcat_rf, zcat_i, zcat_l, zcat_f, zcat_d]) ▸ w_X5_copies v0 v1 v2 v3 h, (plainFor_of_name (by decide)), by simp [lg_sl, zcat_rf, zcat_i, zcat_l, zcat_f, zcat_d], q3321, q140, hd0, by decide, by decide⟩
theorem w_X5_undo_13 (a0 : Option Nat) (s0 : Int32) (s1 : Option Nat) (h : zH) : zS D z yX5_undo cX5_undo 1 (some .int) [] 3 h 13 [(0, va_rf a0)] [.int s0, va_rf s1] (f_X5_undo_13 a0 s0 s1 h) := by
  unfold f_X5_undo_13
  refine zS_ite (fun ht => ?_) (fun _ => zS_none)
  refine s_callV (pc := 13) (np := 1) (as := [.int s0]) (rest := []) dX5_undo_13 ht (q := (RX5, TX5, 20)) rfl (c_X5_goes (by decide) s1 s0 h) rfl rfl q3311 q3313 qs44 rfl (by decide) (zkI (fun x2 h3 => ?_)) zxo
  refine s_if_ne (pc := 16) (tgt := 21) dX5_undo_16 (by decide) (fun _ => ?_) (fun _ => ?_)
  · refine s_aload_n (pc := 21) 0 dX5_undo_21 rfl rfl ?_
    refine s_dup (pc := 22) dX5_undo_22 (zcat_rf _) ?_
    refine s_gI (pc := 23) dX5_undo_23 gf_X5_53 (fun x4 => ?_)
    refine s_iconst (pc := 26) (v := 1) dX5_undo_26 (by decide) ?_
    refine s_isub (pc := 27) dX5_undo_27 ?_
    refine s_putI (pc := 28) dX5_undo_28 pf_X5_53 (fun h5 => ?_)
    refine s_aload_n (pc := 31) 0 dX5_undo_31 rfl rfl ?_
    refine s_gR (pc := 32) dX5_undo_32 gf_X5_19 (fun r6 => ?_)
    refine s_aload_n (pc := 35) 0 dX5_undo_35 rfl rfl ?_
    refine s_gI (pc := 36) dX5_undo_36 gf_X5_53 (fun x7 => ?_)
    refine s_sipush (pc := 39) (v := 140) dX5_undo_39 (by decide) ?_
    refine s_imul (pc := 42) dX5_undo_42 ?_
    refine s_aload_n (pc := 43) 0 dX5_undo_43 rfl rfl ?_
    refine s_gR (pc := 44) dX5_undo_44 gf_X5_9 (fun r8 => ?_)
    refine s_iconst (pc := 47) (v := 0) dX5_undo_47 (by decide) ?_
    refine s_callSS (pc := 48) (np := 4) (as := [va_rf r6, .int (x7 * 140), va_rf r8, .int 0]) (rest := []) dX5_undo_48 (c_X5_copies (by decide) r6 (x7 * 140) r8 0 h5) rfl rfl q3319 q3320 rfl (by decide) (zkV (fun h9 => ?_)) zxo
    refine s_aload_n (pc := 51) 0 dX5_undo_51 rfl rfl ?_
    refine s_gI (pc := 52) dX5_undo_52 gf_X5_53 (fun x10 => ?_)
    exact s_iret (pc := 55) dX5_undo_55 rfl
  · refine s_iconst (pc := 19) (v := 0) dX5_undo_19 (by decide) ?_
    exact s_iret (pc := 20) dX5_undo_20 rfl
theorem w_X5_undo (v0 : Option Nat) (h : zH) : zS D z yX5_undo cX5_undo 1 (some .int) [] 3 h 0 [(0, va_rf v0)] [] (f_X5_undo v0 h) := by
  unfold f_X5_undo
  refine s_aload_n (pc := 0) 0 dX5_undo_0 rfl rfl ?_
  refine s_aload_n (pc := 1) 0 dX5_undo_1 rfl rfl ?_
  refine s_gI (pc := 2) dX5_undo_2 gf_X5_53 (fun x1 => ?_)
  refine s_if_le (pc := 5) (tgt := 12) dX5_undo_5 (by decide) (fun _ => ?_) (fun _ => ?_)
  · refine s_iconst (pc := 12) (v := 0) dX5_undo_12 (by decide) ?_
    exact s_sub (pc := 13) [0] rfl (w_X5_undo_13 v0 0 v0 h)
  · refine s_iconst (pc := 8) (v := 1) dX5_undo_8 (by decide) ?_
    refine s_goto (pc := 9) (tgt := 13) dX5_undo_9 (by decide) ?_
    exact s_sub (pc := 13) [0] rfl (w_X5_undo_13 v0 1 v0 h)
theorem c_X5_undo {d0 : Nat} (hd0 : 3 < d0) (v0 : Option Nat) (h : zH) : zCal D z d0 h yX5_undo [va_rf v0] (f_X5_undo v0 h) :=
  ⟨cX5_undo, 1, (some .int), [], 3, (show lv_args 0 [va_rf v0] = [(0, va_rf v0)] by simp [lv_args, zcat_rf, zcat_i, zcat_l, zcat_f, zcat_d]) ▸ w_X5_undo v0 h, (plainFor_of_name (by decide)), by simp [lg_sl, zcat_rf, zcat_i, zcat_l, zcat_f, zcat_d], q3310, q140, hd0, by decide, by decide⟩
theorem w_X5_save (v0 : Option Nat) (h : zH) : zS D z yX5_save cX5_save 1 (some .int) [] 2 h 0 [(0, va_rf v0)] [] (f_X5_save v0 h) := by
  unfold f_X5_save
  refine s_aload_n (pc := 0) 0 dX5_save_0 rfl rfl ?_
  refine s_iconst (pc := 1) (v := 0) dX5_save_1 (by decide) ?_
  refine s_putI (pc := 2) dX5_save_2 pf_X5_42 (fun h1 => ?_)
  refine s_aload_n (pc := 5) 0 dX5_save_5 rfl rfl ?_
  refine s_gR (pc := 6) dX5_save_6 gf_X5_9 (fun r2 => ?_)
  refine s_iconst (pc := 9) (v := 0) dX5_save_9 (by decide) ?_
  refine s_aload_n (pc := 10) 0 dX5_save_10 rfl rfl ?_
  refine s_gR (pc := 11) dX5_save_11 gf_X5_16 (fun r3 => ?_)
  refine s_iconst (pc := 14) (v := 0) dX5_save_14 (by decide) ?_
  refine s_callSS (pc := 15) (np := 4) (as := [va_rf r2, .int 0, va_rf r3, .int 0]) (rest := []) dX5_save_15 (c_X5_copies (by decide) r2 0 r3 0 h1) rfl rfl q3319 q3320 rfl (by decide) (zkV (fun h4 => ?_)) zxo
  refine s_aload_n (pc := 18) 0 dX5_save_18 rfl rfl ?_
  refine s_iconst (pc := 19) (v := 1) dX5_save_19 (by decide) ?_
  refine s_putN (pc := 20) dX5_save_20 pf_X5_63 (fun h5 => ?_)
  refine s_aload_n (pc := 23) 0 dX5_save_23 rfl rfl ?_
  refine s_gR (pc := 24) dX5_save_24 gf_X5_9 (fun r6 => ?_)
  refine s_iconst (pc := 27) (v := 4) dX5_save_27 (by decide) ?_
  refine s_iald (pc := 28) dX5_save_28 (ztc rfl zt0) (fun x7 => ?_)
  exact s_iret (pc := 29) dX5_save_29 rfl
theorem c_X5_save {d0 : Nat} (hd0 : 2 < d0) (v0 : Option Nat) (h : zH) : zCal D z d0 h yX5_save [va_rf v0] (f_X5_save v0 h) :=
  ⟨cX5_save, 1, (some .int), [], 2, (show lv_args 0 [va_rf v0] = [(0, va_rf v0)] by simp [lv_args, zcat_rf, zcat_i, zcat_l, zcat_f, zcat_d]) ▸ w_X5_save v0 h, (plainFor_of_name (by decide)), by simp [lg_sl, zcat_rf, zcat_i, zcat_l, zcat_f, zcat_d], q3325, q140, hd0, by decide, by decide⟩
theorem w_X5_restore (v0 : Option Nat) (h : zH) : zS D z yX5_restore cX5_restore 1 (some .int) [] 3 h 0 [(0, va_rf v0)] [] (f_X5_restore v0 h) := by
  unfold f_X5_restore
  refine s_aload_n (pc := 0) 0 dX5_restore_0 rfl rfl ?_
  refine s_aload_n (pc := 1) 0 dX5_restore_1 rfl rfl ?_
  refine s_gI (pc := 2) dX5_restore_2 gf_X5_63 (fun x1 => ?_)
  refine zS_ite (fun ht => ?_) (fun _ => zS_none)
  refine s_callV (pc := 5) (np := 1) (as := [.int x1]) (rest := []) dX5_restore_5 ht (q := (RX5, TX5, 20)) rfl (c_X5_goes (by decide) v0 x1 h) rfl rfl q3311 q3313 qs44 rfl (by decide) (zkI (fun x2 h3 => ?_)) zxo
  refine s_if_ne (pc := 8) (tgt := 13) dX5_restore_8 (by decide) (fun _ => ?_) (fun _ => ?_)
  · refine s_aload_n (pc := 13) 0 dX5_restore_13 rfl rfl ?_
    refine s_gR (pc := 14) dX5_restore_14 gf_X5_16 (fun r4 => ?_)
    refine s_iconst (pc := 17) (v := 0) dX5_restore_17 (by decide) ?_
    refine s_aload_n (pc := 18) 0 dX5_restore_18 rfl rfl ?_
    refine s_gR (pc := 19) dX5_restore_19 gf_X5_9 (fun r5 => ?_)
    refine s_iconst (pc := 22) (v := 0) dX5_restore_22 (by decide) ?_
    refine s_callSS (pc := 23) (np := 4) (as := [va_rf r4, .int 0, va_rf r5, .int 0]) (rest := []) dX5_restore_23 (c_X5_copies (by decide) r4 0 r5 0 h3) rfl rfl q3319 q3320 rfl (by decide) (zkV (fun h6 => ?_)) zxo
    refine s_aload_n (pc := 26) 0 dX5_restore_26 rfl rfl ?_
    refine s_iconst (pc := 27) (v := 0) dX5_restore_27 (by decide) ?_
    refine s_putI (pc := 28) dX5_restore_28 pf_X5_53 (fun h7 => ?_)
    refine s_aload_n (pc := 31) 0 dX5_restore_31 rfl rfl ?_
    refine s_gR (pc := 32) dX5_restore_32 gf_X5_9 (fun r8 => ?_)
    refine s_iconst (pc := 35) (v := 4) dX5_restore_35 (by decide) ?_
    refine s_iald (pc := 36) dX5_restore_36 (ztc rfl zt0) (fun x9 => ?_)
    exact s_iret (pc := 37) dX5_restore_37 rfl
  · refine s_iconst (pc := 11) (v := 0) dX5_restore_11 (by decide) ?_
    exact s_iret (pc := 12) dX5_restore_12 rfl
theorem c_X5_restore {d0 : Nat} (hd0 : 3 < d0) (v0 : Option Nat) (h : zH) : zCal D z d0 h yX5_restore [va_rf v0] (f_X5_restore v0 h) :=
  ⟨cX5_restore, 1, (some .int), [], 3, (show lv_args 0 [va_rf v0] = [(0, va_rf v0)] by simp [lv_args, zcat_rf, zcat_i, zcat_l, zcat_f, zcat_d]) ▸ w_X5_restore v0 h, (plainFor_of_name (by decide)), by simp [lg_sl, zcat_rf, zcat_i, zcat_l, zcat_f, zcat_d], q3329, q140, hd0, by decide, by decide⟩
theorem w_X5_begins (v0 : Option Nat) (h : zH) : zS D z yX5_begins cX5_begins 1 none [] 2 h 0 [(0, va_rf v0)] [] (f_X5_begins v0 h) := by
  unfold f_X5_begins
  refine s_aload_n (pc := 0) 0 dX5_begins_0 rfl rfl ?_
  refine s_gR (pc := 1) dX5_begins_1 gf_X5_9 (fun r1 => ?_)
  refine s_iconst (pc := 4) (v := 0) dX5_begins_4 (by decide) ?_
  refine s_aload_n (pc := 5) 0 dX5_begins_5 rfl rfl ?_
  refine s_gR (pc := 6) dX5_begins_6 gf_X5_13 (fun r2 => ?_)
  refine s_iconst (pc := 9) (v := 0) dX5_begins_9 (by decide) ?_
  refine s_callSS (pc := 10) (np := 4) (as := [va_rf r1, .int 0, va_rf r2, .int 0]) (rest := []) dX5_begins_10 (c_X5_copies (by decide) r1 0 r2 0 h) rfl rfl q3319 q3320 rfl (by decide) (zkV (fun h3 => ?_)) zxo
  exact s_vret (pc := 13) dX5_begins_13 rfl
theorem c_X5_begins {d0 : Nat} (hd0 : 2 < d0) (v0 : Option Nat) (h : zH) : zCal D z d0 h yX5_begins [va_rf v0] (f_X5_begins v0 h) :=
  ⟨cX5_begins, 1, none, [], 2, (show lv_args 0 [va_rf v0] = [(0, va_rf v0)] by simp [lv_args, zcat_rf, zcat_i, zcat_l, zcat_f, zcat_d]) ▸ w_X5_begins v0 h, (plainFor_of_name (by decide)), by simp [lg_sl, zcat_rf, zcat_i, zcat_l, zcat_f, zcat_d], q3337, q140, hd0, by decide, by decide⟩
theorem w_X5_isIn (v0 : Int32) (v1 : Int32) (v2 : Int32) (h : zH) : zS D z yX5_isIn cX5_isIn 3 (some .boolean) [] 1 h 0 [(0, .int v0), (1, .int v1), (2, .int v2)] [] (f_X5_isIn v0 v1 v2 h) := by
  unfold f_X5_isIn
  refine s_iload_n (pc := 0) 0 dX5_isIn_0 rfl rfl ?_
  refine s_iload_n (pc := 1) 1 dX5_isIn_1 rfl rfl ?_
  refine s_icmp_lt (pc := 2) (tgt := 14) dX5_isIn_2 (by decide) (fun _ => ?_) (fun _ => ?_)
  · refine s_iconst (pc := 14) (v := 0) dX5_isIn_14 (by decide) ?_
    exact s_nret (pc := 15) dX5_isIn_15 rfl
  · refine s_iload_n (pc := 5) 0 dX5_isIn_5 rfl rfl ?_
    refine s_iload_n (pc := 6) 2 dX5_isIn_6 rfl rfl ?_
    refine s_icmp_gt (pc := 7) (tgt := 14) dX5_isIn_7 (by decide) (fun _ => ?_) (fun _ => ?_)
    · refine s_iconst (pc := 14) (v := 0) dX5_isIn_14 (by decide) ?_
      exact s_nret (pc := 15) dX5_isIn_15 rfl
    · refine s_iconst (pc := 10) (v := 1) dX5_isIn_10 (by decide) ?_
      refine s_goto (pc := 11) (tgt := 15) dX5_isIn_11 (by decide) ?_
      exact s_nret (pc := 15) dX5_isIn_15 rfl
theorem c_X5_isIn {d0 : Nat} (hd0 : 1 < d0) (v0 : Int32) (v1 : Int32) (v2 : Int32) (h : zH) : zCal D z d0 h yX5_isIn [.int v0, .int v1, .int v2] (f_X5_isIn v0 v1 v2 h) :=
  ⟨cX5_isIn, 3, (some .boolean), [], 1, (show lv_args 0 [.int v0, .int v1, .int v2] = [(0, .int v0), (1, .int v1), (2, .int v2)] by simp [lv_args, zcat_rf, zcat_i, zcat_l, zcat_f, zcat_d]) ▸ w_X5_isIn v0 v1 v2 h, (plainFor_of_name (by decide)), by simp [lg_sl, zcat_rf, zcat_i, zcat_l, zcat_f, zcat_d], q3344, q140, hd0, by decide, by decide⟩
theorem w_X5_place (v0 : Int32) (v1 : Int32) (h : zH) : zS D z yX5_place cX5_place 2 (some .int) [] 2 h 0 [(0, .int v0), (1, .int v1)] [] (f_X5_place v0 v1 h) := by
  unfold f_X5_place
  refine s_bipush (pc := 0) (v := 8) dX5_place_0 (by decide) ?_
  refine s_bipush (pc := 2) (v := 9) dX5_place_2 (by decide) ?_
  refine s_iconst (pc := 4) (v := 0) dX5_place_4 (by decide) ?_
  refine s_iload_n (pc := 5) 0 dX5_place_5 rfl rfl ?_
  refine s_callSS (pc := 6) (np := 2) (as := [.int 0, .int v0]) (rest := [.int 9, .int 8]) dX5_place_6 (c_J11_max (by decide) 0 v0 h) rfl rfl q3348 q881 rfl (by simp [zcat_rf, zcat_i, zcat_l, zcat_f, zcat_d]) (zkI (fun x1 h2 => ?_)) zxo
  refine s_imul (pc := 9) dX5_place_9 ?_
  refine s_iadd (pc := 10) dX5_place_10 ?_
  refine s_iload_n (pc := 11) 1 dX5_place_11 rfl rfl ?_
  refine s_iadd (pc := 12) dX5_place_12 ?_
  exact s_iret (pc := 13) dX5_place_13 rfl
theorem c_X5_place {d0 : Nat} (hd0 : 2 < d0) (v0 : Int32) (v1 : Int32) (h : zH) : zCal D z d0 h yX5_place [.int v0, .int v1] (f_X5_place v0 v1 h) :=
  ⟨cX5_place, 2, (some .int), [], 2, (show lv_args 0 [.int v0, .int v1] = [(0, .int v0), (1, .int v1)] by simp [lv_args, zcat_rf, zcat_i, zcat_l, zcat_f, zcat_d]) ▸ w_X5_place v0 v1 h, (plainFor_of_name (by decide)), by simp [lg_sl, zcat_rf, zcat_i, zcat_l, zcat_f, zcat_d], q3347, q140, hd0, by decide, by decide⟩
theorem w_X5_adds_103 (a0 : Option Nat) (a1 : Int32) (a2 : Int32) (a3 : Int32) (a5 : Int32) (h : zH) : zS D z yX5_adds cX5_adds 7 (some .int) [] 3 h 103 [(0, va_rf a0), (1, .int a1), (2, .int a2), (3, .int a3), (5, .int a5)] [] (f_X5_adds_103 a0 a1 a2 a3 a5 h) := by
  unfold f_X5_adds_103
  refine s_aload_n (pc := 103) 0 dX5_adds_103 rfl rfl ?_
  refine s_gR (pc := 104) dX5_adds_104 gf_X5_9 (fun r18 => ?_)
  refine s_iload (pc := 107) 4 dX5_adds_107 rfl ?_
  refine s_iconst (pc := 109) (v := 0) dX5_adds_109 (by decide) ?_
  refine s_callSS (pc := 110) (np := 2) (as := [.int a5, .int 0]) (rest := [va_rf r18]) dX5_adds_110 (c_X5_place (by decide) a5 0 h) rfl rfl q3345 q3346 rfl (by simp [zcat_rf, zcat_i, zcat_l, zcat_f, zcat_d]) (zkI (fun x19 h20 => ?_)) zxo
  refine s_aload_n (pc := 113) 0 dX5_adds_113 rfl rfl ?_
  refine s_gR (pc := 114) dX5_adds_114 gf_X5_9 (fun r21 => ?_)
  refine s_iconst (pc := 117) (v := 5) dX5_adds_117 (by decide) ?_
  refine s_iald (pc := 118) dX5_adds_118 (ztc rfl zt0) (fun x22 => ?_)
  refine s_iast (pc := 119) dX5_adds_119 (ztc rfl zt0) (fun h23 => ?_)
  refine s_aload_n (pc := 120) 0 dX5_adds_120 rfl rfl ?_
  refine s_gR (pc := 121) dX5_adds_121 gf_X5_9 (fun r24 => ?_)
  refine s_iload (pc := 124) 4 dX5_adds_124 rfl ?_
  refine s_iconst (pc := 126) (v := 1) dX5_adds_126 (by decide) ?_
  refine s_callSS (pc := 127) (np := 2) (as := [.int a5, .int 1]) (rest := [va_rf r24]) dX5_adds_127 (c_X5_place (by decide) a5 1 h23) rfl rfl q3345 q3346 rfl (by simp [zcat_rf, zcat_i, zcat_l, zcat_f, zcat_d]) (zkI (fun x25 h26 => ?_)) zxo
  refine s_iload_n (pc := 130) 1 dX5_adds_130 rfl rfl ?_
  refine s_iast (pc := 131) dX5_adds_131 (ztc rfl zt0) (fun h27 => ?_)
  refine s_aload_n (pc := 132) 0 dX5_adds_132 rfl rfl ?_
  refine s_gR (pc := 133) dX5_adds_133 gf_X5_9 (fun r28 => ?_)
  refine s_iload (pc := 136) 4 dX5_adds_136 rfl ?_
  refine s_iconst (pc := 138) (v := 2) dX5_adds_138 (by decide) ?_
  refine s_callSS (pc := 139) (np := 2) (as := [.int a5, .int 2]) (rest := [va_rf r28]) dX5_adds_139 (c_X5_place (by decide) a5 2 h27) rfl rfl q3345 q3346 rfl (by simp [zcat_rf, zcat_i, zcat_l, zcat_f, zcat_d]) (zkI (fun x29 h30 => ?_)) zxo
  refine s_iload_n (pc := 142) 2 dX5_adds_142 rfl rfl ?_
  refine s_iast (pc := 143) dX5_adds_143 (ztc rfl zt0) (fun h31 => ?_)
  refine s_aload_n (pc := 144) 0 dX5_adds_144 rfl rfl ?_
  refine s_gR (pc := 145) dX5_adds_145 gf_X5_9 (fun r32 => ?_)
  refine s_iload (pc := 148) 4 dX5_adds_148 rfl ?_
  refine s_iconst (pc := 150) (v := 3) dX5_adds_150 (by decide) ?_
  refine s_callSS (pc := 151) (np := 2) (as := [.int a5, .int 3]) (rest := [va_rf r32]) dX5_adds_151 (c_X5_place (by decide) a5 3 h31) rfl rfl q3345 q3346 rfl (by simp [zcat_rf, zcat_i, zcat_l, zcat_f, zcat_d]) (zkI (fun x33 h34 => ?_)) zxo
  refine s_iload_n (pc := 154) 3 dX5_adds_154 rfl rfl ?_
  refine s_iast (pc := 155) dX5_adds_155 (ztc rfl zt0) (fun h35 => ?_)
  refine s_aload_n (pc := 156) 0 dX5_adds_156 rfl rfl ?_
  refine s_gR (pc := 157) dX5_adds_157 gf_X5_9 (fun r36 => ?_)
  refine s_iload (pc := 160) 4 dX5_adds_160 rfl ?_
  refine s_iconst (pc := 162) (v := 4) dX5_adds_162 (by decide) ?_
  refine s_callSS (pc := 163) (np := 2) (as := [.int a5, .int 4]) (rest := [va_rf r36]) dX5_adds_163 (c_X5_place (by decide) a5 4 h35) rfl rfl q3345 q3346 rfl (by simp [zcat_rf, zcat_i, zcat_l, zcat_f, zcat_d]) (zkI (fun x37 h38 => ?_)) zxo
  refine s_iconst (pc := 166) (v := -1) dX5_adds_166 (by decide) ?_
  refine s_iast (pc := 167) dX5_adds_167 (ztc rfl zt0) (fun h39 => ?_)
  refine s_aload_n (pc := 168) 0 dX5_adds_168 rfl rfl ?_
  refine s_gR (pc := 169) dX5_adds_169 gf_X5_9 (fun r40 => ?_)
  refine s_iconst (pc := 172) (v := 4) dX5_adds_172 (by decide) ?_
  refine s_dup2_11 (pc := 173) dX5_adds_173 rfl (zcat_rf _) ?_
  refine s_iald (pc := 174) dX5_adds_174 (ztc rfl zt0) (fun x41 => ?_)
  refine s_iconst (pc := 175) (v := 1) dX5_adds_175 (by decide) ?_
  refine s_iadd (pc := 176) dX5_adds_176 ?_
  refine s_iast (pc := 177) dX5_adds_177 (ztc rfl zt0) (fun h42 => ?_)
  refine s_aload_n (pc := 178) 0 dX5_adds_178 rfl rfl ?_
  refine s_gR (pc := 179) dX5_adds_179 gf_X5_9 (fun r43 => ?_)
  refine s_iconst (pc := 182) (v := 5) dX5_adds_182 (by decide) ?_
  refine s_dup2_11 (pc := 183) dX5_adds_183 rfl (zcat_rf _) ?_
  refine s_iald (pc := 184) dX5_adds_184 (ztc rfl zt0) (fun x44 => ?_)
  refine s_iconst (pc := 185) (v := 1) dX5_adds_185 (by decide) ?_
  refine s_iadd (pc := 186) dX5_adds_186 ?_
  refine s_iast (pc := 187) dX5_adds_187 (ztc rfl zt0) (fun h45 => ?_)
  refine s_aload_n (pc := 188) 0 dX5_adds_188 rfl rfl ?_
  refine s_gR (pc := 189) dX5_adds_189 gf_X5_9 (fun r46 => ?_)
  refine s_iconst (pc := 192) (v := 5) dX5_adds_192 (by decide) ?_
  refine s_iald (pc := 193) dX5_adds_193 (ztc rfl zt0) (fun x47 => ?_)
  refine s_iconst (pc := 194) (v := 1) dX5_adds_194 (by decide) ?_
  refine s_isub (pc := 195) dX5_adds_195 ?_
  exact s_iret (pc := 196) dX5_adds_196 rfl
theorem w_X5_adds_77 : ∀ (n : Nat) (a0 : Option Nat) (a1 : Int32) (a2 : Int32) (a3 : Int32) (a5 : Int32) (a6 : Int32) (h : zH), zS D z yX5_adds cX5_adds 7 (some .int) [] 3 h 77 [(0, va_rf a0), (1, .int a1), (2, .int a2), (3, .int a3), (5, .int a5), (6, .int a6)] [] (f_X5_adds_77 n a0 a1 a2 a3 a5 a6 h) := by
  intro n
  induction n with
  | zero => intros; exact zS_none
  | succ n ih =>
    intro a0 a1 a2 a3 a5 a6 h
    rw [f_X5_adds_77.eq_2]
    refine s_iload (pc := 77) 5 dX5_adds_77 rfl ?_
    refine s_bipush (pc := 79) (v := 9) dX5_adds_79 (by decide) ?_
    refine s_icmp_ge (pc := 81) (tgt := 103) dX5_adds_81 (by decide) (fun _ => ?_) (fun _ => ?_)
    · exact s_sub (pc := 103) [0, 1, 2, 3, 4] rfl (w_X5_adds_103 a0 a1 a2 a3 a5 h)
    · refine s_aload_n (pc := 84) 0 dX5_adds_84 rfl rfl ?_
      refine s_gR (pc := 85) dX5_adds_85 gf_X5_9 (fun r13 => ?_)
      refine s_iload (pc := 88) 4 dX5_adds_88 rfl ?_
      refine s_iload (pc := 90) 5 dX5_adds_90 rfl ?_
      refine s_callSS (pc := 92) (np := 2) (as := [.int a5, .int a6]) (rest := [va_rf r13]) dX5_adds_92 (c_X5_place (by decide) a5 a6 h) rfl rfl q3345 q3346 rfl (by simp [zcat_rf, zcat_i, zcat_l, zcat_f, zcat_d]) (zkI (fun x14 h15 => ?_)) zxo
      refine s_iconst (pc := 95) (v := 0) dX5_adds_95 (by decide) ?_
      refine s_iast (pc := 96) dX5_adds_96 (ztc rfl zt0) (fun h16 => ?_)
      refine s_inc (pc := 97) (v := 1) (L2 := [(0, va_rf a0), (1, .int a1), (2, .int a2), (3, .int a3), (5, .int a5)]) 5 [0, 1, 2, 3, 4] dX5_adds_97 rfl (by decide) (by decide) rfl rfl (zcB (j := 4) rfl rfl rfl) (fun x17 => ?_)
      refine s_goto (pc := 100) (tgt := 77) dX5_adds_100 (by decide) ?_
      exact s_sub (pc := 77) [1, 2, 3, 4, 5, 0] rfl (ih a0 a1 a2 a3 a5 x17 h16)
theorem w_X5_adds_56 (a0 : Option Nat) (a1 : Int32) (a2 : Int32) (a3 : Int32) (s0 : Int32) (s1 : Int32) (s2 : Option Nat) (h : zH) : zS D z yX5_adds cX5_adds 7 (some .int) [] 3 h 56 [(0, va_rf a0), (1, .int a1), (2, .int a2), (3, .int a3)] [.int s0, .int s1, va_rf s2] (f_X5_adds_56 a0 a1 a2 a3 s0 s1 s2 h) := by
  unfold f_X5_adds_56
  refine s_iconst (pc := 56) (v := 1) dX5_adds_56 (by decide) ?_
  refine s_iconst (pc := 57) (v := 1) dX5_adds_57 (by decide) ?_
  refine zS_ite (fun ht => ?_) (fun _ => zS_none)
  refine s_callV (pc := 58) (np := 4) (as := [.int s1, .int s0, .int 1, .int 1]) (rest := []) dX5_adds_58 ht (q := (RX5, TX5, 20)) rfl (c_X5_holds (by decide) s2 s1 s0 1 1 h) rfl rfl q3315 q3317 qs45 rfl (by decide) (zkI (fun x9 h10 => ?_)) zxo
  refine s_if_ne (pc := 61) (tgt := 66) dX5_adds_61 (by decide) (fun _ => ?_) (fun _ => ?_)
  · refine s_aload_n (pc := 66) 0 dX5_adds_66 rfl rfl ?_
    refine s_gR (pc := 67) dX5_adds_67 gf_X5_9 (fun r11 => ?_)
    refine s_iconst (pc := 70) (v := 4) dX5_adds_70 (by decide) ?_
    refine s_iald (pc := 71) dX5_adds_71 (ztc rfl zt0) (fun x12 => ?_)
    refine s_ist (pc := 72) (L2 := [(0, va_rf a0), (1, .int a1), (2, .int a2), (3, .int a3)]) [0, 1, 2, 3] dX5_adds_72 (by decide) rfl rfl (zcA rfl) ?_
    refine s_iconst (pc := 74) (v := 0) dX5_adds_74 (by decide) ?_
    refine s_ist (pc := 75) (L2 := [(5, .int x12), (0, va_rf a0), (1, .int a1), (2, .int a2), (3, .int a3)]) [0, 1, 2, 3, 4] dX5_adds_75 (by decide) rfl rfl (zcB (j := 0) rfl rfl rfl) ?_
    exact s_sub (pc := 77) [2, 3, 4, 5, 1, 0] rfl (w_X5_adds_77 zfuel a0 a1 a2 a3 x12 0 h10)
  · refine s_iconst (pc := 64) (v := 0) dX5_adds_64 (by decide) ?_
    exact s_iret (pc := 65) dX5_adds_65 rfl
theorem w_X5_adds_35 (a0 : Option Nat) (a1 : Int32) (a2 : Int32) (a3 : Int32) (s0 : Int32) (h : zH) : zS D z yX5_adds cX5_adds 7 (some .int) [] 3 h 35 [(0, va_rf a0), (1, .int a1), (2, .int a2), (3, .int a3)] [.int s0] (f_X5_adds_35 a0 a1 a2 a3 s0 h) := by
  unfold f_X5_adds_35
  refine s_ist (pc := 35) (L2 := [(0, va_rf a0), (1, .int a1), (2, .int a2), (3, .int a3)]) [0, 1, 2, 3] dX5_adds_35 (by decide) rfl rfl (zcB (j := 3) rfl rfl rfl) ?_
  refine s_aload_n (pc := 37) 1 dX5_adds_37 rfl rfl ?_
  refine s_iload (pc := 38) 0 dX5_adds_38 rfl ?_
  refine s_aload_n (pc := 40) 1 dX5_adds_40 rfl rfl ?_
  refine s_gR (pc := 41) dX5_adds_41 gf_X5_9 (fun r7 => ?_)
  refine s_iconst (pc := 44) (v := 4) dX5_adds_44 (by decide) ?_
  refine s_iald (pc := 45) dX5_adds_45 (ztc rfl zt0) (fun x8 => ?_)
  refine s_bipush (pc := 46) (v := 8) dX5_adds_46 (by decide) ?_
  refine s_icmp_ge (pc := 48) (tgt := 55) dX5_adds_48 (by decide) (fun _ => ?_) (fun _ => ?_)
  · refine s_iconst (pc := 55) (v := 0) dX5_adds_55 (by decide) ?_
    exact s_sub (pc := 56) [1, 2, 3, 4] rfl (w_X5_adds_56 a0 a1 a2 a3 0 s0 a0 h)
  · refine s_iconst (pc := 51) (v := 1) dX5_adds_51 (by decide) ?_
    refine s_goto (pc := 52) (tgt := 56) dX5_adds_52 (by decide) ?_
    exact s_sub (pc := 56) [1, 2, 3, 4] rfl (w_X5_adds_56 a0 a1 a2 a3 1 s0 a0 h)
theorem w_X5_adds_34 (a0 : Option Nat) (a1 : Int32) (a2 : Int32) (a3 : Int32) (h : zH) : zS D z yX5_adds cX5_adds 7 (some .int) [] 3 h 34 [(0, va_rf a0), (1, .int a1), (2, .int a2), (3, .int a3)] [] (f_X5_adds_34 a0 a1 a2 a3 h) := by
  unfold f_X5_adds_34
  refine s_iconst (pc := 34) (v := 0) dX5_adds_34 (by decide) ?_
  exact s_sub (pc := 35) [0, 1, 2, 3] rfl (w_X5_adds_35 a0 a1 a2 a3 0 h)
theorem w_X5_adds (v0 : Option Nat) (v1 : Int32) (v2 : Int32) (v3 : Int32) (h : zH) : zS D z yX5_adds cX5_adds 7 (some .int) [] 3 h 0 [(0, va_rf v0), (1, .int v1), (2, .int v2), (3, .int v3)] [] (f_X5_adds v0 v1 v2 v3 h) := by
  unfold f_X5_adds
  refine s_iload_n (pc := 0) 1 dX5_adds_0 rfl rfl ?_
  refine s_iconst (pc := 1) (v := 5) dX5_adds_1 (by decide) ?_
  refine s_bipush (pc := 2) (v := 30) dX5_adds_2 (by decide) ?_
  refine s_callSS (pc := 4) (np := 3) (as := [.int v1, .int 5, .int 30]) (rest := []) dX5_adds_4 (c_X5_isIn (by decide) v1 5 30 h) rfl rfl q3342 q3343 rfl (by decide) (zkI (fun x1 h2 => ?_)) zxo
  refine s_if_eq (pc := 7) (tgt := 34) dX5_adds_7 (by decide) (fun _ => ?_) (fun _ => ?_)
  · exact s_sub (pc := 34) [0, 1, 2, 3] rfl (w_X5_adds_34 v0 v1 v2 v3 h2)
  · refine s_iload_n (pc := 10) 2 dX5_adds_10 rfl rfl ?_
    refine s_iconst (pc := 11) (v := 5) dX5_adds_11 (by decide) ?_
    refine s_bipush (pc := 12) (v := 80) dX5_adds_12 (by decide) ?_
    refine s_callSS (pc := 14) (np := 3) (as := [.int v2, .int 5, .int 80]) (rest := []) dX5_adds_14 (c_X5_isIn (by decide) v2 5 80 h2) rfl rfl q3342 q3343 rfl (by decide) (zkI (fun x3 h4 => ?_)) zxo
    refine s_if_eq (pc := 17) (tgt := 34) dX5_adds_17 (by decide) (fun _ => ?_) (fun _ => ?_)
    · exact s_sub (pc := 34) [0, 1, 2, 3] rfl (w_X5_adds_34 v0 v1 v2 v3 h4)
    · refine s_iload_n (pc := 20) 3 dX5_adds_20 rfl rfl ?_
      refine s_iconst (pc := 21) (v := 0) dX5_adds_21 (by decide) ?_
      refine s_bipush (pc := 22) (v := 99) dX5_adds_22 (by decide) ?_
      refine s_callSS (pc := 24) (np := 3) (as := [.int v3, .int 0, .int 99]) (rest := []) dX5_adds_24 (c_X5_isIn (by decide) v3 0 99 h4) rfl rfl q3342 q3343 rfl (by decide) (zkI (fun x5 h6 => ?_)) zxo
      refine s_if_eq (pc := 27) (tgt := 34) dX5_adds_27 (by decide) (fun _ => ?_) (fun _ => ?_)
      · exact s_sub (pc := 34) [0, 1, 2, 3] rfl (w_X5_adds_34 v0 v1 v2 v3 h6)
      · refine s_iconst (pc := 30) (v := 1) dX5_adds_30 (by decide) ?_
        refine s_goto (pc := 31) (tgt := 35) dX5_adds_31 (by decide) ?_
        exact s_sub (pc := 35) [0, 1, 2, 3] rfl (w_X5_adds_35 v0 v1 v2 v3 1 h6)
theorem c_X5_adds {d0 : Nat} (hd0 : 3 < d0) (v0 : Option Nat) (v1 : Int32) (v2 : Int32) (v3 : Int32) (h : zH) : zCal D z d0 h yX5_adds [va_rf v0, .int v1, .int v2, .int v3] (f_X5_adds v0 v1 v2 v3 h) :=
  ⟨cX5_adds, 7, (some .int), [], 3, (show lv_args 0 [va_rf v0, .int v1, .int v2, .int v3] = [(0, va_rf v0), (1, .int v1), (2, .int v2), (3, .int v3)] by simp [lv_args, zcat_rf, zcat_i, zcat_l, zcat_f, zcat_d]) ▸ w_X5_adds v0 v1 v2 v3 h, (plainFor_of_name (by decide)), by simp [lg_sl, zcat_rf, zcat_i, zcat_l, zcat_f, zcat_d], q3341, q140, hd0, by decide, by decide⟩
theorem w_X5_remembers_50 (a0 : Option Nat) (h : zH) : zS D z yX5_remembers cX5_remembers 2 none [] 2 h 50 [(0, va_rf a0)] [] (f_X5_remembers_50 a0 h) := by
  unfold f_X5_remembers_50
  refine s_aload_n (pc := 50) 0 dX5_remembers_50 rfl rfl ?_
  refine s_gR (pc := 51) dX5_remembers_51 gf_X5_13 (fun r9 => ?_)
  refine s_iconst (pc := 54) (v := 0) dX5_remembers_54 (by decide) ?_
  refine s_aload_n (pc := 55) 0 dX5_remembers_55 rfl rfl ?_
  refine s_gR (pc := 56) dX5_remembers_56 gf_X5_19 (fun r10 => ?_)
  refine s_aload_n (pc := 59) 0 dX5_remembers_59 rfl rfl ?_
  refine s_gI (pc := 60) dX5_remembers_60 gf_X5_53 (fun x11 => ?_)
  refine s_sipush (pc := 63) (v := 140) dX5_remembers_63 (by decide) ?_
  refine s_imul (pc := 66) dX5_remembers_66 ?_
  refine s_callSS (pc := 67) (np := 4) (as := [va_rf r9, .int 0, va_rf r10, .int (x11 * 140)]) (rest := []) dX5_remembers_67 (c_X5_copies (by decide) r9 0 r10 (x11 * 140) h) rfl rfl q3319 q3320 rfl (by decide) (zkV (fun h12 => ?_)) zxo
  refine s_aload_n (pc := 70) 0 dX5_remembers_70 rfl rfl ?_
  refine s_dup (pc := 71) dX5_remembers_71 (zcat_rf _) ?_
  refine s_gI (pc := 72) dX5_remembers_72 gf_X5_53 (fun x13 => ?_)
  refine s_iconst (pc := 75) (v := 1) dX5_remembers_75 (by decide) ?_
  refine s_iadd (pc := 76) dX5_remembers_76 ?_
  refine s_putI (pc := 77) dX5_remembers_77 pf_X5_53 (fun h14 => ?_)
  exact s_vret (pc := 80) dX5_remembers_80 rfl
theorem w_X5_remembers_40 (a0 : Option Nat) (h : zH) : zS D z yX5_remembers cX5_remembers 2 none [] 2 h 40 [(0, va_rf a0)] [] (f_X5_remembers_40 a0 h) := by
  unfold f_X5_remembers_40
  refine s_aload_n (pc := 40) 0 dX5_remembers_40 rfl rfl ?_
  refine s_dup (pc := 41) dX5_remembers_41 (zcat_rf _) ?_
  refine s_gI (pc := 42) dX5_remembers_42 gf_X5_53 (fun x7 => ?_)
  refine s_iconst (pc := 45) (v := 1) dX5_remembers_45 (by decide) ?_
  refine s_isub (pc := 46) dX5_remembers_46 ?_
  refine s_putI (pc := 47) dX5_remembers_47 pf_X5_53 (fun h8 => ?_)
  exact s_sub (pc := 50) [0] rfl (w_X5_remembers_50 a0 h8)
theorem w_X5_remembers_11 : ∀ (n : Nat) (a0 : Option Nat) (a1 : Int32) (h : zH), zS D z yX5_remembers cX5_remembers 2 none [] 2 h 11 [(0, va_rf a0), (1, .int a1)] [] (f_X5_remembers_11 n a0 a1 h) := by
  intro n
  induction n with
  | zero => intros; exact zS_none
  | succ n ih =>
    intro a0 a1 h
    rw [f_X5_remembers_11.eq_2]
    refine s_iload_n (pc := 11) 1 dX5_remembers_11 rfl rfl ?_
    refine s_sipush (pc := 12) (v := 980) dX5_remembers_12 (by decide) ?_
    refine s_icmp_ge (pc := 15) (tgt := 40) dX5_remembers_15 (by decide) (fun _ => ?_) (fun _ => ?_)
    · exact s_sub (pc := 40) [0] rfl (w_X5_remembers_40 a0 h)
    · refine s_aload_n (pc := 18) 0 dX5_remembers_18 rfl rfl ?_
      refine s_gR (pc := 19) dX5_remembers_19 gf_X5_19 (fun r2 => ?_)
      refine s_iload_n (pc := 22) 1 dX5_remembers_22 rfl rfl ?_
      refine s_aload_n (pc := 23) 0 dX5_remembers_23 rfl rfl ?_
      refine s_gR (pc := 24) dX5_remembers_24 gf_X5_19 (fun r3 => ?_)
      refine s_iload_n (pc := 27) 1 dX5_remembers_27 rfl rfl ?_
      refine s_sipush (pc := 28) (v := 140) dX5_remembers_28 (by decide) ?_
      refine s_iadd (pc := 31) dX5_remembers_31 ?_
      refine s_iald (pc := 32) dX5_remembers_32 (ztc rfl zt0) (fun x4 => ?_)
      refine s_iast (pc := 33) dX5_remembers_33 (ztc rfl zt0) (fun h5 => ?_)
      refine s_inc (pc := 34) (v := 1) (L2 := [(0, va_rf a0)]) 1 [0] dX5_remembers_34 rfl (by decide) (by decide) rfl rfl (zcB (j := 0) rfl (zcat_rf a0) rfl) (fun x6 => ?_)
      refine s_goto (pc := 37) (tgt := 11) dX5_remembers_37 (by decide) ?_
      exact s_sub (pc := 11) [1, 0] rfl (ih a0 x6 h5)
theorem w_X5_remembers (v0 : Option Nat) (h : zH) : zS D z yX5_remembers cX5_remembers 2 none [] 2 h 0 [(0, va_rf v0)] [] (f_X5_remembers v0 h) := by
  unfold f_X5_remembers
  refine s_aload_n (pc := 0) 0 dX5_remembers_0 rfl rfl ?_
  refine s_gI (pc := 1) dX5_remembers_1 gf_X5_53 (fun x1 => ?_)
  refine s_bipush (pc := 4) (v := 8) dX5_remembers_4 (by decide) ?_
  refine s_icmp_ne (pc := 6) (tgt := 50) dX5_remembers_6 (by decide) (fun _ => ?_) (fun _ => ?_)
  · exact s_sub (pc := 50) [0] rfl (w_X5_remembers_50 v0 h)
  · refine s_iconst (pc := 9) (v := 0) dX5_remembers_9 (by decide) ?_
    refine s_ist_n (pc := 10) (L2 := [(0, va_rf v0)]) [0] dX5_remembers_10 rfl (by decide) rfl rfl (zcB (j := 0) rfl (zcat_rf v0) rfl) ?_
    exact s_sub (pc := 11) [1, 0] rfl (w_X5_remembers_11 zfuel v0 0 h)
theorem c_X5_remembers {d0 : Nat} (hd0 : 2 < d0) (v0 : Option Nat) (h : zH) : zCal D z d0 h yX5_remembers [va_rf v0] (f_X5_remembers v0 h) :=
  ⟨cX5_remembers, 2, none, [], 2, (show lv_args 0 [va_rf v0] = [(0, va_rf v0)] by simp [lv_args, zcat_rf, zcat_i, zcat_l, zcat_f, zcat_d]) ▸ w_X5_remembers v0 h, (plainFor_of_name (by decide)), by simp [lg_sl, zcat_rf, zcat_i, zcat_l, zcat_f, zcat_d], q3356, q140, hd0, by decide, by decide⟩
theorem w_X5_ends (v0 : Option Nat) (v1 : Int32) (h : zH) : zS D z yX5_ends cX5_ends 2 (some .int) [] 3 h 0 [(0, va_rf v0), (1, .int v1)] [] (f_X5_ends v0 v1 h) := by
  unfold f_X5_ends
  refine s_aload_n (pc := 0) 0 dX5_ends_0 rfl rfl ?_
  refine s_gI (pc := 1) dX5_ends_1 gf_X5_42 (fun x1 => ?_)
  refine s_if_eq (pc := 4) (tgt := 22) dX5_ends_4 (by decide) (fun _ => ?_) (fun _ => ?_)
  · refine s_aload_n (pc := 22) 0 dX5_ends_22 rfl rfl ?_
    refine zS_ite (fun ht => ?_) (fun _ => zS_none)
    refine s_callV (pc := 23) (np := 0) (as := []) (rest := []) dX5_ends_23 ht (q := (RX5, TX5, 20)) rfl (c_X5_remembers (by decide) v0 h) rfl rfl q3353 q3355 qs49 rfl (by decide) (zkV (fun h2 => ?_)) zxo
    refine s_iload_n (pc := 26) 1 dX5_ends_26 rfl rfl ?_
    exact s_iret (pc := 27) dX5_ends_27 rfl
  · refine s_aload_n (pc := 7) 0 dX5_ends_7 rfl rfl ?_
    refine s_gR (pc := 8) dX5_ends_8 gf_X5_13 (fun r3 => ?_)
    refine s_iconst (pc := 11) (v := 0) dX5_ends_11 (by decide) ?_
    refine s_aload_n (pc := 12) 0 dX5_ends_12 rfl rfl ?_
    refine s_gR (pc := 13) dX5_ends_13 gf_X5_9 (fun r4 => ?_)
    refine s_iconst (pc := 16) (v := 0) dX5_ends_16 (by decide) ?_
    refine s_callSS (pc := 17) (np := 4) (as := [va_rf r3, .int 0, va_rf r4, .int 0]) (rest := []) dX5_ends_17 (c_X5_copies (by decide) r3 0 r4 0 h) rfl rfl q3319 q3320 rfl (by decide) (zkV (fun h5 => ?_)) zxo
    refine s_iconst (pc := 20) (v := 0) dX5_ends_20 (by decide) ?_
    exact s_iret (pc := 21) dX5_ends_21 rfl
theorem c_X5_ends {d0 : Nat} (hd0 : 3 < d0) (v0 : Option Nat) (v1 : Int32) (h : zH) : zCal D z d0 h yX5_ends [va_rf v0, .int v1] (f_X5_ends v0 v1 h) :=
  ⟨cX5_ends, 2, (some .int), [], 3, (show lv_args 0 [va_rf v0, .int v1] = [(0, va_rf v0), (1, .int v1)] by simp [lv_args, zcat_rf, zcat_i, zcat_l, zcat_f, zcat_d]) ▸ w_X5_ends v0 v1 h, (plainFor_of_name (by decide)), by simp [lg_sl, zcat_rf, zcat_i, zcat_l, zcat_f, zcat_d], q3352, q140, hd0, by decide, by decide⟩
theorem w_X5_addShip (v0 : Option Nat) (v1 : Int32) (v2 : Int32) (v3 : Int32) (h : zH) : zS D z yX5_addShip cX5_addShip 4 (some .int) [] 4 h 0 [(0, va_rf v0), (1, .int v1), (2, .int v2), (3, .int v3)] [] (f_X5_addShip v0 v1 v2 v3 h) := by
  unfold f_X5_addShip
  refine s_aload_n (pc := 0) 0 dX5_addShip_0 rfl rfl ?_
  refine zS_ite (fun ht => ?_) (fun _ => zS_none)
  refine s_callV (pc := 1) (np := 0) (as := []) (rest := []) dX5_addShip_1 ht (q := (RX5, TX5, 20)) rfl (c_X5_begins (by decide) v0 h) rfl rfl q3334 q3336 qs46 rfl (by decide) (zkV (fun h1 => ?_)) zxo
  refine s_aload_n (pc := 4) 0 dX5_addShip_4 rfl rfl ?_
  refine s_aload_n (pc := 5) 0 dX5_addShip_5 rfl rfl ?_
  refine s_iload_n (pc := 6) 1 dX5_addShip_6 rfl rfl ?_
  refine s_iload_n (pc := 7) 2 dX5_addShip_7 rfl rfl ?_
  refine s_iload_n (pc := 8) 3 dX5_addShip_8 rfl rfl ?_
  refine zS_ite (fun ht => ?_) (fun _ => zS_none)
  refine s_callV (pc := 9) (np := 3) (as := [.int v1, .int v2, .int v3]) (rest := [va_rf v0]) dX5_addShip_9 ht (q := (RX5, TX5, 20)) rfl (c_X5_adds (by decide) v0 v1 v2 v3 h1) rfl rfl q3338 q3340 qs47 rfl (by simp [zcat_rf, zcat_i, zcat_l, zcat_f, zcat_d]) (zkI (fun x2 h3 => ?_)) zxo
  refine zS_ite (fun ht => ?_) (fun _ => zS_none)
  refine s_callV (pc := 12) (np := 1) (as := [.int x2]) (rest := []) dX5_addShip_12 ht (q := (RX5, TX5, 20)) rfl (c_X5_ends (by decide) v0 x2 h3) rfl rfl q3349 q3351 qs48 rfl (by decide) (zkI (fun x4 h5 => ?_)) zxo
  exact s_iret (pc := 15) dX5_addShip_15 rfl
theorem c_X5_addShip {d0 : Nat} (hd0 : 4 < d0) (v0 : Option Nat) (v1 : Int32) (v2 : Int32) (v3 : Int32) (h : zH) : zCal D z d0 h yX5_addShip [va_rf v0, .int v1, .int v2, .int v3] (f_X5_addShip v0 v1 v2 v3 h) :=
  ⟨cX5_addShip, 4, (some .int), [], 4, (show lv_args 0 [va_rf v0, .int v1, .int v2, .int v3] = [(0, va_rf v0), (1, .int v1), (2, .int v2), (3, .int v3)] by simp [lv_args, zcat_rf, zcat_i, zcat_l, zcat_f, zcat_d]) ▸ w_X5_addShip v0 v1 v2 v3 h, (plainFor_of_name (by decide)), by simp [lg_sl, zcat_rf, zcat_i, zcat_l, zcat_f, zcat_d], q3333, q140, hd0, by decide, by decide⟩
theorem w_X5_of (v0 : Option Nat) (v1 : Int32) (v2 : Int32) (h : zH) : zS D z yX5_of cX5_of 3 (some .int) [] 3 h 0 [(0, va_rf v0), (1, .int v1), (2, .int v2)] [] (f_X5_of v0 v1 v2 h) := by
  unfold f_X5_of
  refine s_aload_n (pc := 0) 0 dX5_of_0 rfl rfl ?_
  refine s_gR (pc := 1) dX5_of_1 gf_X5_9 (fun r1 => ?_)
  refine s_iload_n (pc := 4) 1 dX5_of_4 rfl rfl ?_
  refine s_iload_n (pc := 5) 2 dX5_of_5 rfl rfl ?_
  refine s_callSS (pc := 6) (np := 2) (as := [.int v1, .int v2]) (rest := [va_rf r1]) dX5_of_6 (c_X5_place (by decide) v1 v2 h) rfl rfl q3345 q3346 rfl (by simp [zcat_rf, zcat_i, zcat_l, zcat_f, zcat_d]) (zkI (fun x2 h3 => ?_)) zxo
  refine s_iald (pc := 9) dX5_of_9 (ztc rfl zt0) (fun x4 => ?_)
  exact s_iret (pc := 10) dX5_of_10 rfl
theorem c_X5_of {d0 : Nat} (hd0 : 3 < d0) (v0 : Option Nat) (v1 : Int32) (v2 : Int32) (h : zH) : zCal D z d0 h yX5_of [va_rf v0, .int v1, .int v2] (f_X5_of v0 v1 v2 h) :=
  ⟨cX5_of, 3, (some .int), [], 3, (show lv_args 0 [va_rf v0, .int v1, .int v2] = [(0, va_rf v0), (1, .int v1), (2, .int v2)] by simp [lv_args, zcat_rf, zcat_i, zcat_l, zcat_f, zcat_d]) ▸ w_X5_of v0 v1 v2 h, (plainFor_of_name (by decide)), by simp [lg_sl, zcat_rf, zcat_i, zcat_l, zcat_f, zcat_d], q3372, q140, hd0, by decide, by decide⟩
theorem w_X5_find_29 (K4 : Option Nat → Int32 → Int32 → Int32 → zH → zO) (hK4 : ∀ (a0 : Option Nat) (a1 : Int32) (a2 : Int32) (a3 : Int32) (h : zH), zS D z yX5_find cX5_find 4 (some .int) [] 4 h 4 [(0, va_rf a0), (1, .int a1), (2, .int a2), (3, .int a3)] [] (K4 a0 a1 a2 a3 h)) (a0 : Option Nat) (a1 : Int32) (a3 : Int32) (s0 : Int32) (h : zH) : zS D z yX5_find cX5_find 4 (some .int) [] 4 h 29 [(0, va_rf a0), (1, .int a1), (3, .int a3)] [.int s0] (f_X5_find_29 K4 a0 a1 a3 s0 h) := by
  unfold f_X5_find_29
  refine s_ist_n (pc := 29) (L2 := [(0, va_rf a0), (1, .int a1), (3, .int a3)]) [0, 1, 2] dX5_find_29 rfl (by decide) rfl rfl (zcB (j := 1) rfl rfl rfl) ?_
  refine s_inc (pc := 30) (v := 1) (L2 := [(2, .int s0), (0, va_rf a0), (1, .int a1)]) 3 [0, 1, 2] dX5_find_30 rfl (by decide) (by decide) rfl rfl (zcB (j := 0) rfl rfl rfl) (fun x5 => ?_)
  refine s_goto (pc := 33) (tgt := 4) dX5_find_33 (by decide) ?_
  exact s_sub (pc := 4) [2, 3, 1, 0] rfl (hK4 a0 a1 s0 x5 h)
theorem w_X5_find_4 : ∀ (n : Nat) (a0 : Option Nat) (a1 : Int32) (a2 : Int32) (a3 : Int32) (h : zH), zS D z yX5_find cX5_find 4 (some .int) [] 4 h 4 [(0, va_rf a0), (1, .int a1), (2, .int a2), (3, .int a3)] [] (f_X5_find_4 n a0 a1 a2 a3 h) := by
  intro n
  induction n with
  | zero => intros; exact zS_none
  | succ n ih =>
    intro a0 a1 a2 a3 h
    rw [f_X5_find_4.eq_2]
    refine s_iload_n (pc := 4) 3 dX5_find_4 rfl rfl ?_
    refine s_aload_n (pc := 5) 0 dX5_find_5 rfl rfl ?_
    refine s_gR (pc := 6) dX5_find_6 gf_X5_9 (fun r1 => ?_)
    refine s_iconst (pc := 9) (v := 4) dX5_find_9 (by decide) ?_
    refine s_iald (pc := 10) dX5_find_10 (ztc rfl zt0) (fun x2 => ?_)
    refine s_icmp_ge (pc := 11) (tgt := 36) dX5_find_11 (by decide) (fun _ => ?_) (fun _ => ?_)
    · refine s_iload_n (pc := 36) 2 dX5_find_36 rfl rfl ?_
      exact s_iret (pc := 37) dX5_find_37 rfl
    · refine s_aload_n (pc := 14) 0 dX5_find_14 rfl rfl ?_
      refine s_iload_n (pc := 15) 3 dX5_find_15 rfl rfl ?_
      refine s_iconst (pc := 16) (v := 0) dX5_find_16 (by decide) ?_
      refine zS_ite (fun ht => ?_) (fun _ => zS_none)
      refine s_callV (pc := 17) (np := 2) (as := [.int a3, .int 0]) (rest := []) dX5_find_17 ht (q := (RX5, TX5, 20)) rfl (c_X5_of (by decide) a0 a3 0 h) rfl rfl q3369 q3371 qs52 rfl (by decide) (zkI (fun x3 h4 => ?_)) zxo
      refine s_iload_n (pc := 20) 1 dX5_find_20 rfl rfl ?_
      refine s_icmp_ne (pc := 21) (tgt := 28) dX5_find_21 (by decide) (fun _ => ?_) (fun _ => ?_)
      · refine s_iload_n (pc := 28) 2 dX5_find_28 rfl rfl ?_
        exact s_sub (pc := 29) [0, 1, 3] rfl (w_X5_find_29 (f_X5_find_4 n) ih a0 a1 a3 a2 h4)
      · refine s_iload_n (pc := 24) 3 dX5_find_24 rfl rfl ?_
        refine s_goto (pc := 25) (tgt := 29) dX5_find_25 (by decide) ?_
        exact s_sub (pc := 29) [0, 1, 3] rfl (w_X5_find_29 (f_X5_find_4 n) ih a0 a1 a3 a3 h4)
theorem w_X5_find (v0 : Option Nat) (v1 : Int32) (h : zH) : zS D z yX5_find cX5_find 4 (some .int) [] 4 h 0 [(0, va_rf v0), (1, .int v1)] [] (f_X5_find v0 v1 h) := by
  unfold f_X5_find
  refine s_iconst (pc := 0) (v := -1) dX5_find_0 (by decide) ?_
  refine s_ist_n (pc := 1) (L2 := [(0, va_rf v0), (1, .int v1)]) [0, 1] dX5_find_1 rfl (by decide) rfl rfl (zcB (j := 1) rfl rfl rfl) ?_
  refine s_iconst (pc := 2) (v := 0) dX5_find_2 (by decide) ?_
  refine s_ist_n (pc := 3) (L2 := [(2, .int (-1)), (0, va_rf v0), (1, .int v1)]) [0, 1, 2] dX5_find_3 rfl (by decide) rfl rfl (zcB (j := 0) rfl rfl rfl) ?_
  exact s_sub (pc := 4) [2, 3, 1, 0] rfl (w_X5_find_4 zfuel v0 v1 (-1) 0 h)
theorem c_X5_find {d0 : Nat} (hd0 : 4 < d0) (v0 : Option Nat) (v1 : Int32) (h : zH) : zCal D z d0 h yX5_find [va_rf v0, .int v1] (f_X5_find v0 v1 h) :=
  ⟨cX5_find, 4, (some .int), [], 4, (show lv_args 0 [va_rf v0, .int v1] = [(0, va_rf v0), (1, .int v1)] by simp [lv_args, zcat_rf, zcat_i, zcat_l, zcat_f, zcat_d]) ▸ w_X5_find v0 v1 h, (plainFor_of_name (by decide)), by simp [lg_sl, zcat_rf, zcat_i, zcat_l, zcat_f, zcat_d], q3368, q140, hd0, by decide, by decide⟩
theorem w_X5_isDocked (v0 : Option Nat) (v1 : Int32) (h : zH) : zS D z yX5_isDocked cX5_isDocked 2 (some .boolean) [] 4 h 0 [(0, va_rf v0), (1, .int v1)] [] (f_X5_isDocked v0 v1 h) := by
  unfold f_X5_isDocked
  refine s_iload_n (pc := 0) 1 dX5_isDocked_0 rfl rfl ?_
  refine s_iconst (pc := 1) (v := -1) dX5_isDocked_1 (by decide) ?_
  refine s_icmp_eq (pc := 2) (tgt := 19) dX5_isDocked_2 (by decide) (fun _ => ?_) (fun _ => ?_)
  · refine s_iconst (pc := 19) (v := 0) dX5_isDocked_19 (by decide) ?_
    exact s_nret (pc := 20) dX5_isDocked_20 rfl
  · refine s_aload_n (pc := 5) 0 dX5_isDocked_5 rfl rfl ?_
    refine s_iload_n (pc := 6) 1 dX5_isDocked_6 rfl rfl ?_
    refine s_iconst (pc := 7) (v := 4) dX5_isDocked_7 (by decide) ?_
    refine zS_ite (fun ht => ?_) (fun _ => zS_none)
    refine s_callV (pc := 8) (np := 2) (as := [.int v1, .int 4]) (rest := []) dX5_isDocked_8 ht (q := (RX5, TX5, 20)) rfl (c_X5_of (by decide) v0 v1 4 h) rfl rfl q3369 q3371 qs52 rfl (by decide) (zkI (fun x1 h2 => ?_)) zxo
    refine s_iconst (pc := 11) (v := -1) dX5_isDocked_11 (by decide) ?_
    refine s_icmp_eq (pc := 12) (tgt := 19) dX5_isDocked_12 (by decide) (fun _ => ?_) (fun _ => ?_)
    · refine s_iconst (pc := 19) (v := 0) dX5_isDocked_19 (by decide) ?_
      exact s_nret (pc := 20) dX5_isDocked_20 rfl
    · refine s_iconst (pc := 15) (v := 1) dX5_isDocked_15 (by decide) ?_
      refine s_goto (pc := 16) (tgt := 20) dX5_isDocked_16 (by decide) ?_
      exact s_nret (pc := 20) dX5_isDocked_20 rfl
theorem c_X5_isDocked {d0 : Nat} (hd0 : 4 < d0) (v0 : Option Nat) (v1 : Int32) (h : zH) : zCal D z d0 h yX5_isDocked [va_rf v0, .int v1] (f_X5_isDocked v0 v1 h) :=
  ⟨cX5_isDocked, 2, (some .boolean), [], 4, (show lv_args 0 [va_rf v0, .int v1] = [(0, va_rf v0), (1, .int v1)] by simp [lv_args, zcat_rf, zcat_i, zcat_l, zcat_f, zcat_d]) ▸ w_X5_isDocked v0 v1 h, (plainFor_of_name (by decide)), by simp [lg_sl, zcat_rf, zcat_i, zcat_l, zcat_f, zcat_d], q3376, q140, hd0, by decide, by decide⟩
theorem w_X5_removes_64 : ∀ (n : Nat) (a0 : Option Nat) (a3 : Int32) (a4 : Int32) (h : zH), zS D z yX5_removes cX5_removes 5 (some .int) [] 5 h 64 [(0, va_rf a0), (3, .int a3), (4, .int a4)] [] (f_X5_removes_64 n a0 a3 a4 h) := by
  intro n
  induction n with
  | zero => intros; exact zS_none
  | succ n ih =>
    intro a0 a3 a4 h
    rw [f_X5_removes_64.eq_2]
    refine s_iload (pc := 64) 2 dX5_removes_64 rfl ?_
    refine s_bipush (pc := 66) (v := 71) dX5_removes_66 (by decide) ?_
    refine s_icmp_ge (pc := 68) (tgt := 94) dX5_removes_68 (by decide) (fun _ => ?_) (fun _ => ?_)
    · refine s_aload_n (pc := 94) 0 dX5_removes_94 rfl rfl ?_
      refine s_gR (pc := 95) dX5_removes_95 gf_X5_9 (fun r13 => ?_)
      refine s_iconst (pc := 98) (v := 4) dX5_removes_98 (by decide) ?_
      refine s_dup2_11 (pc := 99) dX5_removes_99 rfl (zcat_rf _) ?_
      refine s_iald (pc := 100) dX5_removes_100 (ztc rfl zt0) (fun x14 => ?_)
      refine s_iconst (pc := 101) (v := 1) dX5_removes_101 (by decide) ?_
      refine s_isub (pc := 102) dX5_removes_102 ?_
      refine s_iast (pc := 103) dX5_removes_103 (ztc rfl zt0) (fun h15 => ?_)
      refine s_iload_n (pc := 104) 1 dX5_removes_104 rfl rfl ?_
      exact s_iret (pc := 105) dX5_removes_105 rfl
    · refine s_aload_n (pc := 71) 0 dX5_removes_71 rfl rfl ?_
      refine s_gR (pc := 72) dX5_removes_72 gf_X5_9 (fun r16 => ?_)
      refine s_iload (pc := 75) 2 dX5_removes_75 rfl ?_
      refine s_aload_n (pc := 77) 0 dX5_removes_77 rfl rfl ?_
      refine s_gR (pc := 78) dX5_removes_78 gf_X5_9 (fun r17 => ?_)
      refine s_iload (pc := 81) 2 dX5_removes_81 rfl ?_
      refine s_bipush (pc := 83) (v := 9) dX5_removes_83 (by decide) ?_
      refine s_iadd (pc := 85) dX5_removes_85 ?_
      refine s_iald (pc := 86) dX5_removes_86 (ztc rfl zt0) (fun x18 => ?_)
      refine s_iast (pc := 87) dX5_removes_87 (ztc rfl zt0) (fun h19 => ?_)
      refine s_inc (pc := 88) (v := 1) (L2 := [(0, va_rf a0), (3, .int a3)]) 2 [0, 1] dX5_removes_88 rfl (by decide) (by decide) rfl rfl (zcB (j := 1) rfl rfl rfl) (fun x20 => ?_)
      refine s_goto (pc := 91) (tgt := 64) dX5_removes_91 (by decide) ?_
      exact s_sub (pc := 64) [1, 2, 0] rfl (ih a0 a3 x20 h19)
theorem w_X5_removes_40 (a0 : Option Nat) (a2 : Int32) (s0 : Int32) (s1 : Int32) (s2 : Option Nat) (h : zH) : zS D z yX5_removes cX5_removes 5 (some .int) [] 5 h 40 [(0, va_rf a0), (2, .int a2)] [.int s0, .int s1, va_rf s2] (f_X5_removes_40 a0 a2 s0 s1 s2 h) := by
  unfold f_X5_removes_40
  refine s_iconst (pc := 40) (v := 1) dX5_removes_40 (by decide) ?_
  refine s_iconst (pc := 41) (v := 1) dX5_removes_41 (by decide) ?_
  refine zS_ite (fun ht => ?_) (fun _ => zS_none)
  refine s_callV (pc := 42) (np := 4) (as := [.int s1, .int s0, .int 1, .int 1]) (rest := []) dX5_removes_42 ht (q := (RX5, TX5, 20)) rfl (c_X5_holds (by decide) s2 s1 s0 1 1 h) rfl rfl q3315 q3317 qs45 rfl (by decide) (zkI (fun x7 h8 => ?_)) zxo
  refine s_if_ne (pc := 45) (tgt := 50) dX5_removes_45 (by decide) (fun _ => ?_) (fun _ => ?_)
  · refine s_aload_n (pc := 50) 0 dX5_removes_50 rfl rfl ?_
    refine s_iload_n (pc := 51) 1 dX5_removes_51 rfl rfl ?_
    refine s_iconst (pc := 52) (v := 3) dX5_removes_52 (by decide) ?_
    refine zS_ite (fun ht => ?_) (fun _ => zS_none)
    refine s_callV (pc := 53) (np := 2) (as := [.int a2, .int 3]) (rest := []) dX5_removes_53 ht (q := (RX5, TX5, 20)) rfl (c_X5_of (by decide) a0 a2 3 h8) rfl rfl q3369 q3371 qs52 rfl (by decide) (zkI (fun x9 h10 => ?_)) zxo
    refine s_ist_n (pc := 56) (L2 := [(0, va_rf a0), (2, .int a2)]) [0, 1] dX5_removes_56 rfl (by decide) rfl rfl (zcB (j := 1) rfl rfl rfl) ?_
    refine s_iload_n (pc := 57) 2 dX5_removes_57 rfl rfl ?_
    refine s_iconst (pc := 58) (v := 0) dX5_removes_58 (by decide) ?_
    refine s_callSS (pc := 59) (np := 2) (as := [.int a2, .int 0]) (rest := []) dX5_removes_59 (c_X5_place (by decide) a2 0 h10) rfl rfl q3345 q3346 rfl (by decide) (zkI (fun x11 h12 => ?_)) zxo
    refine s_ist (pc := 62) (L2 := [(3, .int x9), (0, va_rf a0)]) [0, 1] dX5_removes_62 (by decide) rfl rfl (zcB (j := 0) rfl rfl rfl) ?_
    exact s_sub (pc := 64) [2, 1, 0] rfl (w_X5_removes_64 zfuel a0 x9 x11 h12)
  · refine s_iconst (pc := 48) (v := 0) dX5_removes_48 (by decide) ?_
    exact s_iret (pc := 49) dX5_removes_49 rfl
theorem w_X5_removes_39 (a0 : Option Nat) (a2 : Int32) (s0 : Int32) (s1 : Option Nat) (h : zH) : zS D z yX5_removes cX5_removes 5 (some .int) [] 5 h 39 [(0, va_rf a0), (2, .int a2)] [.int s0, va_rf s1] (f_X5_removes_39 a0 a2 s0 s1 h) := by
  unfold f_X5_removes_39
  refine s_iconst (pc := 39) (v := 0) dX5_removes_39 (by decide) ?_
  exact s_sub (pc := 40) [0, 1] rfl (w_X5_removes_40 a0 a2 0 s0 s1 h)
theorem w_X5_removes_17 (a0 : Option Nat) (a2 : Int32) (s0 : Int32) (s1 : Option Nat) (h : zH) : zS D z yX5_removes cX5_removes 5 (some .int) [] 5 h 17 [(0, va_rf a0), (2, .int a2)] [.int s0, va_rf s1] (f_X5_removes_17 a0 a2 s0 s1 h) := by
  unfold f_X5_removes_17
  refine s_aload_n (pc := 17) 0 dX5_removes_17 rfl rfl ?_
  refine s_iload_n (pc := 18) 1 dX5_removes_18 rfl rfl ?_
  refine zS_ite (fun ht => ?_) (fun _ => zS_none)
  refine s_callV (pc := 19) (np := 1) (as := [.int a2]) (rest := [.int s0, va_rf s1]) dX5_removes_19 ht (q := (RX5, TX5, 20)) rfl (c_X5_isDocked (by decide) a0 a2 h) rfl rfl q3373 q3375 qs53 rfl (by simp [zcat_rf, zcat_i, zcat_l, zcat_f, zcat_d]) (zkI (fun x3 h4 => ?_)) zxo
  refine s_if_ne (pc := 22) (tgt := 39) dX5_removes_22 (by decide) (fun _ => ?_) (fun _ => ?_)
  · exact s_sub (pc := 39) [0, 1] rfl (w_X5_removes_39 a0 a2 s0 s1 h4)
  · refine s_aload_n (pc := 25) 0 dX5_removes_25 rfl rfl ?_
    refine s_iload_n (pc := 26) 1 dX5_removes_26 rfl rfl ?_
    refine s_bipush (pc := 27) (v := 8) dX5_removes_27 (by decide) ?_
    refine zS_ite (fun ht => ?_) (fun _ => zS_none)
    refine s_callV (pc := 29) (np := 2) (as := [.int a2, .int 8]) (rest := [.int s0, va_rf s1]) dX5_removes_29 ht (q := (RX5, TX5, 20)) rfl (c_X5_of (by decide) a0 a2 8 h4) rfl rfl q3369 q3371 qs52 rfl (by simp [zcat_rf, zcat_i, zcat_l, zcat_f, zcat_d]) (zkI (fun x5 h6 => ?_)) zxo
    refine s_if_ne (pc := 32) (tgt := 39) dX5_removes_32 (by decide) (fun _ => ?_) (fun _ => ?_)
    · exact s_sub (pc := 39) [0, 1] rfl (w_X5_removes_39 a0 a2 s0 s1 h6)
    · refine s_iconst (pc := 35) (v := 1) dX5_removes_35 (by decide) ?_
      refine s_goto (pc := 36) (tgt := 40) dX5_removes_36 (by decide) ?_
      exact s_sub (pc := 40) [0, 1] rfl (w_X5_removes_40 a0 a2 1 s0 s1 h6)
theorem w_X5_removes (v0 : Option Nat) (v1 : Int32) (h : zH) : zS D z yX5_removes cX5_removes 5 (some .int) [] 5 h 0 [(0, va_rf v0), (1, .int v1)] [] (f_X5_removes v0 v1 h) := by
  unfold f_X5_removes
  refine s_aload_n (pc := 0) 0 dX5_removes_0 rfl rfl ?_
  refine s_iload_n (pc := 1) 1 dX5_removes_1 rfl rfl ?_
  refine zS_ite (fun ht => ?_) (fun _ => zS_none)
  refine s_callV (pc := 2) (np := 1) (as := [.int v1]) (rest := []) dX5_removes_2 ht (q := (RX5, TX5, 20)) rfl (c_X5_find (by decide) v0 v1 h) rfl rfl q3365 q3367 qs51 rfl (by decide) (zkI (fun x1 h2 => ?_)) zxo
  refine s_ist_n (pc := 5) (L2 := [(0, va_rf v0)]) [0] dX5_removes_5 rfl (by decide) rfl rfl (zcA rfl) ?_
  refine s_aload_n (pc := 6) 1 dX5_removes_6 rfl rfl ?_
  refine s_iload_n (pc := 7) 0 dX5_removes_7 rfl rfl ?_
  refine s_iconst (pc := 8) (v := -1) dX5_removes_8 (by decide) ?_
  refine s_icmp_eq (pc := 9) (tgt := 16) dX5_removes_9 (by decide) (fun _ => ?_) (fun _ => ?_)
  · refine s_iconst (pc := 16) (v := 0) dX5_removes_16 (by decide) ?_
    exact s_sub (pc := 17) [1, 0] rfl (w_X5_removes_17 v0 x1 0 v0 h2)
  · refine s_iconst (pc := 12) (v := 1) dX5_removes_12 (by decide) ?_
    refine s_goto (pc := 13) (tgt := 17) dX5_removes_13 (by decide) ?_
    exact s_sub (pc := 17) [1, 0] rfl (w_X5_removes_17 v0 x1 1 v0 h2)
theorem c_X5_removes {d0 : Nat} (hd0 : 5 < d0) (v0 : Option Nat) (v1 : Int32) (h : zH) : zCal D z d0 h yX5_removes [va_rf v0, .int v1] (f_X5_removes v0 v1 h) :=
  ⟨cX5_removes, 5, (some .int), [], 5, (show lv_args 0 [va_rf v0, .int v1] = [(0, va_rf v0), (1, .int v1)] by simp [lv_args, zcat_rf, zcat_i, zcat_l, zcat_f, zcat_d]) ▸ w_X5_removes v0 v1 h, (plainFor_of_name (by decide)), by simp [lg_sl, zcat_rf, zcat_i, zcat_l, zcat_f, zcat_d], q3364, q140, hd0, by decide, by decide⟩
theorem w_X5_removeShip (v0 : Option Nat) (v1 : Int32) (h : zH) : zS D z yX5_removeShip cX5_removeShip 2 (some .int) [] 6 h 0 [(0, va_rf v0), (1, .int v1)] [] (f_X5_removeShip v0 v1 h) := by
  unfold f_X5_removeShip
  refine s_aload_n (pc := 0) 0 dX5_removeShip_0 rfl rfl ?_
  refine zS_ite (fun ht => ?_) (fun _ => zS_none)
  refine s_callV (pc := 1) (np := 0) (as := []) (rest := []) dX5_removeShip_1 ht (q := (RX5, TX5, 20)) rfl (c_X5_begins (by decide) v0 h) rfl rfl q3334 q3336 qs46 rfl (by decide) (zkV (fun h1 => ?_)) zxo
  refine s_aload_n (pc := 4) 0 dX5_removeShip_4 rfl rfl ?_
  refine s_aload_n (pc := 5) 0 dX5_removeShip_5 rfl rfl ?_
  refine s_iload_n (pc := 6) 1 dX5_removeShip_6 rfl rfl ?_
  refine zS_ite (fun ht => ?_) (fun _ => zS_none)
  refine s_callV (pc := 7) (np := 1) (as := [.int v1]) (rest := [va_rf v0]) dX5_removeShip_7 ht (q := (RX5, TX5, 20)) rfl (c_X5_removes (by decide) v0 v1 h1) rfl rfl q3361 q3363 qs50 rfl (by simp [zcat_rf, zcat_i, zcat_l, zcat_f, zcat_d]) (zkI (fun x2 h3 => ?_)) zxo
  refine zS_ite (fun ht => ?_) (fun _ => zS_none)
  refine s_callV (pc := 10) (np := 1) (as := [.int x2]) (rest := []) dX5_removeShip_10 ht (q := (RX5, TX5, 20)) rfl (c_X5_ends (by decide) v0 x2 h3) rfl rfl q3349 q3351 qs48 rfl (by decide) (zkI (fun x4 h5 => ?_)) zxo
  exact s_iret (pc := 13) dX5_removeShip_13 rfl
theorem c_X5_removeShip {d0 : Nat} (hd0 : 6 < d0) (v0 : Option Nat) (v1 : Int32) (h : zH) : zCal D z d0 h yX5_removeShip [va_rf v0, .int v1] (f_X5_removeShip v0 v1 h) :=
  ⟨cX5_removeShip, 2, (some .int), [], 6, (show lv_args 0 [va_rf v0, .int v1] = [(0, va_rf v0), (1, .int v1)] by simp [lv_args, zcat_rf, zcat_i, zcat_l, zcat_f, zcat_d]) ▸ w_X5_removeShip v0 v1 h, (plainFor_of_name (by decide)), by simp [lg_sl, zcat_rf, zcat_i, zcat_l, zcat_f, zcat_d], q3360, q140, hd0, by decide, by decide⟩
theorem w_X5_isMetre (v0 : Int32) (h : zH) : zS D z yX5_isMetre cX5_isMetre 1 (some .boolean) [] 2 h 0 [(0, .int v0)] [] (f_X5_isMetre v0 h) := by
  unfold f_X5_isMetre
  refine s_iload_n (pc := 0) 0 dX5_isMetre_0 rfl rfl ?_
  refine s_iconst (pc := 1) (v := 0) dX5_isMetre_1 (by decide) ?_
  refine s_bipush (pc := 2) (v := 59) dX5_isMetre_2 (by decide) ?_
  refine s_callSS (pc := 4) (np := 3) (as := [.int v0, .int 0, .int 59]) (rest := []) dX5_isMetre_4 (c_X5_isIn (by decide) v0 0 59 h) rfl rfl q3342 q3343 rfl (by decide) (zkI (fun x1 h2 => ?_)) zxo
  exact s_nret (pc := 7) dX5_isMetre_7 rfl
theorem c_X5_isMetre {d0 : Nat} (hd0 : 2 < d0) (v0 : Int32) (h : zH) : zCal D z d0 h yX5_isMetre [.int v0] (f_X5_isMetre v0 h) :=
  ⟨cX5_isMetre, 1, (some .boolean), [], 2, (show lv_args 0 [.int v0] = [(0, .int v0)] by simp [lv_args, zcat_rf, zcat_i, zcat_l, zcat_f, zcat_d]) ▸ w_X5_isMetre v0 h, (plainFor_of_name (by decide)), by simp [lg_sl, zcat_rf, zcat_i, zcat_l, zcat_f, zcat_d], q3387, q140, hd0, by decide, by decide⟩
theorem w_X5_at_67 (K4 : Option Nat → Int32 → Int32 → Int32 → zH → zO) (hK4 : ∀ (a0 : Option Nat) (a1 : Int32) (a2 : Int32) (a3 : Int32) (h : zH), zS D z yX5_at cX5_at 5 (some .int) [] 5 h 4 [(0, va_rf a0), (1, .int a1), (2, .int a2), (3, .int a3)] [] (K4 a0 a1 a2 a3 h)) (a0 : Option Nat) (a1 : Int32) (a3 : Int32) (s0 : Int32) (h : zH) : zS D z yX5_at cX5_at 5 (some .int) [] 5 h 67 [(0, va_rf a0), (1, .int a1), (3, .int a3)] [.int s0] (f_X5_at_67 K4 a0 a1 a3 s0 h) := by
  unfold f_X5_at_67
  refine s_ist_n (pc := 67) (L2 := [(0, va_rf a0), (1, .int a1), (3, .int a3)]) [0, 1, 2] dX5_at_67 rfl (by decide) rfl rfl (zcB (j := 1) rfl rfl rfl) ?_
  refine s_inc (pc := 68) (v := 1) (L2 := [(2, .int s0), (0, va_rf a0), (1, .int a1)]) 3 [0, 1, 2] dX5_at_68 rfl (by decide) (by decide) rfl rfl (zcB (j := 0) rfl rfl rfl) (fun x13 => ?_)
  refine s_goto (pc := 71) (tgt := 4) dX5_at_71 (by decide) ?_
  exact s_sub (pc := 4) [2, 3, 1, 0] rfl (hK4 a0 a1 s0 x13 h)
theorem w_X5_at_55 (K4 : Option Nat → Int32 → Int32 → Int32 → zH → zO) (hK4 : ∀ (a0 : Option Nat) (a1 : Int32) (a2 : Int32) (a3 : Int32) (h : zH), zS D z yX5_at cX5_at 5 (some .int) [] 5 h 4 [(0, va_rf a0), (1, .int a1), (2, .int a2), (3, .int a3)] [] (K4 a0 a1 a2 a3 h)) (a0 : Option Nat) (a1 : Int32) (a2 : Int32) (a3 : Int32) (s0 : Int32) (h : zH) : zS D z yX5_at cX5_at 5 (some .int) [] 5 h 55 [(0, va_rf a0), (1, .int a1), (2, .int a2), (3, .int a3)] [.int s0] (f_X5_at_55 K4 a0 a1 a2 a3 s0 h) := by
  unfold f_X5_at_55
  refine s_ist (pc := 55) (L2 := [(0, va_rf a0), (1, .int a1), (2, .int a2), (3, .int a3)]) [0, 1, 2, 3] dX5_at_55 (by decide) rfl rfl (zcB (j := 3) rfl rfl rfl) ?_
  refine s_iload (pc := 57) 0 dX5_at_57 rfl ?_
  refine s_if_eq (pc := 59) (tgt := 66) dX5_at_59 (by decide) (fun _ => ?_) (fun _ => ?_)
  · refine s_iload_n (pc := 66) 3 dX5_at_66 rfl rfl ?_
    exact s_sub (pc := 67) [1, 2, 4] rfl (w_X5_at_67 K4 hK4 a0 a1 a3 a2 h)
  · refine s_iload_n (pc := 62) 4 dX5_at_62 rfl rfl ?_
    refine s_goto (pc := 63) (tgt := 67) dX5_at_63 (by decide) ?_
    exact s_sub (pc := 67) [1, 2, 4] rfl (w_X5_at_67 K4 hK4 a0 a1 a3 a3 h)
theorem w_X5_at_54 (K4 : Option Nat → Int32 → Int32 → Int32 → zH → zO) (hK4 : ∀ (a0 : Option Nat) (a1 : Int32) (a2 : Int32) (a3 : Int32) (h : zH), zS D z yX5_at cX5_at 5 (some .int) [] 5 h 4 [(0, va_rf a0), (1, .int a1), (2, .int a2), (3, .int a3)] [] (K4 a0 a1 a2 a3 h)) (a0 : Option Nat) (a1 : Int32) (a2 : Int32) (a3 : Int32) (h : zH) : zS D z yX5_at cX5_at 5 (some .int) [] 5 h 54 [(0, va_rf a0), (1, .int a1), (2, .int a2), (3, .int a3)] [] (f_X5_at_54 K4 a0 a1 a2 a3 h) := by
  unfold f_X5_at_54
  refine s_iconst (pc := 54) (v := 0) dX5_at_54 (by decide) ?_
  exact s_sub (pc := 55) [0, 1, 2, 3] rfl (w_X5_at_55 K4 hK4 a0 a1 a2 a3 0 h)
theorem w_X5_at_4 : ∀ (n : Nat) (a0 : Option Nat) (a1 : Int32) (a2 : Int32) (a3 : Int32) (h : zH), zS D z yX5_at cX5_at 5 (some .int) [] 5 h 4 [(0, va_rf a0), (1, .int a1), (2, .int a2), (3, .int a3)] [] (f_X5_at_4 n a0 a1 a2 a3 h) := by
  intro n
  induction n with
  | zero => intros; exact zS_none
  | succ n ih =>
    intro a0 a1 a2 a3 h
    rw [f_X5_at_4.eq_2]
    refine s_iload_n (pc := 4) 3 dX5_at_4 rfl rfl ?_
    refine s_aload_n (pc := 5) 0 dX5_at_5 rfl rfl ?_
    refine s_gR (pc := 6) dX5_at_6 gf_X5_9 (fun r1 => ?_)
    refine s_iconst (pc := 9) (v := 4) dX5_at_9 (by decide) ?_
    refine s_iald (pc := 10) dX5_at_10 (ztc rfl zt0) (fun x2 => ?_)
    refine s_icmp_ge (pc := 11) (tgt := 74) dX5_at_11 (by decide) (fun _ => ?_) (fun _ => ?_)
    · refine s_iload_n (pc := 74) 2 dX5_at_74 rfl rfl ?_
      exact s_iret (pc := 75) dX5_at_75 rfl
    · refine s_aload_n (pc := 14) 0 dX5_at_14 rfl rfl ?_
      refine s_iload_n (pc := 15) 3 dX5_at_15 rfl rfl ?_
      refine zS_ite (fun ht => ?_) (fun _ => zS_none)
      refine s_callV (pc := 16) (np := 1) (as := [.int a3]) (rest := []) dX5_at_16 ht (q := (RX5, TX5, 20)) rfl (c_X5_isDocked (by decide) a0 a3 h) rfl rfl q3373 q3375 qs53 rfl (by decide) (zkI (fun x3 h4 => ?_)) zxo
      refine s_if_eq (pc := 19) (tgt := 54) dX5_at_19 (by decide) (fun _ => ?_) (fun _ => ?_)
      · exact s_sub (pc := 54) [0, 1, 2, 3] rfl (w_X5_at_54 (f_X5_at_4 n) ih a0 a1 a2 a3 h4)
      · refine s_iload_n (pc := 22) 1 dX5_at_22 rfl rfl ?_
        refine s_aload_n (pc := 23) 0 dX5_at_23 rfl rfl ?_
        refine s_iload_n (pc := 24) 3 dX5_at_24 rfl rfl ?_
        refine s_iconst (pc := 25) (v := 4) dX5_at_25 (by decide) ?_
        refine zS_ite (fun ht => ?_) (fun _ => zS_none)
        refine s_callV (pc := 26) (np := 2) (as := [.int a3, .int 4]) (rest := [.int a1]) dX5_at_26 ht (q := (RX5, TX5, 20)) rfl (c_X5_of (by decide) a0 a3 4 h4) rfl rfl q3369 q3371 qs52 rfl (by simp [zcat_rf, zcat_i, zcat_l, zcat_f, zcat_d]) (zkI (fun x5 h6 => ?_)) zxo
        refine s_aload_n (pc := 29) 0 dX5_at_29 rfl rfl ?_
        refine s_iload_n (pc := 30) 3 dX5_at_30 rfl rfl ?_
        refine s_iconst (pc := 31) (v := 4) dX5_at_31 (by decide) ?_
        refine zS_ite (fun ht => ?_) (fun _ => zS_none)
        refine s_callV (pc := 32) (np := 2) (as := [.int a3, .int 4]) (rest := [.int x5, .int a1]) dX5_at_32 ht (q := (RX5, TX5, 20)) rfl (c_X5_of (by decide) a0 a3 4 h6) rfl rfl q3369 q3371 qs52 rfl (by simp [zcat_rf, zcat_i, zcat_l, zcat_f, zcat_d]) (zkI (fun x7 h8 => ?_)) zxo
        refine s_aload_n (pc := 35) 0 dX5_at_35 rfl rfl ?_
        refine s_iload_n (pc := 36) 3 dX5_at_36 rfl rfl ?_
        refine s_iconst (pc := 37) (v := 1) dX5_at_37 (by decide) ?_
        refine zS_ite (fun ht => ?_) (fun _ => zS_none)
        refine s_callV (pc := 38) (np := 2) (as := [.int a3, .int 1]) (rest := [.int x7, .int x5, .int a1]) dX5_at_38 ht (q := (RX5, TX5, 20)) rfl (c_X5_of (by decide) a0 a3 1 h8) rfl rfl q3369 q3371 qs52 rfl (by simp [zcat_rf, zcat_i, zcat_l, zcat_f, zcat_d]) (zkI (fun x9 h10 => ?_)) zxo
        refine s_iadd (pc := 41) dX5_at_41 ?_
        refine s_iconst (pc := 42) (v := 1) dX5_at_42 (by decide) ?_
        refine s_isub (pc := 43) dX5_at_43 ?_
        refine s_callSS (pc := 44) (np := 3) (as := [.int a1, .int x5, .int ((x7 + x9) - 1)]) (rest := []) dX5_at_44 (c_X5_isIn (by decide) a1 x5 ((x7 + x9) - 1) h10) rfl rfl q3342 q3343 rfl (by decide) (zkI (fun x11 h12 => ?_)) zxo
        refine s_if_eq (pc := 47) (tgt := 54) dX5_at_47 (by decide) (fun _ => ?_) (fun _ => ?_)
        · exact s_sub (pc := 54) [0, 1, 2, 3] rfl (w_X5_at_54 (f_X5_at_4 n) ih a0 a1 a2 a3 h12)
        · refine s_iconst (pc := 50) (v := 1) dX5_at_50 (by decide) ?_
          refine s_goto (pc := 51) (tgt := 55) dX5_at_51 (by decide) ?_
          exact s_sub (pc := 55) [0, 1, 2, 3] rfl (w_X5_at_55 (f_X5_at_4 n) ih a0 a1 a2 a3 1 h12)
theorem w_X5_at (v0 : Option Nat) (v1 : Int32) (h : zH) : zS D z yX5_at cX5_at 5 (some .int) [] 5 h 0 [(0, va_rf v0), (1, .int v1)] [] (f_X5_at v0 v1 h) := by
  unfold f_X5_at
  refine s_iconst (pc := 0) (v := -1) dX5_at_0 (by decide) ?_
  refine s_ist_n (pc := 1) (L2 := [(0, va_rf v0), (1, .int v1)]) [0, 1] dX5_at_1 rfl (by decide) rfl rfl (zcB (j := 1) rfl rfl rfl) ?_
  refine s_iconst (pc := 2) (v := 0) dX5_at_2 (by decide) ?_
  refine s_ist_n (pc := 3) (L2 := [(2, .int (-1)), (0, va_rf v0), (1, .int v1)]) [0, 1, 2] dX5_at_3 rfl (by decide) rfl rfl (zcB (j := 0) rfl rfl rfl) ?_
  exact s_sub (pc := 4) [2, 3, 1, 0] rfl (w_X5_at_4 zfuel v0 v1 (-1) 0 h)
theorem c_X5_at {d0 : Nat} (hd0 : 5 < d0) (v0 : Option Nat) (v1 : Int32) (h : zH) : zCal D z d0 h yX5_at [va_rf v0, .int v1] (f_X5_at v0 v1 h) :=
  ⟨cX5_at, 5, (some .int), [], 5, (show lv_args 0 [va_rf v0, .int v1] = [(0, va_rf v0), (1, .int v1)] by simp [lv_args, zcat_rf, zcat_i, zcat_l, zcat_f, zcat_d]) ▸ w_X5_at v0 v1 h, (plainFor_of_name (by decide)), by simp [lg_sl, zcat_rf, zcat_i, zcat_l, zcat_f, zcat_d], q3395, q140, hd0, by decide, by decide⟩
theorem w_X5_isFree_32 (K5 : Option Nat → Int32 → Int32 → Int32 → Int32 → zH → zO) (hK5 : ∀ (a0 : Option Nat) (a1 : Int32) (a2 : Int32) (a3 : Int32) (a4 : Int32) (h : zH), zS D z yX5_isFree cX5_isFree 5 (some .boolean) [] 6 h 5 [(0, va_rf a0), (1, .int a1), (2, .int a2), (3, .int a3), (4, .int a4)] [] (K5 a0 a1 a2 a3 a4 h)) (a0 : Option Nat) (a1 : Int32) (a2 : Int32) (a4 : Int32) (s0 : Int32) (h : zH) : zS D z yX5_isFree cX5_isFree 5 (some .boolean) [] 6 h 32 [(0, va_rf a0), (1, .int a1), (2, .int a2), (4, .int a4)] [.int s0] (f_X5_isFree_32 K5 a0 a1 a2 a4 s0 h) := by
  unfold f_X5_isFree_32
  refine s_ist_n (pc := 32) (L2 := [(0, va_rf a0), (1, .int a1), (2, .int a2), (4, .int a4)]) [0, 1, 2, 3] dX5_isFree_32 rfl (by decide) rfl rfl (zcB (j := 2) rfl rfl rfl) ?_
  refine s_inc (pc := 33) (v := 1) (L2 := [(3, .int s0), (0, va_rf a0), (1, .int a1), (2, .int a2)]) 4 [0, 1, 2, 3] dX5_isFree_33 rfl (by decide) (by decide) rfl rfl (zcB (j := 0) rfl rfl rfl) (fun x3 => ?_)
  refine s_goto (pc := 36) (tgt := 5) dX5_isFree_36 (by decide) ?_
  exact s_sub (pc := 5) [2, 3, 4, 1, 0] rfl (hK5 a0 a1 a2 s0 x3 h)
theorem w_X5_isFree_31 (K5 : Option Nat → Int32 → Int32 → Int32 → Int32 → zH → zO) (hK5 : ∀ (a0 : Option Nat) (a1 : Int32) (a2 : Int32) (a3 : Int32) (a4 : Int32) (h : zH), zS D z yX5_isFree cX5_isFree 5 (some .boolean) [] 6 h 5 [(0, va_rf a0), (1, .int a1), (2, .int a2), (3, .int a3), (4, .int a4)] [] (K5 a0 a1 a2 a3 a4 h)) (a0 : Option Nat) (a1 : Int32) (a2 : Int32) (a4 : Int32) (h : zH) : zS D z yX5_isFree cX5_isFree 5 (some .boolean) [] 6 h 31 [(0, va_rf a0), (1, .int a1), (2, .int a2), (4, .int a4)] [] (f_X5_isFree_31 K5 a0 a1 a2 a4 h) := by
  unfold f_X5_isFree_31
  refine s_iconst (pc := 31) (v := 0) dX5_isFree_31 (by decide) ?_
  exact s_sub (pc := 32) [0, 1, 2, 3] rfl (w_X5_isFree_32 K5 hK5 a0 a1 a2 a4 0 h)
theorem w_X5_isFree_5 : ∀ (n : Nat) (a0 : Option Nat) (a1 : Int32) (a2 : Int32) (a3 : Int32) (a4 : Int32) (h : zH), zS D z yX5_isFree cX5_isFree 5 (some .boolean) [] 6 h 5 [(0, va_rf a0), (1, .int a1), (2, .int a2), (3, .int a3), (4, .int a4)] [] (f_X5_isFree_5 n a0 a1 a2 a3 a4 h) := by
  intro n
  induction n with
  | zero => intros; exact zS_none
  | succ n ih =>
    intro a0 a1 a2 a3 a4 h
    rw [f_X5_isFree_5.eq_2]
    refine s_iload (pc := 5) 4 dX5_isFree_5 rfl ?_
    refine s_iload_n (pc := 7) 1 dX5_isFree_7 rfl rfl ?_
    refine s_iload_n (pc := 8) 2 dX5_isFree_8 rfl rfl ?_
    refine s_iadd (pc := 9) dX5_isFree_9 ?_
    refine s_icmp_ge (pc := 10) (tgt := 39) dX5_isFree_10 (by decide) (fun _ => ?_) (fun _ => ?_)
    · refine s_iload_n (pc := 39) 3 dX5_isFree_39 rfl rfl ?_
      exact s_nret (pc := 40) dX5_isFree_40 rfl
    · refine s_iload_n (pc := 13) 3 dX5_isFree_13 rfl rfl ?_
      refine s_if_eq (pc := 14) (tgt := 31) dX5_isFree_14 (by decide) (fun _ => ?_) (fun _ => ?_)
      · exact s_sub (pc := 31) [0, 1, 2, 4] rfl (w_X5_isFree_31 (f_X5_isFree_5 n) ih a0 a1 a2 a4 h)
      · refine s_aload_n (pc := 17) 0 dX5_isFree_17 rfl rfl ?_
        refine s_iload (pc := 18) 4 dX5_isFree_18 rfl ?_
        refine zS_ite (fun ht => ?_) (fun _ => zS_none)
        refine s_callV (pc := 20) (np := 1) (as := [.int a4]) (rest := []) dX5_isFree_20 ht (q := (RX5, TX5, 20)) rfl (c_X5_at (by decide) a0 a4 h) rfl rfl q3392 q3394 qs56 rfl (by decide) (zkI (fun x1 h2 => ?_)) zxo
        refine s_iconst (pc := 23) (v := -1) dX5_isFree_23 (by decide) ?_
        refine s_icmp_ne (pc := 24) (tgt := 31) dX5_isFree_24 (by decide) (fun _ => ?_) (fun _ => ?_)
        · exact s_sub (pc := 31) [0, 1, 2, 4] rfl (w_X5_isFree_31 (f_X5_isFree_5 n) ih a0 a1 a2 a4 h2)
        · refine s_iconst (pc := 27) (v := 1) dX5_isFree_27 (by decide) ?_
          refine s_goto (pc := 28) (tgt := 32) dX5_isFree_28 (by decide) ?_
          exact s_sub (pc := 32) [0, 1, 2, 4] rfl (w_X5_isFree_32 (f_X5_isFree_5 n) ih a0 a1 a2 a4 1 h2)
theorem w_X5_isFree (v0 : Option Nat) (v1 : Int32) (v2 : Int32) (h : zH) : zS D z yX5_isFree cX5_isFree 5 (some .boolean) [] 6 h 0 [(0, va_rf v0), (1, .int v1), (2, .int v2)] [] (f_X5_isFree v0 v1 v2 h) := by
  unfold f_X5_isFree
  refine s_iconst (pc := 0) (v := 1) dX5_isFree_0 (by decide) ?_
  refine s_ist_n (pc := 1) (L2 := [(0, va_rf v0), (1, .int v1), (2, .int v2)]) [0, 1, 2] dX5_isFree_1 rfl (by decide) rfl rfl (zcB (j := 2) rfl rfl rfl) ?_
  refine s_iload_n (pc := 2) 2 dX5_isFree_2 rfl rfl ?_
  refine s_ist (pc := 3) (L2 := [(3, .int 1), (0, va_rf v0), (1, .int v1), (2, .int v2)]) [0, 1, 2, 3] dX5_isFree_3 (by decide) rfl rfl (zcB (j := 0) rfl rfl rfl) ?_
  exact s_sub (pc := 5) [2, 3, 4, 1, 0] rfl (w_X5_isFree_5 zfuel v0 v1 v2 1 v1 h)
theorem c_X5_isFree {d0 : Nat} (hd0 : 6 < d0) (v0 : Option Nat) (v1 : Int32) (v2 : Int32) (h : zH) : zCal D z d0 h yX5_isFree [va_rf v0, .int v1, .int v2] (f_X5_isFree v0 v1 v2 h) :=
  ⟨cX5_isFree, 5, (some .boolean), [], 6, (show lv_args 0 [va_rf v0, .int v1, .int v2] = [(0, va_rf v0), (1, .int v1), (2, .int v2)] by simp [lv_args, zcat_rf, zcat_i, zcat_l, zcat_f, zcat_d]) ▸ w_X5_isFree v0 v1 v2 h, (plainFor_of_name (by decide)), by simp [lg_sl, zcat_rf, zcat_i, zcat_l, zcat_f, zcat_d], q3391, q140, hd0, by decide, by decide⟩
theorem w_X5_refuses (v0 : Option Nat) (v1 : Int32) (v2 : Int32) (h : zH) : zS D z yX5_refuses cX5_refuses 3 none [] 1 h 0 [(0, va_rf v0), (1, .int v1), (2, .int v2)] [] (f_X5_refuses v0 v1 v2 h) := by
  unfold f_X5_refuses
  refine s_aload_n (pc := 0) 0 dX5_refuses_0 rfl rfl ?_
  refine s_gI (pc := 1) dX5_refuses_1 gf_X5_42 (fun x1 => ?_)
  refine s_if_ne (pc := 4) (tgt := 21) dX5_refuses_4 (by decide) (fun _ => ?_) (fun _ => ?_)
  · exact s_vret (pc := 21) dX5_refuses_21 rfl
  · refine s_iload_n (pc := 7) 2 dX5_refuses_7 rfl rfl ?_
    refine s_if_eq (pc := 8) (tgt := 21) dX5_refuses_8 (by decide) (fun _ => ?_) (fun _ => ?_)
    · exact s_vret (pc := 21) dX5_refuses_21 rfl
    · refine s_aload_n (pc := 11) 0 dX5_refuses_11 rfl rfl ?_
      refine s_iload_n (pc := 12) 1 dX5_refuses_12 rfl rfl ?_
      refine s_putI (pc := 13) dX5_refuses_13 pf_X5_42 (fun h2 => ?_)
      refine s_aload_n (pc := 16) 0 dX5_refuses_16 rfl rfl ?_
      refine s_iload_n (pc := 17) 2 dX5_refuses_17 rfl rfl ?_
      refine s_putI (pc := 18) dX5_refuses_18 pf_X5_110 (fun h3 => ?_)
      exact s_vret (pc := 21) dX5_refuses_21 rfl
theorem c_X5_refuses {d0 : Nat} (hd0 : 1 < d0) (v0 : Option Nat) (v1 : Int32) (v2 : Int32) (h : zH) : zCal D z d0 h yX5_refuses [va_rf v0, .int v1, .int v2] (f_X5_refuses v0 v1 v2 h) :=
  ⟨cX5_refuses, 3, none, [], 1, (show lv_args 0 [va_rf v0, .int v1, .int v2] = [(0, va_rf v0), (1, .int v1), (2, .int v2)] by simp [lv_args, zcat_rf, zcat_i, zcat_l, zcat_f, zcat_d]) ▸ w_X5_refuses v0 v1 v2 h, (plainFor_of_name (by decide)), by simp [lg_sl, zcat_rf, zcat_i, zcat_l, zcat_f, zcat_d], q3399, q140, hd0, by decide, by decide⟩
theorem w_X5_docked_28 (K4 : Option Nat → Int32 → Int32 → zH → zO) (hK4 : ∀ (a0 : Option Nat) (a1 : Int32) (a2 : Int32) (h : zH), zS D z yX5_docked cX5_docked 3 (some .int) [] 5 h 4 [(0, va_rf a0), (1, .int a1), (2, .int a2)] [] (K4 a0 a1 a2 h)) (a0 : Option Nat) (a2 : Int32) (s0 : Int32) (s1 : Int32) (h : zH) : zS D z yX5_docked cX5_docked 3 (some .int) [] 5 h 28 [(0, va_rf a0), (2, .int a2)] [.int s0, .int s1] (f_X5_docked_28 K4 a0 a2 s0 s1 h) := by
  unfold f_X5_docked_28
  refine s_iadd (pc := 28) dX5_docked_28 ?_
  refine s_nm (pc := 29) Value.int (fun x5 => ?_)
  refine s_ist_n (pc := 29) (L2 := [(0, va_rf a0), (2, .int a2)]) [0, 1] dX5_docked_29 rfl (by decide) rfl rfl (zcB (j := 0) rfl (zcat_rf a0) rfl) ?_
  refine s_inc (pc := 30) (v := 1) (L2 := [(1, .int x5), (0, va_rf a0)]) 2 [0, 1] dX5_docked_30 rfl (by decide) (by decide) rfl rfl (zcB (j := 0) rfl rfl rfl) (fun x6 => ?_)
  refine s_goto (pc := 33) (tgt := 4) dX5_docked_33 (by decide) ?_
  exact s_sub (pc := 4) [2, 1, 0] rfl (hK4 a0 x5 x6 h)
theorem w_X5_docked_4 : ∀ (n : Nat) (a0 : Option Nat) (a1 : Int32) (a2 : Int32) (h : zH), zS D z yX5_docked cX5_docked 3 (some .int) [] 5 h 4 [(0, va_rf a0), (1, .int a1), (2, .int a2)] [] (f_X5_docked_4 n a0 a1 a2 h) := by
  intro n
  induction n with
  | zero => intros; exact zS_none
  | succ n ih =>
    intro a0 a1 a2 h
    rw [f_X5_docked_4.eq_2]
    refine s_iload_n (pc := 4) 2 dX5_docked_4 rfl rfl ?_
    refine s_aload_n (pc := 5) 0 dX5_docked_5 rfl rfl ?_
    refine s_gR (pc := 6) dX5_docked_6 gf_X5_9 (fun r1 => ?_)
    refine s_iconst (pc := 9) (v := 4) dX5_docked_9 (by decide) ?_
    refine s_iald (pc := 10) dX5_docked_10 (ztc rfl zt0) (fun x2 => ?_)
    refine s_icmp_ge (pc := 11) (tgt := 36) dX5_docked_11 (by decide) (fun _ => ?_) (fun _ => ?_)
    · refine s_iload_n (pc := 36) 1 dX5_docked_36 rfl rfl ?_
      exact s_iret (pc := 37) dX5_docked_37 rfl
    · refine s_iload_n (pc := 14) 1 dX5_docked_14 rfl rfl ?_
      refine s_aload_n (pc := 15) 0 dX5_docked_15 rfl rfl ?_
      refine s_iload_n (pc := 16) 2 dX5_docked_16 rfl rfl ?_
      refine zS_ite (fun ht => ?_) (fun _ => zS_none)
      refine s_callV (pc := 17) (np := 1) (as := [.int a2]) (rest := [.int a1]) dX5_docked_17 ht (q := (RX5, TX5, 20)) rfl (c_X5_isDocked (by decide) a0 a2 h) rfl rfl q3373 q3375 qs53 rfl (by simp [zcat_rf, zcat_i, zcat_l, zcat_f, zcat_d]) (zkI (fun x3 h4 => ?_)) zxo
      refine s_if_eq (pc := 20) (tgt := 27) dX5_docked_20 (by decide) (fun _ => ?_) (fun _ => ?_)
      · refine s_iconst (pc := 27) (v := 0) dX5_docked_27 (by decide) ?_
        exact s_sub (pc := 28) [0, 2] rfl (w_X5_docked_28 (f_X5_docked_4 n) ih a0 a2 0 a1 h4)
      · refine s_iconst (pc := 23) (v := 1) dX5_docked_23 (by decide) ?_
        refine s_goto (pc := 24) (tgt := 28) dX5_docked_24 (by decide) ?_
        exact s_sub (pc := 28) [0, 2] rfl (w_X5_docked_28 (f_X5_docked_4 n) ih a0 a2 1 a1 h4)
theorem w_X5_docked (v0 : Option Nat) (h : zH) : zS D z yX5_docked cX5_docked 3 (some .int) [] 5 h 0 [(0, va_rf v0)] [] (f_X5_docked v0 h) := by
  unfold f_X5_docked
  refine s_iconst (pc := 0) (v := 0) dX5_docked_0 (by decide) ?_
  refine s_ist_n (pc := 1) (L2 := [(0, va_rf v0)]) [0] dX5_docked_1 rfl (by decide) rfl rfl (zcB (j := 0) rfl (zcat_rf v0) rfl) ?_
  refine s_iconst (pc := 2) (v := 0) dX5_docked_2 (by decide) ?_
  refine s_ist_n (pc := 3) (L2 := [(1, .int 0), (0, va_rf v0)]) [0, 1] dX5_docked_3 rfl (by decide) rfl rfl (zcB (j := 0) rfl rfl rfl) ?_
  exact s_sub (pc := 4) [2, 1, 0] rfl (w_X5_docked_4 zfuel v0 0 0 h)
theorem c_X5_docked {d0 : Nat} (hd0 : 5 < d0) (v0 : Option Nat) (h : zH) : zCal D z d0 h yX5_docked [va_rf v0] (f_X5_docked v0 h) :=
  ⟨cX5_docked, 3, (some .int), [], 5, (show lv_args 0 [va_rf v0] = [(0, va_rf v0)] by simp [lv_args, zcat_rf, zcat_i, zcat_l, zcat_f, zcat_d]) ▸ w_X5_docked v0 h, (plainFor_of_name (by decide)), by simp [lg_sl, zcat_rf, zcat_i, zcat_l, zcat_f, zcat_d], q3403, q140, hd0, by decide, by decide⟩
theorem w_X5_enters_121 (a0 : Option Nat) (a2 : Int32) (a3 : Int32) (h : zH) : zS D z yX5_enters cX5_enters 6 (some .int) [] 7 h 121 [(0, va_rf a0), (2, .int a2), (3, .int a3)] [] (f_X5_enters_121 a0 a2 a3 h) := by
  unfold f_X5_enters_121
  refine s_aload_n (pc := 121) 0 dX5_enters_121 rfl rfl ?_
  refine s_gI (pc := 122) dX5_enters_122 gf_X5_42 (fun x20 => ?_)
  refine s_if_eq (pc := 125) (tgt := 130) dX5_enters_125 (by decide) (fun _ => ?_) (fun _ => ?_)
  · refine s_aload_n (pc := 130) 0 dX5_enters_130 rfl rfl ?_
    refine s_gR (pc := 131) dX5_enters_131 gf_X5_9 (fun r21 => ?_)
    refine s_iload_n (pc := 134) 2 dX5_enters_134 rfl rfl ?_
    refine s_iconst (pc := 135) (v := 4) dX5_enters_135 (by decide) ?_
    refine s_callSS (pc := 136) (np := 2) (as := [.int a3, .int 4]) (rest := [va_rf r21]) dX5_enters_136 (c_X5_place (by decide) a3 4 h) rfl rfl q3345 q3346 rfl (by simp [zcat_rf, zcat_i, zcat_l, zcat_f, zcat_d]) (zkI (fun x22 h23 => ?_)) zxo
    refine s_iload_n (pc := 139) 1 dX5_enters_139 rfl rfl ?_
    refine s_iast (pc := 140) dX5_enters_140 (ztc rfl zt0) (fun h24 => ?_)
    refine s_aload_n (pc := 141) 0 dX5_enters_141 rfl rfl ?_
    refine s_gR (pc := 142) dX5_enters_142 gf_X5_9 (fun r25 => ?_)
    refine s_iload_n (pc := 145) 2 dX5_enters_145 rfl rfl ?_
    refine s_iconst (pc := 146) (v := 5) dX5_enters_146 (by decide) ?_
    refine s_callSS (pc := 147) (np := 2) (as := [.int a3, .int 5]) (rest := [va_rf r25]) dX5_enters_147 (c_X5_place (by decide) a3 5 h24) rfl rfl q3345 q3346 rfl (by simp [zcat_rf, zcat_i, zcat_l, zcat_f, zcat_d]) (zkI (fun x26 h27 => ?_)) zxo
    refine s_iconst (pc := 150) (v := 0) dX5_enters_150 (by decide) ?_
    refine s_iast (pc := 151) dX5_enters_151 (ztc rfl zt0) (fun h28 => ?_)
    refine s_aload_n (pc := 152) 0 dX5_enters_152 rfl rfl ?_
    refine zS_ite (fun ht => ?_) (fun _ => zS_none)
    refine s_callV (pc := 153) (np := 0) (as := []) (rest := []) dX5_enters_153 ht (q := (RX5, TX5, 20)) rfl (c_X5_docked (by decide) a0 h28) rfl rfl q3400 q3402 qs58 rfl (by decide) (zkI (fun x29 h30 => ?_)) zxo
    exact s_iret (pc := 156) dX5_enters_156 rfl
  · refine s_iconst (pc := 128) (v := 0) dX5_enters_128 (by decide) ?_
    exact s_iret (pc := 129) dX5_enters_129 rfl
theorem w_X5_enters_118 (a0 : Option Nat) (a2 : Int32) (a3 : Int32) (s0 : Int32) (s1 : Int32) (s2 : Option Nat) (h : zH) : zS D z yX5_enters cX5_enters 6 (some .int) [] 7 h 118 [(0, va_rf a0), (2, .int a2), (3, .int a3)] [.int s0, .int s1, va_rf s2] (f_X5_enters_118 a0 a2 a3 s0 s1 s2 h) := by
  unfold f_X5_enters_118
  refine zS_ite (fun ht => ?_) (fun _ => zS_none)
  refine s_callV (pc := 118) (np := 2) (as := [.int s1, .int s0]) (rest := []) dX5_enters_118 ht (q := (RX5, TX5, 20)) rfl (c_X5_refuses (by decide) s2 s1 s0 h) rfl rfl q3396 q3398 qs57 rfl (by decide) (zkV (fun h19 => ?_)) zxo
  exact s_sub (pc := 121) [0, 1, 2] rfl (w_X5_enters_121 a0 a2 a3 h19)
theorem w_X5_enters_73 (a0 : Option Nat) (a2 : Int32) (a3 : Int32) (a4 : Int32) (s0 : Int32) (s1 : Int32) (s2 : Int32) (s3 : Option Nat) (h : zH) : zS D z yX5_enters cX5_enters 6 (some .int) [] 7 h 73 [(0, va_rf a0), (2, .int a2), (3, .int a3), (4, .int a4)] [.int s0, .int s1, .int s2, va_rf s3] (f_X5_enters_73 a0 a2 a3 a4 s0 s1 s2 s3 h) := by
  unfold f_X5_enters_73
  refine s_iconst (pc := 73) (v := 1) dX5_enters_73 (by decide) ?_
  refine zS_ite (fun ht => ?_) (fun _ => zS_none)
  refine s_callV (pc := 74) (np := 4) (as := [.int s2, .int s1, .int s0, .int 1]) (rest := []) dX5_enters_74 ht (q := (RX5, TX5, 20)) rfl (c_X5_holds (by decide) s3 s2 s1 s0 1 h) rfl rfl q3315 q3317 qs45 rfl (by decide) (zkI (fun x11 h12 => ?_)) zxo
  refine s_if_eq (pc := 77) (tgt := 121) dX5_enters_77 (by decide) (fun _ => ?_) (fun _ => ?_)
  · exact s_sub (pc := 121) [0, 1, 2] rfl (w_X5_enters_121 a0 a2 a3 h12)
  · refine s_aload_n (pc := 80) 0 dX5_enters_80 rfl rfl ?_
    refine s_iconst (pc := 81) (v := 4) dX5_enters_81 (by decide) ?_
    refine s_aload_n (pc := 82) 0 dX5_enters_82 rfl rfl ?_
    refine s_gR (pc := 83) dX5_enters_83 gf_X5_9 (fun r13 => ?_)
    refine s_iconst (pc := 86) (v := 1) dX5_enters_86 (by decide) ?_
    refine s_iald (pc := 87) dX5_enters_87 (ztc rfl zt0) (fun x14 => ?_)
    refine s_aload_n (pc := 88) 0 dX5_enters_88 rfl rfl ?_
    refine s_iload_n (pc := 89) 2 dX5_enters_89 rfl rfl ?_
    refine s_iconst (pc := 90) (v := 2) dX5_enters_90 (by decide) ?_
    refine zS_ite (fun ht => ?_) (fun _ => zS_none)
    refine s_callV (pc := 91) (np := 2) (as := [.int a3, .int 2]) (rest := [.int x14, .int 4, va_rf a0]) dX5_enters_91 ht (q := (RX5, TX5, 20)) rfl (c_X5_of (by decide) a0 a3 2 h12) rfl rfl q3369 q3371 qs52 rfl (by simp [zcat_rf, zcat_i, zcat_l, zcat_f, zcat_d]) (zkI (fun x15 h16 => ?_)) zxo
    refine s_iconst (pc := 94) (v := 2) dX5_enters_94 (by decide) ?_
    refine s_iadd (pc := 95) dX5_enters_95 ?_
    refine s_icmp_ge (pc := 96) (tgt := 103) dX5_enters_96 (by decide) (fun _ => ?_) (fun _ => ?_)
    · refine s_aload_n (pc := 103) 0 dX5_enters_103 rfl rfl ?_
      refine s_iload_n (pc := 104) 1 dX5_enters_104 rfl rfl ?_
      refine s_iload (pc := 105) 3 dX5_enters_105 rfl ?_
      refine zS_ite (fun ht => ?_) (fun _ => zS_none)
      refine s_callV (pc := 107) (np := 2) (as := [.int a2, .int a4]) (rest := [.int 4, va_rf a0]) dX5_enters_107 ht (q := (RX5, TX5, 20)) rfl (c_X5_isFree (by decide) a0 a2 a4 h16) rfl rfl q3388 q3390 qs55 rfl (by simp [zcat_rf, zcat_i, zcat_l, zcat_f, zcat_d]) (zkI (fun x17 h18 => ?_)) zxo
      refine s_if_ne (pc := 110) (tgt := 117) dX5_enters_110 (by decide) (fun _ => ?_) (fun _ => ?_)
      · refine s_iconst (pc := 117) (v := 0) dX5_enters_117 (by decide) ?_
        exact s_sub (pc := 118) [0, 1, 2] rfl (w_X5_enters_118 a0 a2 a3 0 4 a0 h18)
      · refine s_iconst (pc := 113) (v := 2) dX5_enters_113 (by decide) ?_
        refine s_goto (pc := 114) (tgt := 118) dX5_enters_114 (by decide) ?_
        exact s_sub (pc := 118) [0, 1, 2] rfl (w_X5_enters_118 a0 a2 a3 2 4 a0 h18)
    · refine s_iconst (pc := 99) (v := 1) dX5_enters_99 (by decide) ?_
      refine s_goto (pc := 100) (tgt := 118) dX5_enters_100 (by decide) ?_
      exact s_sub (pc := 118) [0, 1, 2] rfl (w_X5_enters_118 a0 a2 a3 1 4 a0 h16)
theorem w_X5_enters_72 (a0 : Option Nat) (a2 : Int32) (a3 : Int32) (a4 : Int32) (s0 : Int32) (s1 : Int32) (s2 : Option Nat) (h : zH) : zS D z yX5_enters cX5_enters 6 (some .int) [] 7 h 72 [(0, va_rf a0), (2, .int a2), (3, .int a3), (4, .int a4)] [.int s0, .int s1, va_rf s2] (f_X5_enters_72 a0 a2 a3 a4 s0 s1 s2 h) := by
  unfold f_X5_enters_72
  refine s_iconst (pc := 72) (v := 0) dX5_enters_72 (by decide) ?_
  exact s_sub (pc := 73) [0, 1, 2, 3] rfl (w_X5_enters_73 a0 a2 a3 a4 0 s0 s1 s2 h)
theorem w_X5_enters_48 (a0 : Option Nat) (a2 : Int32) (a3 : Int32) (a4 : Int32) (a5 : Int32) (s0 : Int32) (s1 : Option Nat) (h : zH) : zS D z yX5_enters cX5_enters 6 (some .int) [] 7 h 48 [(0, va_rf a0), (2, .int a2), (3, .int a3), (4, .int a4), (5, .int a5)] [.int s0, va_rf s1] (f_X5_enters_48 a0 a2 a3 a4 a5 s0 s1 h) := by
  unfold f_X5_enters_48
  refine s_iload (pc := 48) 4 dX5_enters_48 rfl ?_
  refine s_aload_n (pc := 50) 0 dX5_enters_50 rfl rfl ?_
  refine s_iload_n (pc := 51) 2 dX5_enters_51 rfl rfl ?_
  refine zS_ite (fun ht => ?_) (fun _ => zS_none)
  refine s_callV (pc := 52) (np := 1) (as := [.int a3]) (rest := [.int a5, .int s0, va_rf s1]) dX5_enters_52 ht (q := (RX5, TX5, 20)) rfl (c_X5_isDocked (by decide) a0 a3 h) rfl rfl q3373 q3375 qs53 rfl (by simp [zcat_rf, zcat_i, zcat_l, zcat_f, zcat_d]) (zkI (fun x7 h8 => ?_)) zxo
  refine s_if_ne (pc := 55) (tgt := 72) dX5_enters_55 (by decide) (fun _ => ?_) (fun _ => ?_)
  · exact s_sub (pc := 72) [0, 1, 2, 3] rfl (w_X5_enters_72 a0 a2 a3 a4 a5 s0 s1 h8)
  · refine s_aload_n (pc := 58) 0 dX5_enters_58 rfl rfl ?_
    refine s_gR (pc := 59) dX5_enters_59 gf_X5_9 (fun r9 => ?_)
    refine s_iconst (pc := 62) (v := 2) dX5_enters_62 (by decide) ?_
    refine s_iald (pc := 63) dX5_enters_63 (ztc rfl zt0) (fun x10 => ?_)
    refine s_iconst (pc := 64) (v := 1) dX5_enters_64 (by decide) ?_
    refine s_icmp_ne (pc := 65) (tgt := 72) dX5_enters_65 (by decide) (fun _ => ?_) (fun _ => ?_)
    · exact s_sub (pc := 72) [0, 1, 2, 3] rfl (w_X5_enters_72 a0 a2 a3 a4 a5 s0 s1 h8)
    · refine s_iconst (pc := 68) (v := 1) dX5_enters_68 (by decide) ?_
      refine s_goto (pc := 69) (tgt := 73) dX5_enters_69 (by decide) ?_
      exact s_sub (pc := 73) [0, 1, 2, 3] rfl (w_X5_enters_73 a0 a2 a3 a4 1 a5 s0 s1 h8)
theorem w_X5_enters_35 (a0 : Option Nat) (a2 : Int32) (a3 : Int32) (a4 : Int32) (s0 : Int32) (h : zH) : zS D z yX5_enters cX5_enters 6 (some .int) [] 7 h 35 [(0, va_rf a0), (2, .int a2), (3, .int a3), (4, .int a4)] [.int s0] (f_X5_enters_35 a0 a2 a3 a4 s0 h) := by
  unfold f_X5_enters_35
  refine s_ist (pc := 35) (L2 := [(0, va_rf a0), (2, .int a2), (3, .int a3), (4, .int a4)]) [0, 1, 2, 3] dX5_enters_35 (by decide) rfl rfl (zcB (j := 3) rfl rfl rfl) ?_
  refine s_aload_n (pc := 37) 1 dX5_enters_37 rfl rfl ?_
  refine s_iload_n (pc := 38) 3 dX5_enters_38 rfl rfl ?_
  refine s_iconst (pc := 39) (v := -1) dX5_enters_39 (by decide) ?_
  refine s_icmp_eq (pc := 40) (tgt := 47) dX5_enters_40 (by decide) (fun _ => ?_) (fun _ => ?_)
  · refine s_iconst (pc := 47) (v := 0) dX5_enters_47 (by decide) ?_
    exact s_sub (pc := 48) [1, 2, 3, 4, 0] rfl (w_X5_enters_48 a0 a2 a3 a4 s0 0 a0 h)
  · refine s_iconst (pc := 43) (v := 1) dX5_enters_43 (by decide) ?_
    refine s_goto (pc := 44) (tgt := 48) dX5_enters_44 (by decide) ?_
    exact s_sub (pc := 48) [1, 2, 3, 4, 0] rfl (w_X5_enters_48 a0 a2 a3 a4 s0 1 a0 h)
theorem w_X5_enters_34 (a0 : Option Nat) (a2 : Int32) (a3 : Int32) (a4 : Int32) (h : zH) : zS D z yX5_enters cX5_enters 6 (some .int) [] 7 h 34 [(0, va_rf a0), (2, .int a2), (3, .int a3), (4, .int a4)] [] (f_X5_enters_34 a0 a2 a3 a4 h) := by
  unfold f_X5_enters_34
  refine s_iconst (pc := 34) (v := 0) dX5_enters_34 (by decide) ?_
  exact s_sub (pc := 35) [0, 1, 2, 3] rfl (w_X5_enters_35 a0 a2 a3 a4 0 h)
theorem w_X5_enters (v0 : Option Nat) (v1 : Int32) (v2 : Int32) (h : zH) : zS D z yX5_enters cX5_enters 6 (some .int) [] 7 h 0 [(0, va_rf v0), (1, .int v1), (2, .int v2)] [] (f_X5_enters v0 v1 v2 h) := by
  unfold f_X5_enters
  refine s_aload_n (pc := 0) 0 dX5_enters_0 rfl rfl ?_
  refine s_iload_n (pc := 1) 1 dX5_enters_1 rfl rfl ?_
  refine zS_ite (fun ht => ?_) (fun _ => zS_none)
  refine s_callV (pc := 2) (np := 1) (as := [.int v1]) (rest := []) dX5_enters_2 ht (q := (RX5, TX5, 20)) rfl (c_X5_find (by decide) v0 v1 h) rfl rfl q3365 q3367 qs51 rfl (by decide) (zkI (fun x1 h2 => ?_)) zxo
  refine s_ist_n (pc := 5) (L2 := [(0, va_rf v0), (2, .int v2)]) [0, 2] dX5_enters_5 rfl (by decide) rfl rfl (zcB (j := 1) rfl rfl rfl) ?_
  refine s_aload_n (pc := 6) 1 dX5_enters_6 rfl rfl ?_
  refine s_iload_n (pc := 7) 0 dX5_enters_7 rfl rfl ?_
  refine s_iconst (pc := 8) (v := 1) dX5_enters_8 (by decide) ?_
  refine zS_ite (fun ht => ?_) (fun _ => zS_none)
  refine s_callV (pc := 9) (np := 2) (as := [.int x1, .int 1]) (rest := []) dX5_enters_9 ht (q := (RX5, TX5, 20)) rfl (c_X5_of (by decide) v0 x1 1 h2) rfl rfl q3369 q3371 qs52 rfl (by decide) (zkI (fun x3 h4 => ?_)) zxo
  refine s_ist (pc := 12) (L2 := [(3, .int x1), (0, va_rf v0), (2, .int v2)]) [0, 1, 2] dX5_enters_12 (by decide) rfl rfl (zcB (j := 0) rfl rfl rfl) ?_
  refine s_iload_n (pc := 14) 3 dX5_enters_14 rfl rfl ?_
  refine s_callSS (pc := 15) (np := 1) (as := [.int v2]) (rest := []) dX5_enters_15 (c_X5_isMetre (by decide) v2 h4) rfl rfl q3385 q3386 rfl (by decide) (zkI (fun x5 h6 => ?_)) zxo
  refine s_if_eq (pc := 18) (tgt := 34) dX5_enters_18 (by decide) (fun _ => ?_) (fun _ => ?_)
  · exact s_sub (pc := 34) [2, 3, 1, 0] rfl (w_X5_enters_34 v0 v2 x1 x3 h6)
  · refine s_iload_n (pc := 21) 3 dX5_enters_21 rfl rfl ?_
    refine s_bipush (pc := 22) (v := 60) dX5_enters_22 (by decide) ?_
    refine s_iload (pc := 24) 0 dX5_enters_24 rfl ?_
    refine s_isub (pc := 26) dX5_enters_26 ?_
    refine s_icmp_gt (pc := 27) (tgt := 34) dX5_enters_27 (by decide) (fun _ => ?_) (fun _ => ?_)
    · exact s_sub (pc := 34) [2, 3, 1, 0] rfl (w_X5_enters_34 v0 v2 x1 x3 h6)
    · refine s_iconst (pc := 30) (v := 1) dX5_enters_30 (by decide) ?_
      refine s_goto (pc := 31) (tgt := 35) dX5_enters_31 (by decide) ?_
      exact s_sub (pc := 35) [2, 3, 1, 0] rfl (w_X5_enters_35 v0 v2 x1 x3 1 h6)
theorem c_X5_enters {d0 : Nat} (hd0 : 7 < d0) (v0 : Option Nat) (v1 : Int32) (v2 : Int32) (h : zH) : zCal D z d0 h yX5_enters [va_rf v0, .int v1, .int v2] (f_X5_enters v0 v1 v2 h) :=
  ⟨cX5_enters, 6, (some .int), [], 7, (show lv_args 0 [va_rf v0, .int v1, .int v2] = [(0, va_rf v0), (1, .int v1), (2, .int v2)] by simp [lv_args, zcat_rf, zcat_i, zcat_l, zcat_f, zcat_d]) ▸ w_X5_enters v0 v1 v2 h, (plainFor_of_name (by decide)), by simp [lg_sl, zcat_rf, zcat_i, zcat_l, zcat_f, zcat_d], q3384, q140, hd0, by decide, by decide⟩
theorem w_X5_enter (v0 : Option Nat) (v1 : Int32) (v2 : Int32) (h : zH) : zS D z yX5_enter cX5_enter 3 (some .int) [] 8 h 0 [(0, va_rf v0), (1, .int v1), (2, .int v2)] [] (f_X5_enter v0 v1 v2 h) := by
  unfold f_X5_enter
  refine s_aload_n (pc := 0) 0 dX5_enter_0 rfl rfl ?_
  refine zS_ite (fun ht => ?_) (fun _ => zS_none)
  refine s_callV (pc := 1) (np := 0) (as := []) (rest := []) dX5_enter_1 ht (q := (RX5, TX5, 20)) rfl (c_X5_begins (by decide) v0 h) rfl rfl q3334 q3336 qs46 rfl (by decide) (zkV (fun h1 => ?_)) zxo
  refine s_aload_n (pc := 4) 0 dX5_enter_4 rfl rfl ?_
  refine s_aload_n (pc := 5) 0 dX5_enter_5 rfl rfl ?_
  refine s_iload_n (pc := 6) 1 dX5_enter_6 rfl rfl ?_
  refine s_iload_n (pc := 7) 2 dX5_enter_7 rfl rfl ?_
  refine zS_ite (fun ht => ?_) (fun _ => zS_none)
  refine s_callV (pc := 8) (np := 2) (as := [.int v1, .int v2]) (rest := [va_rf v0]) dX5_enter_8 ht (q := (RX5, TX5, 20)) rfl (c_X5_enters (by decide) v0 v1 v2 h1) rfl rfl q3381 q3383 qs54 rfl (by simp [zcat_rf, zcat_i, zcat_l, zcat_f, zcat_d]) (zkI (fun x2 h3 => ?_)) zxo
  refine zS_ite (fun ht => ?_) (fun _ => zS_none)
  refine s_callV (pc := 11) (np := 1) (as := [.int x2]) (rest := []) dX5_enter_11 ht (q := (RX5, TX5, 20)) rfl (c_X5_ends (by decide) v0 x2 h3) rfl rfl q3349 q3351 qs48 rfl (by decide) (zkI (fun x4 h5 => ?_)) zxo
  exact s_iret (pc := 14) dX5_enter_14 rfl
theorem c_X5_enter {d0 : Nat} (hd0 : 8 < d0) (v0 : Option Nat) (v1 : Int32) (v2 : Int32) (h : zH) : zCal D z d0 h yX5_enter [va_rf v0, .int v1, .int v2] (f_X5_enter v0 v1 v2 h) :=
  ⟨cX5_enter, 3, (some .int), [], 8, (show lv_args 0 [va_rf v0, .int v1, .int v2] = [(0, va_rf v0), (1, .int v1), (2, .int v2)] by simp [lv_args, zcat_rf, zcat_i, zcat_l, zcat_f, zcat_d]) ▸ w_X5_enter v0 v1 v2 h, (plainFor_of_name (by decide)), by simp [lg_sl, zcat_rf, zcat_i, zcat_l, zcat_f, zcat_d], q3380, q140, hd0, by decide, by decide⟩
theorem w_X5_floats (v0 : Option Nat) (v1 : Int32) (h : zH) : zS D z yX5_floats cX5_floats 2 (some .boolean) [] 5 h 0 [(0, va_rf v0), (1, .int v1)] [] (f_X5_floats v0 v1 h) := by
  unfold f_X5_floats
  refine s_aload_n (pc := 0) 0 dX5_floats_0 rfl rfl ?_
  refine s_iload_n (pc := 1) 1 dX5_floats_1 rfl rfl ?_
  refine zS_ite (fun ht => ?_) (fun _ => zS_none)
  refine s_callV (pc := 2) (np := 1) (as := [.int v1]) (rest := []) dX5_floats_2 ht (q := (RX5, TX5, 20)) rfl (c_X5_isDocked (by decide) v0 v1 h) rfl rfl q3373 q3375 qs53 rfl (by decide) (zkI (fun x1 h2 => ?_)) zxo
  refine s_if_eq (pc := 5) (tgt := 23) dX5_floats_5 (by decide) (fun _ => ?_) (fun _ => ?_)
  · refine s_iconst (pc := 23) (v := 1) dX5_floats_23 (by decide) ?_
    refine s_goto (pc := 24) (tgt := 28) dX5_floats_24 (by decide) ?_
    exact s_nret (pc := 28) dX5_floats_28 rfl
  · refine s_aload_n (pc := 8) 0 dX5_floats_8 rfl rfl ?_
    refine s_gR (pc := 9) dX5_floats_9 gf_X5_9 (fun r3 => ?_)
    refine s_iconst (pc := 12) (v := 1) dX5_floats_12 (by decide) ?_
    refine s_iald (pc := 13) dX5_floats_13 (ztc rfl zt0) (fun x4 => ?_)
    refine s_aload_n (pc := 14) 0 dX5_floats_14 rfl rfl ?_
    refine s_iload_n (pc := 15) 1 dX5_floats_15 rfl rfl ?_
    refine s_iconst (pc := 16) (v := 2) dX5_floats_16 (by decide) ?_
    refine zS_ite (fun ht => ?_) (fun _ => zS_none)
    refine s_callV (pc := 17) (np := 2) (as := [.int v1, .int 2]) (rest := [.int x4]) dX5_floats_17 ht (q := (RX5, TX5, 20)) rfl (c_X5_of (by decide) v0 v1 2 h2) rfl rfl q3369 q3371 qs52 rfl (by simp [zcat_rf, zcat_i, zcat_l, zcat_f, zcat_d]) (zkI (fun x5 h6 => ?_)) zxo
    refine s_icmp_lt (pc := 20) (tgt := 27) dX5_floats_20 (by decide) (fun _ => ?_) (fun _ => ?_)
    · refine s_iconst (pc := 27) (v := 0) dX5_floats_27 (by decide) ?_
      exact s_nret (pc := 28) dX5_floats_28 rfl
    · refine s_iconst (pc := 23) (v := 1) dX5_floats_23 (by decide) ?_
      refine s_goto (pc := 24) (tgt := 28) dX5_floats_24 (by decide) ?_
      exact s_nret (pc := 28) dX5_floats_28 rfl
theorem c_X5_floats {d0 : Nat} (hd0 : 5 < d0) (v0 : Option Nat) (v1 : Int32) (h : zH) : zCal D z d0 h yX5_floats [va_rf v0, .int v1] (f_X5_floats v0 v1 h) :=
  ⟨cX5_floats, 2, (some .boolean), [], 5, (show lv_args 0 [va_rf v0, .int v1] = [(0, va_rf v0), (1, .int v1)] by simp [lv_args, zcat_rf, zcat_i, zcat_l, zcat_f, zcat_d]) ▸ w_X5_floats v0 v1 h, (plainFor_of_name (by decide)), by simp [lg_sl, zcat_rf, zcat_i, zcat_l, zcat_f, zcat_d], q3415, q140, hd0, by decide, by decide⟩
theorem w_X5_leaves_80 (a0 : Option Nat) (a2 : Int32) (h : zH) : zS D z yX5_leaves cX5_leaves 3 (some .int) [] 6 h 80 [(0, va_rf a0), (2, .int a2)] [] (f_X5_leaves_80 a0 a2 h) := by
  unfold f_X5_leaves_80
  refine s_aload_n (pc := 80) 0 dX5_leaves_80 rfl rfl ?_
  refine s_gI (pc := 81) dX5_leaves_81 gf_X5_42 (fun x14 => ?_)
  refine s_if_eq (pc := 84) (tgt := 89) dX5_leaves_84 (by decide) (fun _ => ?_) (fun _ => ?_)
  · refine s_aload_n (pc := 89) 0 dX5_leaves_89 rfl rfl ?_
    refine s_gR (pc := 90) dX5_leaves_90 gf_X5_9 (fun r15 => ?_)
    refine s_iload_n (pc := 93) 1 dX5_leaves_93 rfl rfl ?_
    refine s_iconst (pc := 94) (v := 4) dX5_leaves_94 (by decide) ?_
    refine s_callSS (pc := 95) (np := 2) (as := [.int a2, .int 4]) (rest := [va_rf r15]) dX5_leaves_95 (c_X5_place (by decide) a2 4 h) rfl rfl q3345 q3346 rfl (by simp [zcat_rf, zcat_i, zcat_l, zcat_f, zcat_d]) (zkI (fun x16 h17 => ?_)) zxo
    refine s_iconst (pc := 98) (v := -1) dX5_leaves_98 (by decide) ?_
    refine s_iast (pc := 99) dX5_leaves_99 (ztc rfl zt0) (fun h18 => ?_)
    refine s_aload_n (pc := 100) 0 dX5_leaves_100 rfl rfl ?_
    refine s_gR (pc := 101) dX5_leaves_101 gf_X5_9 (fun r19 => ?_)
    refine s_iload_n (pc := 104) 1 dX5_leaves_104 rfl rfl ?_
    refine s_iconst (pc := 105) (v := 5) dX5_leaves_105 (by decide) ?_
    refine s_callSS (pc := 106) (np := 2) (as := [.int a2, .int 5]) (rest := [va_rf r19]) dX5_leaves_106 (c_X5_place (by decide) a2 5 h18) rfl rfl q3345 q3346 rfl (by simp [zcat_rf, zcat_i, zcat_l, zcat_f, zcat_d]) (zkI (fun x20 h21 => ?_)) zxo
    refine s_iconst (pc := 109) (v := 0) dX5_leaves_109 (by decide) ?_
    refine s_iast (pc := 110) dX5_leaves_110 (ztc rfl zt0) (fun h22 => ?_)
    refine s_aload_n (pc := 111) 0 dX5_leaves_111 rfl rfl ?_
    refine zS_ite (fun ht => ?_) (fun _ => zS_none)
    refine s_callV (pc := 112) (np := 0) (as := []) (rest := []) dX5_leaves_112 ht (q := (RX5, TX5, 20)) rfl (c_X5_docked (by decide) a0 h22) rfl rfl q3400 q3402 qs58 rfl (by decide) (zkI (fun x23 h24 => ?_)) zxo
    exact s_iret (pc := 115) dX5_leaves_115 rfl
  · refine s_iconst (pc := 87) (v := 0) dX5_leaves_87 (by decide) ?_
    exact s_iret (pc := 88) dX5_leaves_88 rfl
theorem w_X5_leaves_77 (a0 : Option Nat) (a2 : Int32) (s0 : Int32) (s1 : Int32) (s2 : Option Nat) (h : zH) : zS D z yX5_leaves cX5_leaves 3 (some .int) [] 6 h 77 [(0, va_rf a0), (2, .int a2)] [.int s0, .int s1, va_rf s2] (f_X5_leaves_77 a0 a2 s0 s1 s2 h) := by
  unfold f_X5_leaves_77
  refine zS_ite (fun ht => ?_) (fun _ => zS_none)
  refine s_callV (pc := 77) (np := 2) (as := [.int s1, .int s0]) (rest := []) dX5_leaves_77 ht (q := (RX5, TX5, 20)) rfl (c_X5_refuses (by decide) s2 s1 s0 h) rfl rfl q3396 q3398 qs57 rfl (by decide) (zkV (fun h13 => ?_)) zxo
  exact s_sub (pc := 80) [0, 1] rfl (w_X5_leaves_80 a0 a2 h13)
theorem w_X5_leaves_40 (a0 : Option Nat) (a2 : Int32) (s0 : Int32) (s1 : Int32) (s2 : Option Nat) (h : zH) : zS D z yX5_leaves cX5_leaves 3 (some .int) [] 6 h 40 [(0, va_rf a0), (2, .int a2)] [.int s0, .int s1, va_rf s2] (f_X5_leaves_40 a0 a2 s0 s1 s2 h) := by
  unfold f_X5_leaves_40
  refine s_iconst (pc := 40) (v := 1) dX5_leaves_40 (by decide) ?_
  refine s_iconst (pc := 41) (v := 1) dX5_leaves_41 (by decide) ?_
  refine zS_ite (fun ht => ?_) (fun _ => zS_none)
  refine s_callV (pc := 42) (np := 4) (as := [.int s1, .int s0, .int 1, .int 1]) (rest := []) dX5_leaves_42 ht (q := (RX5, TX5, 20)) rfl (c_X5_holds (by decide) s2 s1 s0 1 1 h) rfl rfl q3315 q3317 qs45 rfl (by decide) (zkI (fun x7 h8 => ?_)) zxo
  refine s_if_eq (pc := 45) (tgt := 80) dX5_leaves_45 (by decide) (fun _ => ?_) (fun _ => ?_)
  · exact s_sub (pc := 80) [0, 1] rfl (w_X5_leaves_80 a0 a2 h8)
  · refine s_aload_n (pc := 48) 0 dX5_leaves_48 rfl rfl ?_
    refine s_iconst (pc := 49) (v := 3) dX5_leaves_49 (by decide) ?_
    refine s_aload_n (pc := 50) 0 dX5_leaves_50 rfl rfl ?_
    refine s_iload_n (pc := 51) 1 dX5_leaves_51 rfl rfl ?_
    refine zS_ite (fun ht => ?_) (fun _ => zS_none)
    refine s_callV (pc := 52) (np := 1) (as := [.int a2]) (rest := [.int 3, va_rf a0]) dX5_leaves_52 ht (q := (RX5, TX5, 20)) rfl (c_X5_floats (by decide) a0 a2 h8) rfl rfl q3412 q3414 qs60 rfl (by simp [zcat_rf, zcat_i, zcat_l, zcat_f, zcat_d]) (zkI (fun x9 h10 => ?_)) zxo
    refine s_if_ne (pc := 55) (tgt := 62) dX5_leaves_55 (by decide) (fun _ => ?_) (fun _ => ?_)
    · refine s_aload_n (pc := 62) 0 dX5_leaves_62 rfl rfl ?_
      refine s_iload_n (pc := 63) 1 dX5_leaves_63 rfl rfl ?_
      refine s_bipush (pc := 64) (v := 8) dX5_leaves_64 (by decide) ?_
      refine zS_ite (fun ht => ?_) (fun _ => zS_none)
      refine s_callV (pc := 66) (np := 2) (as := [.int a2, .int 8]) (rest := [.int 3, va_rf a0]) dX5_leaves_66 ht (q := (RX5, TX5, 20)) rfl (c_X5_of (by decide) a0 a2 8 h10) rfl rfl q3369 q3371 qs52 rfl (by simp [zcat_rf, zcat_i, zcat_l, zcat_f, zcat_d]) (zkI (fun x11 h12 => ?_)) zxo
      refine s_if_eq (pc := 69) (tgt := 76) dX5_leaves_69 (by decide) (fun _ => ?_) (fun _ => ?_)
      · refine s_iconst (pc := 76) (v := 0) dX5_leaves_76 (by decide) ?_
        exact s_sub (pc := 77) [0, 1] rfl (w_X5_leaves_77 a0 a2 0 3 a0 h12)
      · refine s_iconst (pc := 72) (v := 4) dX5_leaves_72 (by decide) ?_
        refine s_goto (pc := 73) (tgt := 77) dX5_leaves_73 (by decide) ?_
        exact s_sub (pc := 77) [0, 1] rfl (w_X5_leaves_77 a0 a2 4 3 a0 h12)
    · refine s_iconst (pc := 58) (v := 3) dX5_leaves_58 (by decide) ?_
      refine s_goto (pc := 59) (tgt := 77) dX5_leaves_59 (by decide) ?_
      exact s_sub (pc := 77) [0, 1] rfl (w_X5_leaves_77 a0 a2 3 3 a0 h10)
theorem w_X5_leaves_39 (a0 : Option Nat) (a2 : Int32) (s0 : Int32) (s1 : Option Nat) (h : zH) : zS D z yX5_leaves cX5_leaves 3 (some .int) [] 6 h 39 [(0, va_rf a0), (2, .int a2)] [.int s0, va_rf s1] (f_X5_leaves_39 a0 a2 s0 s1 h) := by
  unfold f_X5_leaves_39
  refine s_iconst (pc := 39) (v := 0) dX5_leaves_39 (by decide) ?_
  exact s_sub (pc := 40) [0, 1] rfl (w_X5_leaves_40 a0 a2 0 s0 s1 h)
theorem w_X5_leaves_17 (a0 : Option Nat) (a2 : Int32) (s0 : Int32) (s1 : Option Nat) (h : zH) : zS D z yX5_leaves cX5_leaves 3 (some .int) [] 6 h 17 [(0, va_rf a0), (2, .int a2)] [.int s0, va_rf s1] (f_X5_leaves_17 a0 a2 s0 s1 h) := by
  unfold f_X5_leaves_17
  refine s_aload_n (pc := 17) 0 dX5_leaves_17 rfl rfl ?_
  refine s_iload_n (pc := 18) 1 dX5_leaves_18 rfl rfl ?_
  refine zS_ite (fun ht => ?_) (fun _ => zS_none)
  refine s_callV (pc := 19) (np := 1) (as := [.int a2]) (rest := [.int s0, va_rf s1]) dX5_leaves_19 ht (q := (RX5, TX5, 20)) rfl (c_X5_isDocked (by decide) a0 a2 h) rfl rfl q3373 q3375 qs53 rfl (by simp [zcat_rf, zcat_i, zcat_l, zcat_f, zcat_d]) (zkI (fun x3 h4 => ?_)) zxo
  refine s_if_eq (pc := 22) (tgt := 39) dX5_leaves_22 (by decide) (fun _ => ?_) (fun _ => ?_)
  · exact s_sub (pc := 39) [0, 1] rfl (w_X5_leaves_39 a0 a2 s0 s1 h4)
  · refine s_aload_n (pc := 25) 0 dX5_leaves_25 rfl rfl ?_
    refine s_gR (pc := 26) dX5_leaves_26 gf_X5_9 (fun r5 => ?_)
    refine s_iconst (pc := 29) (v := 2) dX5_leaves_29 (by decide) ?_
    refine s_iald (pc := 30) dX5_leaves_30 (ztc rfl zt0) (fun x6 => ?_)
    refine s_iconst (pc := 31) (v := 1) dX5_leaves_31 (by decide) ?_
    refine s_icmp_ne (pc := 32) (tgt := 39) dX5_leaves_32 (by decide) (fun _ => ?_) (fun _ => ?_)
    · exact s_sub (pc := 39) [0, 1] rfl (w_X5_leaves_39 a0 a2 s0 s1 h4)
    · refine s_iconst (pc := 35) (v := 1) dX5_leaves_35 (by decide) ?_
      refine s_goto (pc := 36) (tgt := 40) dX5_leaves_36 (by decide) ?_
      exact s_sub (pc := 40) [0, 1] rfl (w_X5_leaves_40 a0 a2 1 s0 s1 h4)
theorem w_X5_leaves (v0 : Option Nat) (v1 : Int32) (h : zH) : zS D z yX5_leaves cX5_leaves 3 (some .int) [] 6 h 0 [(0, va_rf v0), (1, .int v1)] [] (f_X5_leaves v0 v1 h) := by
  unfold f_X5_leaves
  refine s_aload_n (pc := 0) 0 dX5_leaves_0 rfl rfl ?_
  refine s_iload_n (pc := 1) 1 dX5_leaves_1 rfl rfl ?_
  refine zS_ite (fun ht => ?_) (fun _ => zS_none)
  refine s_callV (pc := 2) (np := 1) (as := [.int v1]) (rest := []) dX5_leaves_2 ht (q := (RX5, TX5, 20)) rfl (c_X5_find (by decide) v0 v1 h) rfl rfl q3365 q3367 qs51 rfl (by decide) (zkI (fun x1 h2 => ?_)) zxo
  refine s_ist_n (pc := 5) (L2 := [(0, va_rf v0)]) [0] dX5_leaves_5 rfl (by decide) rfl rfl (zcA rfl) ?_
  refine s_aload_n (pc := 6) 1 dX5_leaves_6 rfl rfl ?_
  refine s_iload_n (pc := 7) 0 dX5_leaves_7 rfl rfl ?_
  refine s_iconst (pc := 8) (v := -1) dX5_leaves_8 (by decide) ?_
  refine s_icmp_eq (pc := 9) (tgt := 16) dX5_leaves_9 (by decide) (fun _ => ?_) (fun _ => ?_)
  · refine s_iconst (pc := 16) (v := 0) dX5_leaves_16 (by decide) ?_
    exact s_sub (pc := 17) [1, 0] rfl (w_X5_leaves_17 v0 x1 0 v0 h2)
  · refine s_iconst (pc := 12) (v := 1) dX5_leaves_12 (by decide) ?_
    refine s_goto (pc := 13) (tgt := 17) dX5_leaves_13 (by decide) ?_
    exact s_sub (pc := 17) [1, 0] rfl (w_X5_leaves_17 v0 x1 1 v0 h2)
theorem c_X5_leaves {d0 : Nat} (hd0 : 6 < d0) (v0 : Option Nat) (v1 : Int32) (h : zH) : zCal D z d0 h yX5_leaves [va_rf v0, .int v1] (f_X5_leaves v0 v1 h) :=
  ⟨cX5_leaves, 3, (some .int), [], 6, (show lv_args 0 [va_rf v0, .int v1] = [(0, va_rf v0), (1, .int v1)] by simp [lv_args, zcat_rf, zcat_i, zcat_l, zcat_f, zcat_d]) ▸ w_X5_leaves v0 v1 h, (plainFor_of_name (by decide)), by simp [lg_sl, zcat_rf, zcat_i, zcat_l, zcat_f, zcat_d], q3411, q140, hd0, by decide, by decide⟩
theorem w_X5_leave (v0 : Option Nat) (v1 : Int32) (h : zH) : zS D z yX5_leave cX5_leave 2 (some .int) [] 7 h 0 [(0, va_rf v0), (1, .int v1)] [] (f_X5_leave v0 v1 h) := by
  unfold f_X5_leave
  refine s_aload_n (pc := 0) 0 dX5_leave_0 rfl rfl ?_
  refine zS_ite (fun ht => ?_) (fun _ => zS_none)
  refine s_callV (pc := 1) (np := 0) (as := []) (rest := []) dX5_leave_1 ht (q := (RX5, TX5, 20)) rfl (c_X5_begins (by decide) v0 h) rfl rfl q3334 q3336 qs46 rfl (by decide) (zkV (fun h1 => ?_)) zxo
  refine s_aload_n (pc := 4) 0 dX5_leave_4 rfl rfl ?_
  refine s_aload_n (pc := 5) 0 dX5_leave_5 rfl rfl ?_
  refine s_iload_n (pc := 6) 1 dX5_leave_6 rfl rfl ?_
  refine zS_ite (fun ht => ?_) (fun _ => zS_none)
  refine s_callV (pc := 7) (np := 1) (as := [.int v1]) (rest := [va_rf v0]) dX5_leave_7 ht (q := (RX5, TX5, 20)) rfl (c_X5_leaves (by decide) v0 v1 h1) rfl rfl q3408 q3410 qs59 rfl (by simp [zcat_rf, zcat_i, zcat_l, zcat_f, zcat_d]) (zkI (fun x2 h3 => ?_)) zxo
  refine zS_ite (fun ht => ?_) (fun _ => zS_none)
  refine s_callV (pc := 10) (np := 1) (as := [.int x2]) (rest := []) dX5_leave_10 ht (q := (RX5, TX5, 20)) rfl (c_X5_ends (by decide) v0 x2 h3) rfl rfl q3349 q3351 qs48 rfl (by decide) (zkI (fun x4 h5 => ?_)) zxo
  exact s_iret (pc := 13) dX5_leave_13 rfl
theorem c_X5_leave {d0 : Nat} (hd0 : 7 < d0) (v0 : Option Nat) (v1 : Int32) (h : zH) : zCal D z d0 h yX5_leave [va_rf v0, .int v1] (f_X5_leave v0 v1 h) :=
  ⟨cX5_leave, 2, (some .int), [], 7, (show lv_args 0 [va_rf v0, .int v1] = [(0, va_rf v0), (1, .int v1)] by simp [lv_args, zcat_rf, zcat_i, zcat_l, zcat_f, zcat_d]) ▸ w_X5_leave v0 v1 h, (plainFor_of_name (by decide)), by simp [lg_sl, zcat_rf, zcat_i, zcat_l, zcat_f, zcat_d], q3407, q140, hd0, by decide, by decide⟩
theorem w_X5_cleans_17 (a0 : Option Nat) (a2 : Int32) (a3 : Int32) (s0 : Int32) (s1 : Option Nat) (h : zH) : zS D z yX5_cleans cX5_cleans 5 (some .int) [] 5 h 17 [(0, va_rf a0), (2, .int a2), (3, .int a3)] [.int s0, va_rf s1] (f_X5_cleans_17 a0 a2 a3 s0 s1 h) := by
  unfold f_X5_cleans_17
  refine s_aload_n (pc := 17) 0 dX5_cleans_17 rfl rfl ?_
  refine s_iload_n (pc := 18) 2 dX5_cleans_18 rfl rfl ?_
  refine zS_ite (fun ht => ?_) (fun _ => zS_none)
  refine s_callV (pc := 19) (np := 1) (as := [.int a3]) (rest := [.int s0, va_rf s1]) dX5_cleans_19 ht (q := (RX5, TX5, 20)) rfl (c_X5_isDocked (by decide) a0 a3 h) rfl rfl q3373 q3375 qs53 rfl (by simp [zcat_rf, zcat_i, zcat_l, zcat_f, zcat_d]) (zkI (fun x3 h4 => ?_)) zxo
  refine s_iconst (pc := 22) (v := 1) dX5_cleans_22 (by decide) ?_
  refine s_iconst (pc := 23) (v := 1) dX5_cleans_23 (by decide) ?_
  refine zS_ite (fun ht => ?_) (fun _ => zS_none)
  refine s_callV (pc := 24) (np := 4) (as := [.int s0, .int x3, .int 1, .int 1]) (rest := []) dX5_cleans_24 ht (q := (RX5, TX5, 20)) rfl (c_X5_holds (by decide) s1 s0 x3 1 1 h4) rfl rfl q3315 q3317 qs45 rfl (by decide) (zkI (fun x5 h6 => ?_)) zxo
  refine s_if_ne (pc := 27) (tgt := 32) dX5_cleans_27 (by decide) (fun _ => ?_) (fun _ => ?_)
  · refine s_aload_n (pc := 32) 0 dX5_cleans_32 rfl rfl ?_
    refine s_iload_n (pc := 33) 2 dX5_cleans_33 rfl rfl ?_
    refine s_iconst (pc := 34) (v := 5) dX5_cleans_34 (by decide) ?_
    refine zS_ite (fun ht => ?_) (fun _ => zS_none)
    refine s_callV (pc := 35) (np := 2) (as := [.int a3, .int 5]) (rest := []) dX5_cleans_35 ht (q := (RX5, TX5, 20)) rfl (c_X5_of (by decide) a0 a3 5 h6) rfl rfl q3369 q3371 qs52 rfl (by decide) (zkI (fun x7 h8 => ?_)) zxo
    refine s_ist (pc := 38) (L2 := [(0, va_rf a0), (2, .int a2), (3, .int a3)]) [0, 1, 2] dX5_cleans_38 (by decide) rfl rfl (zcB (j := 2) rfl rfl rfl) ?_
    refine s_aload_n (pc := 40) 1 dX5_cleans_40 rfl rfl ?_
    refine s_gR (pc := 41) dX5_cleans_41 gf_X5_9 (fun r9 => ?_)
    refine s_iload_n (pc := 44) 3 dX5_cleans_44 rfl rfl ?_
    refine s_iconst (pc := 45) (v := 5) dX5_cleans_45 (by decide) ?_
    refine s_callSS (pc := 46) (np := 2) (as := [.int a3, .int 5]) (rest := [va_rf r9]) dX5_cleans_46 (c_X5_place (by decide) a3 5 h8) rfl rfl q3345 q3346 rfl (by simp [zcat_rf, zcat_i, zcat_l, zcat_f, zcat_d]) (zkI (fun x10 h11 => ?_)) zxo
    refine s_iload_n (pc := 49) 2 dX5_cleans_49 rfl rfl ?_
    refine s_iast (pc := 50) dX5_cleans_50 (ztc rfl zt0) (fun h12 => ?_)
    refine s_iload (pc := 51) 0 dX5_cleans_51 rfl ?_
    exact s_iret (pc := 53) dX5_cleans_53 rfl
  · refine s_iconst (pc := 30) (v := 0) dX5_cleans_30 (by decide) ?_
    exact s_iret (pc := 31) dX5_cleans_31 rfl
theorem w_X5_cleans (v0 : Option Nat) (v1 : Int32) (v2 : Int32) (h : zH) : zS D z yX5_cleans cX5_cleans 5 (some .int) [] 5 h 0 [(0, va_rf v0), (1, .int v1), (2, .int v2)] [] (f_X5_cleans v0 v1 v2 h) := by
  unfold f_X5_cleans
  refine s_aload_n (pc := 0) 0 dX5_cleans_0 rfl rfl ?_
  refine s_iload_n (pc := 1) 1 dX5_cleans_1 rfl rfl ?_
  refine zS_ite (fun ht => ?_) (fun _ => zS_none)
  refine s_callV (pc := 2) (np := 1) (as := [.int v1]) (rest := []) dX5_cleans_2 ht (q := (RX5, TX5, 20)) rfl (c_X5_find (by decide) v0 v1 h) rfl rfl q3365 q3367 qs51 rfl (by decide) (zkI (fun x1 h2 => ?_)) zxo
  refine s_ist_n (pc := 5) (L2 := [(0, va_rf v0), (2, .int v2)]) [0, 2] dX5_cleans_5 rfl (by decide) rfl rfl (zcB (j := 1) rfl rfl rfl) ?_
  refine s_aload_n (pc := 6) 1 dX5_cleans_6 rfl rfl ?_
  refine s_iload_n (pc := 7) 0 dX5_cleans_7 rfl rfl ?_
  refine s_iconst (pc := 8) (v := -1) dX5_cleans_8 (by decide) ?_
  refine s_icmp_eq (pc := 9) (tgt := 16) dX5_cleans_9 (by decide) (fun _ => ?_) (fun _ => ?_)
  · refine s_iconst (pc := 16) (v := 0) dX5_cleans_16 (by decide) ?_
    exact s_sub (pc := 17) [1, 2, 0] rfl (w_X5_cleans_17 v0 v2 x1 0 v0 h2)
  · refine s_iconst (pc := 12) (v := 1) dX5_cleans_12 (by decide) ?_
    refine s_goto (pc := 13) (tgt := 17) dX5_cleans_13 (by decide) ?_
    exact s_sub (pc := 17) [1, 2, 0] rfl (w_X5_cleans_17 v0 v2 x1 1 v0 h2)
theorem c_X5_cleans {d0 : Nat} (hd0 : 5 < d0) (v0 : Option Nat) (v1 : Int32) (v2 : Int32) (h : zH) : zCal D z d0 h yX5_cleans [va_rf v0, .int v1, .int v2] (f_X5_cleans v0 v1 v2 h) :=
  ⟨cX5_cleans, 5, (some .int), [], 5, (show lv_args 0 [va_rf v0, .int v1, .int v2] = [(0, va_rf v0), (1, .int v1), (2, .int v2)] by simp [lv_args, zcat_rf, zcat_i, zcat_l, zcat_f, zcat_d]) ▸ w_X5_cleans v0 v1 v2 h, (plainFor_of_name (by decide)), by simp [lg_sl, zcat_rf, zcat_i, zcat_l, zcat_f, zcat_d], q3423, q140, hd0, by decide, by decide⟩
theorem w_X5_setCleaning_16 (s0 : Int32) (s1 : Int32) (s2 : Option Nat) (s3 : Option Nat) (h : zH) : zS D z yX5_setCleaning cX5_setCleaning 3 (some .boolean) [] 6 h 16 [] [.int s0, .int s1, va_rf s2, va_rf s3] (f_X5_setCleaning_16 s0 s1 s2 s3 h) := by
  unfold f_X5_setCleaning_16
  refine zS_ite (fun ht => ?_) (fun _ => zS_none)
  refine s_callV (pc := 16) (np := 2) (as := [.int s1, .int s0]) (rest := [va_rf s3]) dX5_setCleaning_16 ht (q := (RX5, TX5, 20)) rfl (c_X5_cleans (by decide) s2 s1 s0 h) rfl rfl q3420 q3422 qs61 rfl (by simp [zcat_rf, zcat_i, zcat_l, zcat_f, zcat_d]) (zkI (fun x2 h3 => ?_)) zxo
  refine zS_ite (fun ht => ?_) (fun _ => zS_none)
  refine s_callV (pc := 19) (np := 1) (as := [.int x2]) (rest := []) dX5_setCleaning_19 ht (q := (RX5, TX5, 20)) rfl (c_X5_ends (by decide) s3 x2 h3) rfl rfl q3349 q3351 qs48 rfl (by decide) (zkI (fun x4 h5 => ?_)) zxo
  refine s_iconst (pc := 22) (v := 1) dX5_setCleaning_22 (by decide) ?_
  refine s_icmp_ne (pc := 23) (tgt := 30) dX5_setCleaning_23 (by decide) (fun _ => ?_) (fun _ => ?_)
  · refine s_iconst (pc := 30) (v := 0) dX5_setCleaning_30 (by decide) ?_
    exact s_nret (pc := 31) dX5_setCleaning_31 rfl
  · refine s_iconst (pc := 26) (v := 1) dX5_setCleaning_26 (by decide) ?_
    refine s_goto (pc := 27) (tgt := 31) dX5_setCleaning_27 (by decide) ?_
    exact s_nret (pc := 31) dX5_setCleaning_31 rfl
theorem w_X5_setCleaning (v0 : Option Nat) (v1 : Int32) (v2 : Int32) (h : zH) : zS D z yX5_setCleaning cX5_setCleaning 3 (some .boolean) [] 6 h 0 [(0, va_rf v0), (1, .int v1), (2, .int v2)] [] (f_X5_setCleaning v0 v1 v2 h) := by
  unfold f_X5_setCleaning
  refine s_aload_n (pc := 0) 0 dX5_setCleaning_0 rfl rfl ?_
  refine zS_ite (fun ht => ?_) (fun _ => zS_none)
  refine s_callV (pc := 1) (np := 0) (as := []) (rest := []) dX5_setCleaning_1 ht (q := (RX5, TX5, 20)) rfl (c_X5_begins (by decide) v0 h) rfl rfl q3334 q3336 qs46 rfl (by decide) (zkV (fun h1 => ?_)) zxo
  refine s_aload_n (pc := 4) 0 dX5_setCleaning_4 rfl rfl ?_
  refine s_aload_n (pc := 5) 0 dX5_setCleaning_5 rfl rfl ?_
  refine s_iload_n (pc := 6) 1 dX5_setCleaning_6 rfl rfl ?_
  refine s_iload_n (pc := 7) 2 dX5_setCleaning_7 rfl rfl ?_
  refine s_if_eq (pc := 8) (tgt := 15) dX5_setCleaning_8 (by decide) (fun _ => ?_) (fun _ => ?_)
  · refine s_iconst (pc := 15) (v := 0) dX5_setCleaning_15 (by decide) ?_
    exact s_sub (pc := 16) [] rfl (w_X5_setCleaning_16 0 v1 v0 v0 h1)
  · refine s_iconst (pc := 11) (v := 1) dX5_setCleaning_11 (by decide) ?_
    refine s_goto (pc := 12) (tgt := 16) dX5_setCleaning_12 (by decide) ?_
    exact s_sub (pc := 16) [] rfl (w_X5_setCleaning_16 1 v1 v0 v0 h1)
theorem c_X5_setCleaning {d0 : Nat} (hd0 : 6 < d0) (v0 : Option Nat) (v1 : Int32) (v2 : Int32) (h : zH) : zCal D z d0 h yX5_setCleaning [va_rf v0, .int v1, .int v2] (f_X5_setCleaning v0 v1 v2 h) :=
  ⟨cX5_setCleaning, 3, (some .boolean), [], 6, (show lv_args 0 [va_rf v0, .int v1, .int v2] = [(0, va_rf v0), (1, .int v1), (2, .int v2)] by simp [lv_args, zcat_rf, zcat_i, zcat_l, zcat_f, zcat_d]) ▸ w_X5_setCleaning v0 v1 v2 h, (plainFor_of_name (by decide)), by simp [lg_sl, zcat_rf, zcat_i, zcat_l, zcat_f, zcat_d], q3419, q140, hd0, by decide, by decide⟩
end WW9
