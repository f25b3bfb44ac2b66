set_option maxRecDepth 100000
theorem zcs_FloatingDock_Stretch : zcs "FloatingDock$Stretch" [2] := ztc (Or.inl ⟨_, rfl, Or.inl rfl⟩) (zt0)
theorem gf_X2_313 : zFg RX2 313 [2] 1 := ⟨_, _, _, .inr ⟨_, q1298⟩, ztc ⟨_, rfl, by decide, rfl, rfl, .inl rfl, in_X3⟩ (zt0)⟩
theorem gf_X1_17 : zFg RX1 17 [0] 1 := ⟨_, _, _, .inl q1383, ztc ⟨_, rfl, by decide, rfl, rfl, .inl rfl, in_X1⟩ (zt0)⟩
theorem gf_X1_260 : zFg RX1 260 [5] 5 := ⟨_, _, _, .inr ⟨_, q2019⟩, ztc ⟨_, rfl, by decide, rfl, rfl, .inl rfl, in_X6⟩ (zt0)⟩
theorem xf_X2_348_350 : zFx RX2 348 350 31 := ⟨RJ29, ["java/lang/RuntimeException", "java/lang/Exception"], TJ29, rfl, by decide +kernel, by decide +kernel, q2853, q127, by decide, lw_in _ [123, 729, 738, 749, 752, 754, 730, 731, 164, 165, 732, 737, 750, 767, 719, 768, 721, 769, 723, 733, 735, 725, 2551, 2552, 2553, 759, 759, 760, 761, 762, 762, 763, 764, 730, 2854, 847, 849, 746, 850, 851, 852, 853, 728, 727, 854] (by decide +kernel) (by decide +kernel), zin_tbl _ [710, 712, 714, 848] (by decide +kernel) (by decide +kernel), List.all_eq_true.mp (by decide +kernel)⟩
theorem gf_X1_44 : zFg RX1 44 [0] 6 := ⟨_, _, _, .inl q1388, ztc ⟨_, rfl, by decide, rfl, rfl, .inl rfl, in_X1⟩ (zt0)⟩
theorem pf_X10_1 : zFp RX10 1 [9] 1 "<init>" (.object "FloatingDock") := ⟨_, _, _, .inl q2880, by decide +kernel, ztc ⟨_, tyX10, rfl, by decide, rfl, rfl, .inl rfl, in_X10, tyX10_ok, nmX10, .inr ⟨rfl, rfl, rfl, q2880⟩⟩ (zt0)⟩
theorem pf_X11_11 : zFp RX11 11 [10] 0 "<init>" (.array (.object "FloatingDock$Operation")) := ⟨_, _, _, .inl q2898, by decide +kernel, ztc ⟨_, tyX11, rfl, by decide, rfl, rfl, .inl rfl, in_X11, tyX11_ok, nmX11, .inr ⟨rfl, rfl, rfl, q2898⟩⟩ (zt0)⟩
theorem gf_X10_13 : zFg RX10 13 [9] 0 := ⟨_, _, _, .inl q2879, ztc ⟨_, rfl, by decide, rfl, rfl, .inl rfl, in_X10⟩ (zt0)⟩
theorem gf_X10_17 : zFg RX10 17 [0] 6 := ⟨_, _, _, .inr ⟨_, q1389⟩, ztc ⟨_, rfl, by decide, rfl, rfl, .inl rfl, in_X1⟩ (zt0)⟩
theorem pf_X12_7 : zFp RX12 7 [11] 6 "<init>" (.int) := ⟨_, _, _, .inl q2969, by decide +kernel, ztc ⟨_, tyX12, rfl, by decide, rfl, rfl, .inl rfl, in_X12, tyX12_ok, nmX12, .inr ⟨rfl, rfl, rfl, q2969⟩⟩ (zt0)⟩
theorem pf_X10_13 {nm : String} : zFp RX10 13 [9] 0 nm (.int) := ⟨_, _, _, .inl q2879, by decide +kernel, ztc ⟨_, tyX10, rfl, by decide, rfl, rfl, .inl rfl, in_X10, tyX10_ok, nmX10, .inl rfl⟩ (zt0)⟩
theorem nf_X10_33 : zFn RX10 33 11 [.null, .null, .null, .null, .null, .int 0, .int 0] := ⟨_, tyX12, rfl, q2956, q2957, q155, in_X12, tyX12_ok, rfl⟩
theorem gf_J9_19 : zFg RJ9 19 [17] 2 := ⟨_, _, _, .inl q1081, ztc ⟨_, rfl, by decide, rfl, rfl, .inl rfl, in_J9⟩ (zt0)⟩
theorem gf_J9_23 : zFg RJ9 23 [17] 3 := ⟨_, _, _, .inl q1082, ztc ⟨_, rfl, by decide, rfl, rfl, .inl rfl, in_J9⟩ (zt0)⟩
theorem pf_J9_19 {nm : String} : zFp RJ9 19 [17] 2 nm (.int) := ⟨_, _, _, .inl q1081, by decide +kernel, ztc ⟨_, tyJ9, rfl, by decide, rfl, rfl, .inl rfl, in_J9, tyJ9_ok, nmJ9, .inl rfl⟩ (zt0)⟩
theorem pf_J9_23 {nm : String} : zFp RJ9 23 [17] 3 nm (.boolean) := ⟨_, _, _, .inl q1082, by decide +kernel, ztc ⟨_, tyJ9, rfl, by decide, rfl, rfl, .inl rfl, in_J9, tyJ9_ok, nmJ9, .inl rfl⟩ (zt0)⟩
theorem zcs_java_lang_String : zcs "java/lang/String" [17] := ztc (Or.inl ⟨_, rfl, Or.inl rfl⟩) (zt0)
section WW6
variable {D : va_G} {z : Nat}
theorem w_X2_firstGapByShips_8 : ∀ (n : Nat) (a1 : Int32) (a2 : Option Nat) (h : zH), zS D z yX2_firstGapByShips cX2_firstGapByShips 4 (some .int) [] 12 h 8 [(1, .int a1), (2, va_rf a2)] [] (f_X2_firstGapByShips_8 n a1 a2 h) := by
  intro n
  induction n with
  | zero => intros; exact zS_none
  | succ n ih =>
    intro a1 a2 h
    rw [f_X2_firstGapByShips_8.eq_2]
    refine s_aload_n (pc := 8) 1 dX2_firstGapByShips_8 rfl rfl ?_
    refine zS_ite (fun ht => ?_) (fun _ => ?_)
    · refine s_callF (pc := 9) (np := 0) (as := []) (rest := []) dX2_firstGapByShips_9 ht (q := (RX9, TX9, 2)) rfl (c_X9_hasNext (by decide) a2 h) ⟨_, _, _, q637⟩ rfl rfl q629 (by decide +kernel) q635 q633 rfl (by decide) (zkI (fun x5 h6 => ?_)) zxo
      refine s_if_eq (pc := 14) (tgt := 43) dX2_firstGapByShips_14 (by decide) (fun _ => ?_) (fun _ => ?_)
      · refine s_iconst (pc := 43) (v := -1) dX2_firstGapByShips_43 (by decide) ?_
        exact s_iret (pc := 44) dX2_firstGapByShips_44 rfl
      · refine s_aload_n (pc := 17) 1 dX2_firstGapByShips_17 rfl rfl ?_
        refine zS_ite (fun ht => ?_) (fun _ => ?_)
        · refine s_callF (pc := 18) (np := 0) (as := []) (rest := []) dX2_firstGapByShips_18 ht (q := (RX9, TX9, 2)) rfl (c_X9_next (by decide) a2 h6) ⟨_, _, _, q677⟩ rfl rfl q670 (by decide +kernel) q675 q673 rfl (by decide) (zkR (fun r7 h8 => ?_)) zxo
          refine s_cast (pc := 23) dX2_firstGapByShips_23 q1287 zcs_FloatingDock_Stretch ?_
          refine s_ast_n (pc := 26) (L2 := [(1, .int a1), (2, va_rf a2)]) [0, 1] dX2_firstGapByShips_26 rfl (by decide) rfl rfl (zcB (j := 1) rfl (zcat_rf a2) rfl) ?_
          refine s_aload_n (pc := 27) 0 dX2_firstGapByShips_27 rfl rfl ?_
          refine s_gI (pc := 28) dX2_firstGapByShips_28 gf_X2_313 (fun x9 => ?_)
          refine s_iload_n (pc := 31) 1 dX2_firstGapByShips_31 rfl rfl ?_
          refine s_icmp_lt (pc := 32) (tgt := 40) dX2_firstGapByShips_32 (by decide) (fun _ => ?_) (fun _ => ?_)
          · refine s_goto (pc := 40) (tgt := 8) dX2_firstGapByShips_40 (by decide) ?_
            exact s_sub (pc := 8) [1, 2] rfl (ih a1 a2 h8)
          · refine s_aload_n (pc := 35) 0 dX2_firstGapByShips_35 rfl rfl ?_
            refine s_gI (pc := 36) dX2_firstGapByShips_36 gf_X2_148 (fun x10 => ?_)
            exact s_iret (pc := 39) dX2_firstGapByShips_39 rfl
        refine zS_ite (fun ht => ?_) (fun _ => ?_)
        · refine s_callF (pc := 18) (np := 0) (as := []) (rest := []) dX2_firstGapByShips_18 ht (q := (RJ15, TJ15, 4)) rfl (c_J15_next (by decide) a2 h6) ⟨_, _, _, q788⟩ rfl rfl q670 (by decide +kernel) q786 q784 rfl (by decide) (zkR (fun r7 h8 => ?_)) zxo
          refine s_cast (pc := 23) dX2_firstGapByShips_23 q1287 zcs_FloatingDock_Stretch ?_
          refine s_ast_n (pc := 26) (L2 := [(1, .int a1), (2, va_rf a2)]) [0, 1] dX2_firstGapByShips_26 rfl (by decide) rfl rfl (zcB (j := 1) rfl (zcat_rf a2) rfl) ?_
          refine s_aload_n (pc := 27) 0 dX2_firstGapByShips_27 rfl rfl ?_
          refine s_gI (pc := 28) dX2_firstGapByShips_28 gf_X2_313 (fun x11 => ?_)
          refine s_iload_n (pc := 31) 1 dX2_firstGapByShips_31 rfl rfl ?_
          refine s_icmp_lt (pc := 32) (tgt := 40) dX2_firstGapByShips_32 (by decide) (fun _ => ?_) (fun _ => ?_)
          · refine s_goto (pc := 40) (tgt := 8) dX2_firstGapByShips_40 (by decide) ?_
            exact s_sub (pc := 8) [1, 2] rfl (ih a1 a2 h8)
          · refine s_aload_n (pc := 35) 0 dX2_firstGapByShips_35 rfl rfl ?_
            refine s_gI (pc := 36) dX2_firstGapByShips_36 gf_X2_148 (fun x12 => ?_)
            exact s_iret (pc := 39) dX2_firstGapByShips_39 rfl
        refine zS_ite (fun ht => ?_) (fun _ => ?_)
        · refine s_callF (pc := 18) (np := 0) (as := []) (rest := []) dX2_firstGapByShips_18 ht (q := (RJ17, TJ17, 5)) rfl (c_J17_next (by decide) a2 h6) ⟨_, _, _, q799⟩ rfl rfl q670 (by decide +kernel) q797 q795 rfl (by decide) (zkR (fun r7 h8 => ?_)) zxo
          refine s_cast (pc := 23) dX2_firstGapByShips_23 q1287 zcs_FloatingDock_Stretch ?_
          refine s_ast_n (pc := 26) (L2 := [(1, .int a1), (2, va_rf a2)]) [0, 1] dX2_firstGapByShips_26 rfl (by decide) rfl rfl (zcB (j := 1) rfl (zcat_rf a2) rfl) ?_
          refine s_aload_n (pc := 27) 0 dX2_firstGapByShips_27 rfl rfl ?_
          refine s_gI (pc := 28) dX2_firstGapByShips_28 gf_X2_313 (fun x13 => ?_)
          refine s_iload_n (pc := 31) 1 dX2_firstGapByShips_31 rfl rfl ?_
          refine s_icmp_lt (pc := 32) (tgt := 40) dX2_firstGapByShips_32 (by decide) (fun _ => ?_) (fun _ => ?_)
          · refine s_goto (pc := 40) (tgt := 8) dX2_firstGapByShips_40 (by decide) ?_
            exact s_sub (pc := 8) [1, 2] rfl (ih a1 a2 h8)
          · refine s_aload_n (pc := 35) 0 dX2_firstGapByShips_35 rfl rfl ?_
            refine s_gI (pc := 36) dX2_firstGapByShips_36 gf_X2_148 (fun x14 => ?_)
            exact s_iret (pc := 39) dX2_firstGapByShips_39 rfl
        refine zS_ite (fun ht => ?_) (fun _ => ?_)
        · refine s_callF (pc := 18) (np := 0) (as := []) (rest := []) dX2_firstGapByShips_18 ht (q := (RJ21, TJ21, 5)) rfl (c_J21_next (by decide) a2 h6) ⟨_, _, _, q812⟩ rfl rfl q670 (by decide +kernel) q810 q808 rfl (by decide) (zkR (fun r7 h8 => ?_)) zxo
          refine s_cast (pc := 23) dX2_firstGapByShips_23 q1287 zcs_FloatingDock_Stretch ?_
          refine s_ast_n (pc := 26) (L2 := [(1, .int a1), (2, va_rf a2)]) [0, 1] dX2_firstGapByShips_26 rfl (by decide) rfl rfl (zcB (j := 1) rfl (zcat_rf a2) rfl) ?_
          refine s_aload_n (pc := 27) 0 dX2_firstGapByShips_27 rfl rfl ?_
          refine s_gI (pc := 28) dX2_firstGapByShips_28 gf_X2_313 (fun x15 => ?_)
          refine s_iload_n (pc := 31) 1 dX2_firstGapByShips_31 rfl rfl ?_
          refine s_icmp_lt (pc := 32) (tgt := 40) dX2_firstGapByShips_32 (by decide) (fun _ => ?_) (fun _ => ?_)
          · refine s_goto (pc := 40) (tgt := 8) dX2_firstGapByShips_40 (by decide) ?_
            exact s_sub (pc := 8) [1, 2] rfl (ih a1 a2 h8)
          · refine s_aload_n (pc := 35) 0 dX2_firstGapByShips_35 rfl rfl ?_
            refine s_gI (pc := 36) dX2_firstGapByShips_36 gf_X2_148 (fun x16 => ?_)
            exact s_iret (pc := 39) dX2_firstGapByShips_39 rfl
        refine zS_ite (fun ht => ?_) (fun _ => zS_none)
        refine s_callF (pc := 18) (np := 0) (as := []) (rest := []) dX2_firstGapByShips_18 ht (q := (RJ22, TJ22, 5)) rfl (c_J22_next (by decide) a2 h6) ⟨_, _, _, q832⟩ rfl rfl q670 (by decide +kernel) q830 q828 rfl (by decide) (zkR (fun r7 h8 => ?_)) zxo
        refine s_cast (pc := 23) dX2_firstGapByShips_23 q1287 zcs_FloatingDock_Stretch ?_
        refine s_ast_n (pc := 26) (L2 := [(1, .int a1), (2, va_rf a2)]) [0, 1] dX2_firstGapByShips_26 rfl (by decide) rfl rfl (zcB (j := 1) rfl (zcat_rf a2) rfl) ?_
        refine s_aload_n (pc := 27) 0 dX2_firstGapByShips_27 rfl rfl ?_
        refine s_gI (pc := 28) dX2_firstGapByShips_28 gf_X2_313 (fun x17 => ?_)
        refine s_iload_n (pc := 31) 1 dX2_firstGapByShips_31 rfl rfl ?_
        refine s_icmp_lt (pc := 32) (tgt := 40) dX2_firstGapByShips_32 (by decide) (fun _ => ?_) (fun _ => ?_)
        · refine s_goto (pc := 40) (tgt := 8) dX2_firstGapByShips_40 (by decide) ?_
          exact s_sub (pc := 8) [1, 2] rfl (ih a1 a2 h8)
        · refine s_aload_n (pc := 35) 0 dX2_firstGapByShips_35 rfl rfl ?_
          refine s_gI (pc := 36) dX2_firstGapByShips_36 gf_X2_148 (fun x18 => ?_)
          exact s_iret (pc := 39) dX2_firstGapByShips_39 rfl
    refine zS_ite (fun ht => ?_) (fun _ => ?_)
    · refine s_callF (pc := 9) (np := 0) (as := []) (rest := []) dX2_firstGapByShips_9 ht (q := (RJ15, TJ15, 4)) rfl (c_J15_hasNext (by decide) a2 h) ⟨_, _, _, q653⟩ rfl rfl q629 (by decide +kernel) q651 q649 rfl (by decide) (zkI (fun x5 h6 => ?_)) zxo
      refine s_if_eq (pc := 14) (tgt := 43) dX2_firstGapByShips_14 (by decide) (fun _ => ?_) (fun _ => ?_)
      · refine s_iconst (pc := 43) (v := -1) dX2_firstGapByShips_43 (by decide) ?_
        exact s_iret (pc := 44) dX2_firstGapByShips_44 rfl
      · refine s_aload_n (pc := 17) 1 dX2_firstGapByShips_17 rfl rfl ?_
        refine zS_ite (fun ht => ?_) (fun _ => ?_)
        · refine s_callF (pc := 18) (np := 0) (as := []) (rest := []) dX2_firstGapByShips_18 ht (q := (RX9, TX9, 2)) rfl (c_X9_next (by decide) a2 h6) ⟨_, _, _, q677⟩ rfl rfl q670 (by decide +kernel) q675 q673 rfl (by decide) (zkR (fun r19 h20 => ?_)) zxo
          refine s_cast (pc := 23) dX2_firstGapByShips_23 q1287 zcs_FloatingDock_Stretch ?_
          refine s_ast_n (pc := 26) (L2 := [(1, .int a1), (2, va_rf a2)]) [0, 1] dX2_firstGapByShips_26 rfl (by decide) rfl rfl (zcB (j := 1) rfl (zcat_rf a2) rfl) ?_
          refine s_aload_n (pc := 27) 0 dX2_firstGapByShips_27 rfl rfl ?_
          refine s_gI (pc := 28) dX2_firstGapByShips_28 gf_X2_313 (fun x21 => ?_)
          refine s_iload_n (pc := 31) 1 dX2_firstGapByShips_31 rfl rfl ?_
          refine s_icmp_lt (pc := 32) (tgt := 40) dX2_firstGapByShips_32 (by decide) (fun _ => ?_) (fun _ => ?_)
          · refine s_goto (pc := 40) (tgt := 8) dX2_firstGapByShips_40 (by decide) ?_
            exact s_sub (pc := 8) [1, 2] rfl (ih a1 a2 h20)
          · refine s_aload_n (pc := 35) 0 dX2_firstGapByShips_35 rfl rfl ?_
            refine s_gI (pc := 36) dX2_firstGapByShips_36 gf_X2_148 (fun x22 => ?_)
            exact s_iret (pc := 39) dX2_firstGapByShips_39 rfl
        refine zS_ite (fun ht => ?_) (fun _ => ?_)
        · refine s_callF (pc := 18) (np := 0) (as := []) (rest := []) dX2_firstGapByShips_18 ht (q := (RJ15, TJ15, 4)) rfl (c_J15_next (by decide) a2 h6) ⟨_, _, _, q788⟩ rfl rfl q670 (by decide +kernel) q786 q784 rfl (by decide) (zkR (fun r19 h20 => ?_)) zxo
          refine s_cast (pc := 23) dX2_firstGapByShips_23 q1287 zcs_FloatingDock_Stretch ?_
          refine s_ast_n (pc := 26) (L2 := [(1, .int a1), (2, va_rf a2)]) [0, 1] dX2_firstGapByShips_26 rfl (by decide) rfl rfl (zcB (j := 1) rfl (zcat_rf a2) rfl) ?_
          refine s_aload_n (pc := 27) 0 dX2_firstGapByShips_27 rfl rfl ?_
          refine s_gI (pc := 28) dX2_firstGapByShips_28 gf_X2_313 (fun x23 => ?_)
          refine s_iload_n (pc := 31) 1 dX2_firstGapByShips_31 rfl rfl ?_
          refine s_icmp_lt (pc := 32) (tgt := 40) dX2_firstGapByShips_32 (by decide) (fun _ => ?_) (fun _ => ?_)
          · refine s_goto (pc := 40) (tgt := 8) dX2_firstGapByShips_40 (by decide) ?_
            exact s_sub (pc := 8) [1, 2] rfl (ih a1 a2 h20)
          · refine s_aload_n (pc := 35) 0 dX2_firstGapByShips_35 rfl rfl ?_
            refine s_gI (pc := 36) dX2_firstGapByShips_36 gf_X2_148 (fun x24 => ?_)
            exact s_iret (pc := 39) dX2_firstGapByShips_39 rfl
        refine zS_ite (fun ht => ?_) (fun _ => ?_)
        · refine s_callF (pc := 18) (np := 0) (as := []) (rest := []) dX2_firstGapByShips_18 ht (q := (RJ17, TJ17, 5)) rfl (c_J17_next (by decide) a2 h6) ⟨_, _, _, q799⟩ rfl rfl q670 (by decide +kernel) q797 q795 rfl (by decide) (zkR (fun r19 h20 => ?_)) zxo
          refine s_cast (pc := 23) dX2_firstGapByShips_23 q1287 zcs_FloatingDock_Stretch ?_
          refine s_ast_n (pc := 26) (L2 := [(1, .int a1), (2, va_rf a2)]) [0, 1] dX2_firstGapByShips_26 rfl (by decide) rfl rfl (zcB (j := 1) rfl (zcat_rf a2) rfl) ?_
          refine s_aload_n (pc := 27) 0 dX2_firstGapByShips_27 rfl rfl ?_
          refine s_gI (pc := 28) dX2_firstGapByShips_28 gf_X2_313 (fun x25 => ?_)
          refine s_iload_n (pc := 31) 1 dX2_firstGapByShips_31 rfl rfl ?_
          refine s_icmp_lt (pc := 32) (tgt := 40) dX2_firstGapByShips_32 (by decide) (fun _ => ?_) (fun _ => ?_)
          · refine s_goto (pc := 40) (tgt := 8) dX2_firstGapByShips_40 (by decide) ?_
            exact s_sub (pc := 8) [1, 2] rfl (ih a1 a2 h20)
          · refine s_aload_n (pc := 35) 0 dX2_firstGapByShips_35 rfl rfl ?_
            refine s_gI (pc := 36) dX2_firstGapByShips_36 gf_X2_148 (fun x26 => ?_)
            exact s_iret (pc := 39) dX2_firstGapByShips_39 rfl
        refine zS_ite (fun ht => ?_) (fun _ => ?_)
        · refine s_callF (pc := 18) (np := 0) (as := []) (rest := []) dX2_firstGapByShips_18 ht (q := (RJ21, TJ21, 5)) rfl (c_J21_next (by decide) a2 h6) ⟨_, _, _, q812⟩ rfl rfl q670 (by decide +kernel) q810 q808 rfl (by decide) (zkR (fun r19 h20 => ?_)) zxo
          refine s_cast (pc := 23) dX2_firstGapByShips_23 q1287 zcs_FloatingDock_Stretch ?_
          refine s_ast_n (pc := 26) (L2 := [(1, .int a1), (2, va_rf a2)]) [0, 1] dX2_firstGapByShips_26 rfl (by decide) rfl rfl (zcB (j := 1) rfl (zcat_rf a2) rfl) ?_
          refine s_aload_n (pc := 27) 0 dX2_firstGapByShips_27 rfl rfl ?_
          refine s_gI (pc := 28) dX2_firstGapByShips_28 gf_X2_313 (fun x27 => ?_)
          refine s_iload_n (pc := 31) 1 dX2_firstGapByShips_31 rfl rfl ?_
          refine s_icmp_lt (pc := 32) (tgt := 40) dX2_firstGapByShips_32 (by decide) (fun _ => ?_) (fun _ => ?_)
          · refine s_goto (pc := 40) (tgt := 8) dX2_firstGapByShips_40 (by decide) ?_
            exact s_sub (pc := 8) [1, 2] rfl (ih a1 a2 h20)
          · refine s_aload_n (pc := 35) 0 dX2_firstGapByShips_35 rfl rfl ?_
            refine s_gI (pc := 36) dX2_firstGapByShips_36 gf_X2_148 (fun x28 => ?_)
            exact s_iret (pc := 39) dX2_firstGapByShips_39 rfl
        refine zS_ite (fun ht => ?_) (fun _ => zS_none)
        refine s_callF (pc := 18) (np := 0) (as := []) (rest := []) dX2_firstGapByShips_18 ht (q := (RJ22, TJ22, 5)) rfl (c_J22_next (by decide) a2 h6) ⟨_, _, _, q832⟩ rfl rfl q670 (by decide +kernel) q830 q828 rfl (by decide) (zkR (fun r19 h20 => ?_)) zxo
        refine s_cast (pc := 23) dX2_firstGapByShips_23 q1287 zcs_FloatingDock_Stretch ?_
        refine s_ast_n (pc := 26) (L2 := [(1, .int a1), (2, va_rf a2)]) [0, 1] dX2_firstGapByShips_26 rfl (by decide) rfl rfl (zcB (j := 1) rfl (zcat_rf a2) rfl) ?_
        refine s_aload_n (pc := 27) 0 dX2_firstGapByShips_27 rfl rfl ?_
        refine s_gI (pc := 28) dX2_firstGapByShips_28 gf_X2_313 (fun x29 => ?_)
        refine s_iload_n (pc := 31) 1 dX2_firstGapByShips_31 rfl rfl ?_
        refine s_icmp_lt (pc := 32) (tgt := 40) dX2_firstGapByShips_32 (by decide) (fun _ => ?_) (fun _ => ?_)
        · refine s_goto (pc := 40) (tgt := 8) dX2_firstGapByShips_40 (by decide) ?_
          exact s_sub (pc := 8) [1, 2] rfl (ih a1 a2 h20)
        · refine s_aload_n (pc := 35) 0 dX2_firstGapByShips_35 rfl rfl ?_
          refine s_gI (pc := 36) dX2_firstGapByShips_36 gf_X2_148 (fun x30 => ?_)
          exact s_iret (pc := 39) dX2_firstGapByShips_39 rfl
    refine zS_ite (fun ht => ?_) (fun _ => ?_)
    · refine s_callF (pc := 9) (np := 0) (as := []) (rest := []) dX2_firstGapByShips_9 ht (q := (RJ17, TJ17, 5)) rfl (c_J16_hasNext (by decide) a2 h) ⟨_, _, _, q659⟩ rfl rfl q629 (by decide +kernel) q657 q655 rfl (by decide) (zkI (fun x5 h6 => ?_)) zxo
      refine s_if_eq (pc := 14) (tgt := 43) dX2_firstGapByShips_14 (by decide) (fun _ => ?_) (fun _ => ?_)
      · refine s_iconst (pc := 43) (v := -1) dX2_firstGapByShips_43 (by decide) ?_
        exact s_iret (pc := 44) dX2_firstGapByShips_44 rfl
      · refine s_aload_n (pc := 17) 1 dX2_firstGapByShips_17 rfl rfl ?_
        refine zS_ite (fun ht => ?_) (fun _ => ?_)
        · refine s_callF (pc := 18) (np := 0) (as := []) (rest := []) dX2_firstGapByShips_18 ht (q := (RX9, TX9, 2)) rfl (c_X9_next (by decide) a2 h6) ⟨_, _, _, q677⟩ rfl rfl q670 (by decide +kernel) q675 q673 rfl (by decide) (zkR (fun r31 h32 => ?_)) zxo
          refine s_cast (pc := 23) dX2_firstGapByShips_23 q1287 zcs_FloatingDock_Stretch ?_
          refine s_ast_n (pc := 26) (L2 := [(1, .int a1), (2, va_rf a2)]) [0, 1] dX2_firstGapByShips_26 rfl (by decide) rfl rfl (zcB (j := 1) rfl (zcat_rf a2) rfl) ?_
          refine s_aload_n (pc := 27) 0 dX2_firstGapByShips_27 rfl rfl ?_
          refine s_gI (pc := 28) dX2_firstGapByShips_28 gf_X2_313 (fun x33 => ?_)
          refine s_iload_n (pc := 31) 1 dX2_firstGapByShips_31 rfl rfl ?_
          refine s_icmp_lt (pc := 32) (tgt := 40) dX2_firstGapByShips_32 (by decide) (fun _ => ?_) (fun _ => ?_)
          · refine s_goto (pc := 40) (tgt := 8) dX2_firstGapByShips_40 (by decide) ?_
            exact s_sub (pc := 8) [1, 2] rfl (ih a1 a2 h32)
          · refine s_aload_n (pc := 35) 0 dX2_firstGapByShips_35 rfl rfl ?_
            refine s_gI (pc := 36) dX2_firstGapByShips_36 gf_X2_148 (fun x34 => ?_)
            exact s_iret (pc := 39) dX2_firstGapByShips_39 rfl
        refine zS_ite (fun ht => ?_) (fun _ => ?_)
        · refine s_callF (pc := 18) (np := 0) (as := []) (rest := []) dX2_firstGapByShips_18 ht (q := (RJ15, TJ15, 4)) rfl (c_J15_next (by decide) a2 h6) ⟨_, _, _, q788⟩ rfl rfl q670 (by decide +kernel) q786 q784 rfl (by decide) (zkR (fun r31 h32 => ?_)) zxo
          refine s_cast (pc := 23) dX2_firstGapByShips_23 q1287 zcs_FloatingDock_Stretch ?_
          refine s_ast_n (pc := 26) (L2 := [(1, .int a1), (2, va_rf a2)]) [0, 1] dX2_firstGapByShips_26 rfl (by decide) rfl rfl (zcB (j := 1) rfl (zcat_rf a2) rfl) ?_
          refine s_aload_n (pc := 27) 0 dX2_firstGapByShips_27 rfl rfl ?_
          refine s_gI (pc := 28) dX2_firstGapByShips_28 gf_X2_313 (fun x35 => ?_)
          refine s_iload_n (pc := 31) 1 dX2_firstGapByShips_31 rfl rfl ?_
          refine s_icmp_lt (pc := 32) (tgt := 40) dX2_firstGapByShips_32 (by decide) (fun _ => ?_) (fun _ => ?_)
          · refine s_goto (pc := 40) (tgt := 8) dX2_firstGapByShips_40 (by decide) ?_
            exact s_sub (pc := 8) [1, 2] rfl (ih a1 a2 h32)
          · refine s_aload_n (pc := 35) 0 dX2_firstGapByShips_35 rfl rfl ?_
            refine s_gI (pc := 36) dX2_firstGapByShips_36 gf_X2_148 (fun x36 => ?_)
            exact s_iret (pc := 39) dX2_firstGapByShips_39 rfl
        refine zS_ite (fun ht => ?_) (fun _ => ?_)
        · refine s_callF (pc := 18) (np := 0) (as := []) (rest := []) dX2_firstGapByShips_18 ht (q := (RJ17, TJ17, 5)) rfl (c_J17_next (by decide) a2 h6) ⟨_, _, _, q799⟩ rfl rfl q670 (by decide +kernel) q797 q795 rfl (by decide) (zkR (fun r31 h32 => ?_)) zxo
          refine s_cast (pc := 23) dX2_firstGapByShips_23 q1287 zcs_FloatingDock_Stretch ?_
          refine s_ast_n (pc := 26) (L2 := [(1, .int a1), (2, va_rf a2)]) [0, 1] dX2_firstGapByShips_26 rfl (by decide) rfl rfl (zcB (j := 1) rfl (zcat_rf a2) rfl) ?_
          refine s_aload_n (pc := 27) 0 dX2_firstGapByShips_27 rfl rfl ?_
          refine s_gI (pc := 28) dX2_firstGapByShips_28 gf_X2_313 (fun x37 => ?_)
          refine s_iload_n (pc := 31) 1 dX2_firstGapByShips_31 rfl rfl ?_
          refine s_icmp_lt (pc := 32) (tgt := 40) dX2_firstGapByShips_32 (by decide) (fun _ => ?_) (fun _ => ?_)
          · refine s_goto (pc := 40) (tgt := 8) dX2_firstGapByShips_40 (by decide) ?_
            exact s_sub (pc := 8) [1, 2] rfl (ih a1 a2 h32)
          · refine s_aload_n (pc := 35) 0 dX2_firstGapByShips_35 rfl rfl ?_
            refine s_gI (pc := 36) dX2_firstGapByShips_36 gf_X2_148 (fun x38 => ?_)
            exact s_iret (pc := 39) dX2_firstGapByShips_39 rfl
        refine zS_ite (fun ht => ?_) (fun _ => ?_)
        · refine s_callF (pc := 18) (np := 0) (as := []) (rest := []) dX2_firstGapByShips_18 ht (q := (RJ21, TJ21, 5)) rfl (c_J21_next (by decide) a2 h6) ⟨_, _, _, q812⟩ rfl rfl q670 (by decide +kernel) q810 q808 rfl (by decide) (zkR (fun r31 h32 => ?_)) zxo
          refine s_cast (pc := 23) dX2_firstGapByShips_23 q1287 zcs_FloatingDock_Stretch ?_
          refine s_ast_n (pc := 26) (L2 := [(1, .int a1), (2, va_rf a2)]) [0, 1] dX2_firstGapByShips_26 rfl (by decide) rfl rfl (zcB (j := 1) rfl (zcat_rf a2) rfl) ?_
          refine s_aload_n (pc := 27) 0 dX2_firstGapByShips_27 rfl rfl ?_
          refine s_gI (pc := 28) dX2_firstGapByShips_28 gf_X2_313 (fun x39 => ?_)
          refine s_iload_n (pc := 31) 1 dX2_firstGapByShips_31 rfl rfl ?_
          refine s_icmp_lt (pc := 32) (tgt := 40) dX2_firstGapByShips_32 (by decide) (fun _ => ?_) (fun _ => ?_)
          · refine s_goto (pc := 40) (tgt := 8) dX2_firstGapByShips_40 (by decide) ?_
            exact s_sub (pc := 8) [1, 2] rfl (ih a1 a2 h32)
          · refine s_aload_n (pc := 35) 0 dX2_firstGapByShips_35 rfl rfl ?_
            refine s_gI (pc := 36) dX2_firstGapByShips_36 gf_X2_148 (fun x40 => ?_)
            exact s_iret (pc := 39) dX2_firstGapByShips_39 rfl
        refine zS_ite (fun ht => ?_) (fun _ => zS_none)
        refine s_callF (pc := 18) (np := 0) (as := []) (rest := []) dX2_firstGapByShips_18 ht (q := (RJ22, TJ22, 5)) rfl (c_J22_next (by decide) a2 h6) ⟨_, _, _, q832⟩ rfl rfl q670 (by decide +kernel) q830 q828 rfl (by decide) (zkR (fun r31 h32 => ?_)) zxo
        refine s_cast (pc := 23) dX2_firstGapByShips_23 q1287 zcs_FloatingDock_Stretch ?_
        refine s_ast_n (pc := 26) (L2 := [(1, .int a1), (2, va_rf a2)]) [0, 1] dX2_firstGapByShips_26 rfl (by decide) rfl rfl (zcB (j := 1) rfl (zcat_rf a2) rfl) ?_
        refine s_aload_n (pc := 27) 0 dX2_firstGapByShips_27 rfl rfl ?_
        refine s_gI (pc := 28) dX2_firstGapByShips_28 gf_X2_313 (fun x41 => ?_)
        refine s_iload_n (pc := 31) 1 dX2_firstGapByShips_31 rfl rfl ?_
        refine s_icmp_lt (pc := 32) (tgt := 40) dX2_firstGapByShips_32 (by decide) (fun _ => ?_) (fun _ => ?_)
        · refine s_goto (pc := 40) (tgt := 8) dX2_firstGapByShips_40 (by decide) ?_
          exact s_sub (pc := 8) [1, 2] rfl (ih a1 a2 h32)
        · refine s_aload_n (pc := 35) 0 dX2_firstGapByShips_35 rfl rfl ?_
          refine s_gI (pc := 36) dX2_firstGapByShips_36 gf_X2_148 (fun x42 => ?_)
          exact s_iret (pc := 39) dX2_firstGapByShips_39 rfl
    refine zS_ite (fun ht => ?_) (fun _ => ?_)
    · refine s_callF (pc := 9) (np := 0) (as := []) (rest := []) dX2_firstGapByShips_9 ht (q := (RJ21, TJ21, 5)) rfl (c_J20_hasNext (by decide) a2 h) ⟨_, _, _, q665⟩ rfl rfl q629 (by decide +kernel) q663 q661 rfl (by decide) (zkI (fun x5 h6 => ?_)) zxo
      refine s_if_eq (pc := 14) (tgt := 43) dX2_firstGapByShips_14 (by decide) (fun _ => ?_) (fun _ => ?_)
      · refine s_iconst (pc := 43) (v := -1) dX2_firstGapByShips_43 (by decide) ?_
        exact s_iret (pc := 44) dX2_firstGapByShips_44 rfl
      · refine s_aload_n (pc := 17) 1 dX2_firstGapByShips_17 rfl rfl ?_
        refine zS_ite (fun ht => ?_) (fun _ => ?_)
        · refine s_callF (pc := 18) (np := 0) (as := []) (rest := []) dX2_firstGapByShips_18 ht (q := (RX9, TX9, 2)) rfl (c_X9_next (by decide) a2 h6) ⟨_, _, _, q677⟩ rfl rfl q670 (by decide +kernel) q675 q673 rfl (by decide) (zkR (fun r43 h44 => ?_)) zxo
          refine s_cast (pc := 23) dX2_firstGapByShips_23 q1287 zcs_FloatingDock_Stretch ?_
          refine s_ast_n (pc := 26) (L2 := [(1, .int a1), (2, va_rf a2)]) [0, 1] dX2_firstGapByShips_26 rfl (by decide) rfl rfl (zcB (j := 1) rfl (zcat_rf a2) rfl) ?_
          refine s_aload_n (pc := 27) 0 dX2_firstGapByShips_27 rfl rfl ?_
          refine s_gI (pc := 28) dX2_firstGapByShips_28 gf_X2_313 (fun x45 => ?_)
          refine s_iload_n (pc := 31) 1 dX2_firstGapByShips_31 rfl rfl ?_
          refine s_icmp_lt (pc := 32) (tgt := 40) dX2_firstGapByShips_32 (by decide) (fun _ => ?_) (fun _ => ?_)
          · refine s_goto (pc := 40) (tgt := 8) dX2_firstGapByShips_40 (by decide) ?_
            exact s_sub (pc := 8) [1, 2] rfl (ih a1 a2 h44)
          · refine s_aload_n (pc := 35) 0 dX2_firstGapByShips_35 rfl rfl ?_
            refine s_gI (pc := 36) dX2_firstGapByShips_36 gf_X2_148 (fun x46 => ?_)
            exact s_iret (pc := 39) dX2_firstGapByShips_39 rfl
        refine zS_ite (fun ht => ?_) (fun _ => ?_)
        · refine s_callF (pc := 18) (np := 0) (as := []) (rest := []) dX2_firstGapByShips_18 ht (q := (RJ15, TJ15, 4)) rfl (c_J15_next (by decide) a2 h6) ⟨_, _, _, q788⟩ rfl rfl q670 (by decide +kernel) q786 q784 rfl (by decide) (zkR (fun r43 h44 => ?_)) zxo
          refine s_cast (pc := 23) dX2_firstGapByShips_23 q1287 zcs_FloatingDock_Stretch ?_
          refine s_ast_n (pc := 26) (L2 := [(1, .int a1), (2, va_rf a2)]) [0, 1] dX2_firstGapByShips_26 rfl (by decide) rfl rfl (zcB (j := 1) rfl (zcat_rf a2) rfl) ?_
          refine s_aload_n (pc := 27) 0 dX2_firstGapByShips_27 rfl rfl ?_
          refine s_gI (pc := 28) dX2_firstGapByShips_28 gf_X2_313 (fun x47 => ?_)
          refine s_iload_n (pc := 31) 1 dX2_firstGapByShips_31 rfl rfl ?_
          refine s_icmp_lt (pc := 32) (tgt := 40) dX2_firstGapByShips_32 (by decide) (fun _ => ?_) (fun _ => ?_)
          · refine s_goto (pc := 40) (tgt := 8) dX2_firstGapByShips_40 (by decide) ?_
            exact s_sub (pc := 8) [1, 2] rfl (ih a1 a2 h44)
          · refine s_aload_n (pc := 35) 0 dX2_firstGapByShips_35 rfl rfl ?_
            refine s_gI (pc := 36) dX2_firstGapByShips_36 gf_X2_148 (fun x48 => ?_)
            exact s_iret (pc := 39) dX2_firstGapByShips_39 rfl
        refine zS_ite (fun ht => ?_) (fun _ => ?_)
        · refine s_callF (pc := 18) (np := 0) (as := []) (rest := []) dX2_firstGapByShips_18 ht (q := (RJ17, TJ17, 5)) rfl (c_J17_next (by decide) a2 h6) ⟨_, _, _, q799⟩ rfl rfl q670 (by decide +kernel) q797 q795 rfl (by decide) (zkR (fun r43 h44 => ?_)) zxo
          refine s_cast (pc := 23) dX2_firstGapByShips_23 q1287 zcs_FloatingDock_Stretch ?_
          refine s_ast_n (pc := 26) (L2 := [(1, .int a1), (2, va_rf a2)]) [0, 1] dX2_firstGapByShips_26 rfl (by decide) rfl rfl (zcB (j := 1) rfl (zcat_rf a2) rfl) ?_
          refine s_aload_n (pc := 27) 0 dX2_firstGapByShips_27 rfl rfl ?_
          refine s_gI (pc := 28) dX2_firstGapByShips_28 gf_X2_313 (fun x49 => ?_)
          refine s_iload_n (pc := 31) 1 dX2_firstGapByShips_31 rfl rfl ?_
          refine s_icmp_lt (pc := 32) (tgt := 40) dX2_firstGapByShips_32 (by decide) (fun _ => ?_) (fun _ => ?_)
          · refine s_goto (pc := 40) (tgt := 8) dX2_firstGapByShips_40 (by decide) ?_
            exact s_sub (pc := 8) [1, 2] rfl (ih a1 a2 h44)
          · refine s_aload_n (pc := 35) 0 dX2_firstGapByShips_35 rfl rfl ?_
            refine s_gI (pc := 36) dX2_firstGapByShips_36 gf_X2_148 (fun x50 => ?_)
            exact s_iret (pc := 39) dX2_firstGapByShips_39 rfl
        refine zS_ite (fun ht => ?_) (fun _ => ?_)
        · refine s_callF (pc := 18) (np := 0) (as := []) (rest := []) dX2_firstGapByShips_18 ht (q := (RJ21, TJ21, 5)) rfl (c_J21_next (by decide) a2 h6) ⟨_, _, _, q812⟩ rfl rfl q670 (by decide +kernel) q810 q808 rfl (by decide) (zkR (fun r43 h44 => ?_)) zxo
          refine s_cast (pc := 23) dX2_firstGapByShips_23 q1287 zcs_FloatingDock_Stretch ?_
          refine s_ast_n (pc := 26) (L2 := [(1, .int a1), (2, va_rf a2)]) [0, 1] dX2_firstGapByShips_26 rfl (by decide) rfl rfl (zcB (j := 1) rfl (zcat_rf a2) rfl) ?_
          refine s_aload_n (pc := 27) 0 dX2_firstGapByShips_27 rfl rfl ?_
          refine s_gI (pc := 28) dX2_firstGapByShips_28 gf_X2_313 (fun x51 => ?_)
          refine s_iload_n (pc := 31) 1 dX2_firstGapByShips_31 rfl rfl ?_
          refine s_icmp_lt (pc := 32) (tgt := 40) dX2_firstGapByShips_32 (by decide) (fun _ => ?_) (fun _ => ?_)
          · refine s_goto (pc := 40) (tgt := 8) dX2_firstGapByShips_40 (by decide) ?_
            exact s_sub (pc := 8) [1, 2] rfl (ih a1 a2 h44)
          · refine s_aload_n (pc := 35) 0 dX2_firstGapByShips_35 rfl rfl ?_
            refine s_gI (pc := 36) dX2_firstGapByShips_36 gf_X2_148 (fun x52 => ?_)
            exact s_iret (pc := 39) dX2_firstGapByShips_39 rfl
        refine zS_ite (fun ht => ?_) (fun _ => zS_none)
        refine s_callF (pc := 18) (np := 0) (as := []) (rest := []) dX2_firstGapByShips_18 ht (q := (RJ22, TJ22, 5)) rfl (c_J22_next (by decide) a2 h6) ⟨_, _, _, q832⟩ rfl rfl q670 (by decide +kernel) q830 q828 rfl (by decide) (zkR (fun r43 h44 => ?_)) zxo
        refine s_cast (pc := 23) dX2_firstGapByShips_23 q1287 zcs_FloatingDock_Stretch ?_
        refine s_ast_n (pc := 26) (L2 := [(1, .int a1), (2, va_rf a2)]) [0, 1] dX2_firstGapByShips_26 rfl (by decide) rfl rfl (zcB (j := 1) rfl (zcat_rf a2) rfl) ?_
        refine s_aload_n (pc := 27) 0 dX2_firstGapByShips_27 rfl rfl ?_
        refine s_gI (pc := 28) dX2_firstGapByShips_28 gf_X2_313 (fun x53 => ?_)
        refine s_iload_n (pc := 31) 1 dX2_firstGapByShips_31 rfl rfl ?_
        refine s_icmp_lt (pc := 32) (tgt := 40) dX2_firstGapByShips_32 (by decide) (fun _ => ?_) (fun _ => ?_)
        · refine s_goto (pc := 40) (tgt := 8) dX2_firstGapByShips_40 (by decide) ?_
          exact s_sub (pc := 8) [1, 2] rfl (ih a1 a2 h44)
        · refine s_aload_n (pc := 35) 0 dX2_firstGapByShips_35 rfl rfl ?_
          refine s_gI (pc := 36) dX2_firstGapByShips_36 gf_X2_148 (fun x54 => ?_)
          exact s_iret (pc := 39) dX2_firstGapByShips_39 rfl
    refine zS_ite (fun ht => ?_) (fun _ => zS_none)
    refine s_callF (pc := 9) (np := 0) (as := []) (rest := []) dX2_firstGapByShips_9 ht (q := (RJ22, TJ22, 5)) rfl (c_J20_hasNext (by decide) a2 h) ⟨_, _, _, q665⟩ rfl rfl q629 (by decide +kernel) q663 q667 rfl (by decide) (zkI (fun x5 h6 => ?_)) zxo
    refine s_if_eq (pc := 14) (tgt := 43) dX2_firstGapByShips_14 (by decide) (fun _ => ?_) (fun _ => ?_)
    · refine s_iconst (pc := 43) (v := -1) dX2_firstGapByShips_43 (by decide) ?_
      exact s_iret (pc := 44) dX2_firstGapByShips_44 rfl
    · refine s_aload_n (pc := 17) 1 dX2_firstGapByShips_17 rfl rfl ?_
      refine zS_ite (fun ht => ?_) (fun _ => ?_)
      · refine s_callF (pc := 18) (np := 0) (as := []) (rest := []) dX2_firstGapByShips_18 ht (q := (RX9, TX9, 2)) rfl (c_X9_next (by decide) a2 h6) ⟨_, _, _, q677⟩ rfl rfl q670 (by decide +kernel) q675 q673 rfl (by decide) (zkR (fun r55 h56 => ?_)) zxo
        refine s_cast (pc := 23) dX2_firstGapByShips_23 q1287 zcs_FloatingDock_Stretch ?_
        refine s_ast_n (pc := 26) (L2 := [(1, .int a1), (2, va_rf a2)]) [0, 1] dX2_firstGapByShips_26 rfl (by decide) rfl rfl (zcB (j := 1) rfl (zcat_rf a2) rfl) ?_
        refine s_aload_n (pc := 27) 0 dX2_firstGapByShips_27 rfl rfl ?_
        refine s_gI (pc := 28) dX2_firstGapByShips_28 gf_X2_313 (fun x57 => ?_)
        refine s_iload_n (pc := 31) 1 dX2_firstGapByShips_31 rfl rfl ?_
        refine s_icmp_lt (pc := 32) (tgt := 40) dX2_firstGapByShips_32 (by decide) (fun _ => ?_) (fun _ => ?_)
        · refine s_goto (pc := 40) (tgt := 8) dX2_firstGapByShips_40 (by decide) ?_
          exact s_sub (pc := 8) [1, 2] rfl (ih a1 a2 h56)
        · refine s_aload_n (pc := 35) 0 dX2_firstGapByShips_35 rfl rfl ?_
          refine s_gI (pc := 36) dX2_firstGapByShips_36 gf_X2_148 (fun x58 => ?_)
          exact s_iret (pc := 39) dX2_firstGapByShips_39 rfl
      refine zS_ite (fun ht => ?_) (fun _ => ?_)
      · refine s_callF (pc := 18) (np := 0) (as := []) (rest := []) dX2_firstGapByShips_18 ht (q := (RJ15, TJ15, 4)) rfl (c_J15_next (by decide) a2 h6) ⟨_, _, _, q788⟩ rfl rfl q670 (by decide +kernel) q786 q784 rfl (by decide) (zkR (fun r55 h56 => ?_)) zxo
        refine s_cast (pc := 23) dX2_firstGapByShips_23 q1287 zcs_FloatingDock_Stretch ?_
        refine s_ast_n (pc := 26) (L2 := [(1, .int a1), (2, va_rf a2)]) [0, 1] dX2_firstGapByShips_26 rfl (by decide) rfl rfl (zcB (j := 1) rfl (zcat_rf a2) rfl) ?_
        refine s_aload_n (pc := 27) 0 dX2_firstGapByShips_27 rfl rfl ?_
        refine s_gI (pc := 28) dX2_firstGapByShips_28 gf_X2_313 (fun x59 => ?_)
        refine s_iload_n (pc := 31) 1 dX2_firstGapByShips_31 rfl rfl ?_
        refine s_icmp_lt (pc := 32) (tgt := 40) dX2_firstGapByShips_32 (by decide) (fun _ => ?_) (fun _ => ?_)
        · refine s_goto (pc := 40) (tgt := 8) dX2_firstGapByShips_40 (by decide) ?_
          exact s_sub (pc := 8) [1, 2] rfl (ih a1 a2 h56)
        · refine s_aload_n (pc := 35) 0 dX2_firstGapByShips_35 rfl rfl ?_
          refine s_gI (pc := 36) dX2_firstGapByShips_36 gf_X2_148 (fun x60 => ?_)
          exact s_iret (pc := 39) dX2_firstGapByShips_39 rfl
      refine zS_ite (fun ht => ?_) (fun _ => ?_)
      · refine s_callF (pc := 18) (np := 0) (as := []) (rest := []) dX2_firstGapByShips_18 ht (q := (RJ17, TJ17, 5)) rfl (c_J17_next (by decide) a2 h6) ⟨_, _, _, q799⟩ rfl rfl q670 (by decide +kernel) q797 q795 rfl (by decide) (zkR (fun r55 h56 => ?_)) zxo
        refine s_cast (pc := 23) dX2_firstGapByShips_23 q1287 zcs_FloatingDock_Stretch ?_
        refine s_ast_n (pc := 26) (L2 := [(1, .int a1), (2, va_rf a2)]) [0, 1] dX2_firstGapByShips_26 rfl (by decide) rfl rfl (zcB (j := 1) rfl (zcat_rf a2) rfl) ?_
        refine s_aload_n (pc := 27) 0 dX2_firstGapByShips_27 rfl rfl ?_
        refine s_gI (pc := 28) dX2_firstGapByShips_28 gf_X2_313 (fun x61 => ?_)
        refine s_iload_n (pc := 31) 1 dX2_firstGapByShips_31 rfl rfl ?_
        refine s_icmp_lt (pc := 32) (tgt := 40) dX2_firstGapByShips_32 (by decide) (fun _ => ?_) (fun _ => ?_)
        · refine s_goto (pc := 40) (tgt := 8) dX2_firstGapByShips_40 (by decide) ?_
          exact s_sub (pc := 8) [1, 2] rfl (ih a1 a2 h56)
        · refine s_aload_n (pc := 35) 0 dX2_firstGapByShips_35 rfl rfl ?_
          refine s_gI (pc := 36) dX2_firstGapByShips_36 gf_X2_148 (fun x62 => ?_)
          exact s_iret (pc := 39) dX2_firstGapByShips_39 rfl
      refine zS_ite (fun ht => ?_) (fun _ => ?_)
      · refine s_callF (pc := 18) (np := 0) (as := []) (rest := []) dX2_firstGapByShips_18 ht (q := (RJ21, TJ21, 5)) rfl (c_J21_next (by decide) a2 h6) ⟨_, _, _, q812⟩ rfl rfl q670 (by decide +kernel) q810 q808 rfl (by decide) (zkR (fun r55 h56 => ?_)) zxo
        refine s_cast (pc := 23) dX2_firstGapByShips_23 q1287 zcs_FloatingDock_Stretch ?_
        refine s_ast_n (pc := 26) (L2 := [(1, .int a1), (2, va_rf a2)]) [0, 1] dX2_firstGapByShips_26 rfl (by decide) rfl rfl (zcB (j := 1) rfl (zcat_rf a2) rfl) ?_
        refine s_aload_n (pc := 27) 0 dX2_firstGapByShips_27 rfl rfl ?_
        refine s_gI (pc := 28) dX2_firstGapByShips_28 gf_X2_313 (fun x63 => ?_)
        refine s_iload_n (pc := 31) 1 dX2_firstGapByShips_31 rfl rfl ?_
        refine s_icmp_lt (pc := 32) (tgt := 40) dX2_firstGapByShips_32 (by decide) (fun _ => ?_) (fun _ => ?_)
        · refine s_goto (pc := 40) (tgt := 8) dX2_firstGapByShips_40 (by decide) ?_
          exact s_sub (pc := 8) [1, 2] rfl (ih a1 a2 h56)
        · refine s_aload_n (pc := 35) 0 dX2_firstGapByShips_35 rfl rfl ?_
          refine s_gI (pc := 36) dX2_firstGapByShips_36 gf_X2_148 (fun x64 => ?_)
          exact s_iret (pc := 39) dX2_firstGapByShips_39 rfl
      refine zS_ite (fun ht => ?_) (fun _ => zS_none)
      refine s_callF (pc := 18) (np := 0) (as := []) (rest := []) dX2_firstGapByShips_18 ht (q := (RJ22, TJ22, 5)) rfl (c_J22_next (by decide) a2 h6) ⟨_, _, _, q832⟩ rfl rfl q670 (by decide +kernel) q830 q828 rfl (by decide) (zkR (fun r55 h56 => ?_)) zxo
      refine s_cast (pc := 23) dX2_firstGapByShips_23 q1287 zcs_FloatingDock_Stretch ?_
      refine s_ast_n (pc := 26) (L2 := [(1, .int a1), (2, va_rf a2)]) [0, 1] dX2_firstGapByShips_26 rfl (by decide) rfl rfl (zcB (j := 1) rfl (zcat_rf a2) rfl) ?_
      refine s_aload_n (pc := 27) 0 dX2_firstGapByShips_27 rfl rfl ?_
      refine s_gI (pc := 28) dX2_firstGapByShips_28 gf_X2_313 (fun x65 => ?_)
      refine s_iload_n (pc := 31) 1 dX2_firstGapByShips_31 rfl rfl ?_
      refine s_icmp_lt (pc := 32) (tgt := 40) dX2_firstGapByShips_32 (by decide) (fun _ => ?_) (fun _ => ?_)
      · refine s_goto (pc := 40) (tgt := 8) dX2_firstGapByShips_40 (by decide) ?_
        exact s_sub (pc := 8) [1, 2] rfl (ih a1 a2 h56)
      · refine s_aload_n (pc := 35) 0 dX2_firstGapByShips_35 rfl rfl ?_
        refine s_gI (pc := 36) dX2_firstGapByShips_36 gf_X2_148 (fun x66 => ?_)
        exact s_iret (pc := 39) dX2_firstGapByShips_39 rfl
theorem w_X2_firstGapByShips (v0 : Option Nat) (v1 : Int32) (h : zH) : zS D z yX2_firstGapByShips cX2_firstGapByShips 4 (some .int) [] 12 h 0 [(0, va_rf v0), (1, .int v1)] [] (f_X2_firstGapByShips v0 v1 h) := by
  unfold f_X2_firstGapByShips
  refine s_aload_n (pc := 0) 0 dX2_firstGapByShips_0 rfl rfl ?_
  refine zS_ite (fun ht => ?_) (fun _ => zS_none)
  refine s_callV (pc := 1) (np := 0) (as := []) (rest := []) dX2_firstGapByShips_1 ht (q := (RX2, TX2, 10)) rfl (c_X2_gaps (by decide) v0 h) rfl rfl q1142 q1143 q1144 rfl (by decide) (zkR (fun r1 h2 => ?_)) zxo
  refine zS_ite (fun ht => ?_) (fun _ => zS_none)
  refine s_callV (pc := 4) (np := 0) (as := []) (rest := []) dX2_firstGapByShips_4 ht (q := (RJ37, TJ37, 3)) rfl (c_J37_iterator (by decide) r1 h2) rfl rfl q1286 q474 q3762 rfl (by decide) (zkR (fun r3 h4 => ?_)) zxo
  refine s_ast_n (pc := 7) (L2 := [(1, .int v1)]) [1] dX2_firstGapByShips_7 rfl (by decide) rfl rfl (zcB (j := 0) rfl rfl rfl) ?_
  exact s_sub (pc := 8) [1, 0] rfl (w_X2_firstGapByShips_8 zfuel v1 r3 h4)
theorem c_X2_firstGapByShips {d0 : Nat} (hd0 : 12 < d0) (v0 : Option Nat) (v1 : Int32) (h : zH) : zCal D z d0 h yX2_firstGapByShips [va_rf v0, .int v1] (f_X2_firstGapByShips v0 v1 h) :=
  ⟨cX2_firstGapByShips, 4, (some .int), [], 12, (show lv_args 0 [va_rf v0, .int v1] = [(0, va_rf v0), (1, .int v1)] by simp [lv_args, zcat_rf, zcat_i, zcat_l, zcat_f, zcat_d]) ▸ w_X2_firstGapByShips v0 v1 h, (plainFor_of_name (by decide)), by simp [lg_sl, zcat_rf, zcat_i, zcat_l, zcat_f, zcat_d], q1141, q96, hd0, by decide, by decide⟩
theorem w_X1_lambda_new_4 (v0 : Option Nat) (v1 : Int32) (h : zH) : zS D z yX1_lambda_new_4 cX1_lambda_new_4 2 (some .int) [] 13 h 0 [(0, va_rf v0), (1, .int v1)] [] (f_X1_lambda_new_4 v0 v1 h) := by
  unfold f_X1_lambda_new_4
  refine s_aload_n (pc := 0) 0 dX1_lambda_new_4_0 rfl rfl ?_
  refine s_iload_n (pc := 1) 1 dX1_lambda_new_4_1 rfl rfl ?_
  refine zS_ite (fun ht => ?_) (fun _ => zS_none)
  refine s_callV (pc := 2) (np := 1) (as := [.int v1]) (rest := []) dX1_lambda_new_4_2 ht (q := (RX2, TX2, 10)) rfl (c_X2_firstGapByShips (by decide) v0 v1 h) rfl rfl q1138 q1139 q1140 rfl (by decide) (zkI (fun x1 h2 => ?_)) zxo
  exact s_iret (pc := 5) dX1_lambda_new_4_5 rfl
theorem c_X1_lambda_new_4 {d0 : Nat} (hd0 : 13 < d0) (v0 : Option Nat) (v1 : Int32) (h : zH) : zCal D z d0 h yX1_lambda_new_4 [va_rf v0, .int v1] (f_X1_lambda_new_4 v0 v1 h) :=
  ⟨cX1_lambda_new_4, 2, (some .int), [], 13, (show lv_args 0 [va_rf v0, .int v1] = [(0, va_rf v0), (1, .int v1)] by simp [lv_args, zcat_rf, zcat_i, zcat_l, zcat_f, zcat_d]) ▸ w_X1_lambda_new_4 v0 v1 h, (plainFor_of_name (by decide)), by simp [lg_sl, zcat_rf, zcat_i, zcat_l, zcat_f, zcat_d], q1137, q95, hd0, by decide, by decide⟩
theorem c_gf_find {d0 : Nat} (hd0 : 13 < d0) (v0 : Option Nat) (v1 : Option Nat) (v2 : Int32) (h : zH) : zLC D z d0 h v0 [va_rf v1, .int v2] ⟨"FloatingDock$GapFinder", "find", "(LFloatingDock$Yard;I)I"⟩ (f_gf_find v0 v1 v2 h) :=
  zlamif (fun ht => zlv0_C ht (Or.inl rfl) (fun a fr  ha hm => Or.inr ⟨303, a, fr, [], zSh siteWord_1_4, ⟨#[0x2b, 0x1c, 0xb8, 0x00, 0x11, 0xac]⟩, 3, [], [true, false], 17, true, yX1_lambda_new_3, f_X1_lambda_new_3 v1 v2 h, ha, hm, rfl, rfl, by decide +kernel, by decide +kernel, zk_3, zc_3, by decide +kernel, by decide +kernel, c_X1_lambda_new_3 (Nat.lt_of_le_of_lt (by decide) hd0) v1 v2 h, rfl, rfl, rfl, rfl, (zKdR v1 (zKdI v2 zKd0)), rfl, q379⟩)) <|
  zlamif (fun ht => zlv0_C ht (Or.inl rfl) (fun a fr  ha hm => Or.inr ⟨304, a, fr, [], zSh siteWord_1_5, ⟨#[0x2b, 0x1c, 0xb8, 0x00, 0x11, 0xac]⟩, 3, [], [true, false], 17, true, yX1_lambda_new_4, f_X1_lambda_new_4 v1 v2 h, ha, hm, rfl, rfl, by decide +kernel, by decide +kernel, zk_4, zc_4, by decide +kernel, by decide +kernel, c_X1_lambda_new_4 (Nat.lt_of_le_of_lt (by decide) hd0) v1 v2 h, rfl, rfl, rfl, rfl, (zKdR v1 (zKdI v2 zKd0)), rfl, q1136⟩)) <|
  Or.inl rfl
theorem w_X1_gap_37 (a3 : Int32) (s0 : Int32) (h : zH) : zS D z yX1_gap cX1_gap 4 (some .int) [] 15 h 37 [(3, .int a3)] [.int s0] (f_X1_gap_37 a3 s0 h) := by
  unfold f_X1_gap_37
  refine s_callSS (pc := 37) (np := 1) (as := [.int s0]) (rest := []) dX1_gap_37 (c_X1_checkElement (by decide) s0 h) rfl rfl q2612 q2395 rfl (by decide) (zkV (fun h9 => ?_)) zxo
  refine s_iload_n (pc := 40) 0 dX1_gap_40 rfl rfl ?_
  exact s_iret (pc := 41) dX1_gap_41 rfl
theorem w_X1_gap (v0 : Option Nat) (v1 : Int32) (v2 : Int32) (h : zH) : zS D z yX1_gap cX1_gap 4 (some .int) [] 15 h 0 [(0, va_rf v0), (1, .int v1), (2, .int v2)] [] (f_X1_gap v0 v1 v2 h) := by
  unfold f_X1_gap
  refine s_iload_n (pc := 0) 2 dX1_gap_0 rfl rfl ?_
  refine s_iconst (pc := 1) (v := 1) dX1_gap_1 (by decide) ?_
  refine s_bipush (pc := 2) (v := 60) dX1_gap_2 (by decide) ?_
  refine s_callSS (pc := 4) (np := 3) (as := [.int v2, .int 1, .int 60]) (rest := []) dX1_gap_4 (c_X1_isBetween (by decide) v2 1 60 h) rfl rfl q2548 q1518 rfl (by decide) (zkI (fun x1 h2 => ?_)) zxo
  refine s_callSS (pc := 7) (np := 1) (as := [.int x1]) (rest := []) dX1_gap_7 (c_X1_checkArgument (by decide) x1 h2) rfl rfl q2652 q2280 rfl (by decide) (zkV (fun h3 => ?_)) zxo
  refine s_aload_n (pc := 10) 0 dX1_gap_10 rfl rfl ?_
  refine s_gR (pc := 11) dX1_gap_11 gf_X1_17 (fun r4 => ?_)
  refine s_iload_n (pc := 14) 1 dX1_gap_14 rfl rfl ?_
  refine s_aald (pc := 15) dX1_gap_15 zrefs_ok (fun r5 => ?_)
  refine s_aload_n (pc := 16) 0 dX1_gap_16 rfl rfl ?_
  refine s_gR (pc := 17) dX1_gap_17 gf_X1_30 (fun r6 => ?_)
  refine s_iload_n (pc := 20) 2 dX1_gap_20 rfl rfl ?_
  refine s_callL (pc := 21) (np := 2) (as := [va_rf r6, .int v2]) (rest := []) (d' := 14) dX1_gap_21 (by decide) (c_gf_find (by decide) r5 r6 v2 h3) rfl rfl q2810 rfl (by decide) (zkI (fun x7 h8 => ?_)) zxo
  refine s_ist_n (pc := 26) (L2 := []) [] dX1_gap_26 rfl (by decide) rfl rfl (zcA rfl) ?_
  refine s_iload_n (pc := 27) 0 dX1_gap_27 rfl rfl ?_
  refine s_iconst (pc := 28) (v := -1) dX1_gap_28 (by decide) ?_
  refine s_icmp_eq (pc := 29) (tgt := 36) dX1_gap_29 (by decide) (fun _ => ?_) (fun _ => ?_)
  · refine s_iconst (pc := 36) (v := 0) dX1_gap_36 (by decide) ?_
    exact s_sub (pc := 37) [0] rfl (w_X1_gap_37 x7 0 h8)
  · refine s_iconst (pc := 32) (v := 1) dX1_gap_32 (by decide) ?_
    refine s_goto (pc := 33) (tgt := 37) dX1_gap_33 (by decide) ?_
    exact s_sub (pc := 37) [0] rfl (w_X1_gap_37 x7 1 h8)
theorem c_X1_gap {d0 : Nat} (hd0 : 15 < d0) (v0 : Option Nat) (v1 : Int32) (v2 : Int32) (h : zH) : zCal D z d0 h yX1_gap [va_rf v0, .int v1, .int v2] (f_X1_gap v0 v1 v2 h) :=
  ⟨cX1_gap, 4, (some .int), [], 15, (show lv_args 0 [va_rf v0, .int v1, .int v2] = [(0, va_rf v0), (1, .int v1), (2, .int v2)] by simp [lv_args, zcat_rf, zcat_i, zcat_l, zcat_f, zcat_d]) ▸ w_X1_gap v0 v1 v2 h, (plainFor_of_name (by decide)), by simp [lg_sl, zcat_rf, zcat_i, zcat_l, zcat_f, zcat_d], q2808, q95, hd0, by decide, by decide⟩
theorem w_X1_firstGap (v0 : Option Nat) (v1 : Int32) (h : zH) : zS D z yX1_firstGap cX1_firstGap 2 (some .int) [] 16 h 0 [(0, va_rf v0), (1, .int v1)] [] (f_X1_firstGap v0 v1 h) := by
  unfold f_X1_firstGap
  refine s_aload_n (pc := 0) 0 dX1_firstGap_0 rfl rfl ?_
  refine s_iconst (pc := 1) (v := 0) dX1_firstGap_1 (by decide) ?_
  refine s_iload_n (pc := 2) 1 dX1_firstGap_2 rfl rfl ?_
  refine zS_ite (fun ht => ?_) (fun _ => zS_none)
  refine s_callV (pc := 3) (np := 2) (as := [.int 0, .int v1]) (rest := []) dX1_firstGap_3 ht (q := (RX1, TX1, 11)) rfl (c_X1_gap (by decide) v0 0 v1 h) rfl rfl q2805 q2807 qs27 rfl (by decide) (zkI (fun x1 h2 => ?_)) zxo
  exact s_iret (pc := 6) dX1_firstGap_6 rfl
theorem c_X1_firstGap {d0 : Nat} (hd0 : 16 < d0) (v0 : Option Nat) (v1 : Int32) (h : zH) : zCal D z d0 h yX1_firstGap [va_rf v0, .int v1] (f_X1_firstGap v0 v1 h) :=
  ⟨cX1_firstGap, 2, (some .int), [], 16, (show lv_args 0 [va_rf v0, .int v1] = [(0, va_rf v0), (1, .int v1)] by simp [lv_args, zcat_rf, zcat_i, zcat_l, zcat_f, zcat_d]) ▸ w_X1_firstGap v0 v1 h, (plainFor_of_name (by decide)), by simp [lg_sl, zcat_rf, zcat_i, zcat_l, zcat_f, zcat_d], q2804, q95, hd0, by decide, by decide⟩
theorem w_X0_firstGap_12 (s0 : Option Nat) (h : zH) : zS D z yX0_firstGap cX0_firstGap 4 (some .int) [(0, 9, 12, 13), (0, 9, 15, 21)] 17 h 12 [] [va_rf s0] (f_X0_firstGap_12 s0 h) := by
  unfold f_X0_firstGap_12
  refine s_ast_n (pc := 12) (L2 := []) [] dX0_firstGap_12 rfl (by decide) rfl rfl (zcA rfl) ?_
  refine s_iconst (pc := 13) (v := 1) dX0_firstGap_13 (by decide) ?_
  exact s_iret (pc := 14) dX0_firstGap_14 rfl
theorem w_X0_firstGap_15 (s0 : Option Nat) (h : zH) : zS D z yX0_firstGap cX0_firstGap 4 (some .int) [(0, 9, 12, 13), (0, 9, 15, 21)] 17 h 15 [] [va_rf s0] (f_X0_firstGap_15 s0 h) := by
  unfold f_X0_firstGap_15
  refine s_ast_n (pc := 15) (L2 := []) [] dX0_firstGap_15 rfl (by decide) rfl rfl (zcA rfl) ?_
  refine s_iconst (pc := 16) (v := 2) dX0_firstGap_16 (by decide) ?_
  exact s_iret (pc := 17) dX0_firstGap_17 rfl
theorem w_X0_firstGap (v0 : Option Nat) (v1 : Int32) (v2 : Option Nat) (h : zH) : zS D z yX0_firstGap cX0_firstGap 4 (some .int) [(0, 9, 12, 13), (0, 9, 15, 21)] 17 h 0 [(0, va_rf v0), (1, .int v1), (2, va_rf v2)] [] (f_X0_firstGap v0 v1 v2 h) := by
  unfold f_X0_firstGap
  refine s_aload_n (pc := 0) 2 dX0_firstGap_0 rfl rfl ?_
  refine s_iconst (pc := 1) (v := 0) dX0_firstGap_1 (by decide) ?_
  refine s_aload_n (pc := 2) 0 dX0_firstGap_2 rfl rfl ?_
  refine s_iload_n (pc := 3) 1 dX0_firstGap_3 rfl rfl ?_
  refine zS_ite (fun ht => ?_) (fun _ => zS_none)
  refine s_callV (pc := 4) (np := 1) (as := [.int v1]) (rest := [.int 0, va_rf v2]) dX0_firstGap_4 ht (q := (RX1, TX1, 11)) rfl (c_X1_firstGap (by decide) v0 v1 h) rfl rfl q2801 q2802 q2803 rfl (by simp [zcat_rf, zcat_i, zcat_l, zcat_f, zcat_d]) (zkI (fun x3 h4 => ?_)) (fun e2 h1 => zT_ite (fun hx => (zT_catch (q := (RJ34, TJ34, 0)) [] (0, 9, 12, 13) [(0, 9, 15, 21)] rfl (by rw [hx]; rfl) zp0 rfl (by decide) q2266 (Or.inl rfl) rfl (by exact s_sub (pc := 12) [] rfl (w_X0_firstGap_12 (some e2.2) h1)))) (fun _ => zT_ite (fun hx => (zT_out (fun q hq => by rw [hx] at hq; cases hq; exact (zpn (by decide) q2266 (by decide +kernel) (zpn (by decide) q2375 (by decide +kernel) zp0))))) (fun _ => zT_ite (fun hx => (zT_catch (q := (RJ28, TJ28, 0)) [(0, 9, 12, 13)] (0, 9, 15, 21) [] rfl (by rw [hx]; rfl) (zpn (by decide) q2266 (by decide +kernel) zp0) rfl (by decide) q2375 (Or.inl rfl) rfl (by exact s_sub (pc := 15) [] rfl (w_X0_firstGap_15 (some e2.2) h1)))) (fun _ => zT_ite (fun hx => (zT_out (fun q hq => by rw [hx] at hq; cases hq; exact (zpn (by decide) q2266 (by decide +kernel) (zpn (by decide) q2375 (by decide +kernel) zp0))))) (fun _ => zT_ite (fun hx => (zT_out (fun q hq => by rw [hx] at hq; cases hq; exact (zpn (by decide) q2266 (by decide +kernel) (zpn (by decide) q2375 (by decide +kernel) zp0))))) (fun _ => zT_ite (fun hx => (zT_out (fun q hq => by rw [hx] at hq; cases hq; exact (zpn (by decide) q2266 (by decide +kernel) (zpn (by decide) q2375 (by decide +kernel) zp0))))) (fun _ => zT_ite (fun hx => (zT_out (fun q hq => by rw [hx] at hq; cases hq; exact (zpn (by decide) q2266 (by decide +kernel) (zpn (by decide) q2375 (by decide +kernel) zp0))))) (fun _ => zT_ite (fun hx => (zT_out (fun q hq => by rw [hx] at hq; cases hq; exact (zpn (by decide) q2266 (by decide +kernel) (zpn (by decide) q2375 (by decide +kernel) zp0))))) (fun _ => zT_none)))))))))
  refine s_i2l (pc := 7) dX0_firstGap_7 ?_
  refine s_last (pc := 8) dX0_firstGap_8 (ztc rfl zt0) (fun h5 => ?_)
  refine s_goto (pc := 9) (tgt := 18) dX0_firstGap_9 (by decide) ?_
  refine s_iconst (pc := 18) (v := 0) dX0_firstGap_18 (by decide) ?_
  exact s_iret (pc := 19) dX0_firstGap_19 rfl
theorem c_X0_firstGap {d0 : Nat} (hd0 : 17 < d0) (v0 : Option Nat) (v1 : Int32) (v2 : Option Nat) (h : zH) : zCal D z d0 h yX0_firstGap [va_rf v0, .int v1, va_rf v2] (f_X0_firstGap v0 v1 v2 h) :=
  ⟨cX0_firstGap, 4, (some .int), [(0, 9, 12, 13), (0, 9, 15, 21)], 17, (show lv_args 0 [va_rf v0, .int v1, va_rf v2] = [(0, va_rf v0), (1, .int v1), (2, va_rf v2)] by simp [lv_args, zcat_rf, zcat_i, zcat_l, zcat_f, zcat_d]) ▸ w_X0_firstGap v0 v1 v2 h, (plainFor_of_name (by decide)), by simp [lg_sl, zcat_rf, zcat_i, zcat_l, zcat_f, zcat_d], q2800, q94, hd0, by decide, by decide⟩
theorem w_X1_firstGapByShips (v0 : Option Nat) (v1 : Int32) (h : zH) : zS D z yX1_firstGapByShips cX1_firstGapByShips 2 (some .int) [] 16 h 0 [(0, va_rf v0), (1, .int v1)] [] (f_X1_firstGapByShips v0 v1 h) := by
  unfold f_X1_firstGapByShips
  refine s_aload_n (pc := 0) 0 dX1_firstGapByShips_0 rfl rfl ?_
  refine s_iconst (pc := 1) (v := 1) dX1_firstGapByShips_1 (by decide) ?_
  refine s_iload_n (pc := 2) 1 dX1_firstGapByShips_2 rfl rfl ?_
  refine zS_ite (fun ht => ?_) (fun _ => zS_none)
  refine s_callV (pc := 3) (np := 2) (as := [.int 1, .int v1]) (rest := []) dX1_firstGapByShips_3 ht (q := (RX1, TX1, 11)) rfl (c_X1_gap (by decide) v0 1 v1 h) rfl rfl q2805 q2807 qs27 rfl (by decide) (zkI (fun x1 h2 => ?_)) zxo
  exact s_iret (pc := 6) dX1_firstGapByShips_6 rfl
theorem c_X1_firstGapByShips {d0 : Nat} (hd0 : 16 < d0) (v0 : Option Nat) (v1 : Int32) (h : zH) : zCal D z d0 h yX1_firstGapByShips [va_rf v0, .int v1] (f_X1_firstGapByShips v0 v1 h) :=
  ⟨cX1_firstGapByShips, 2, (some .int), [], 16, (show lv_args 0 [va_rf v0, .int v1] = [(0, va_rf v0), (1, .int v1)] by simp [lv_args, zcat_rf, zcat_i, zcat_l, zcat_f, zcat_d]) ▸ w_X1_firstGapByShips v0 v1 h, (plainFor_of_name (by decide)), by simp [lg_sl, zcat_rf, zcat_i, zcat_l, zcat_f, zcat_d], q2817, q95, hd0, by decide, by decide⟩
theorem w_X0_firstGapByShips_12 (s0 : Option Nat) (h : zH) : zS D z yX0_firstGapByShips cX0_firstGapByShips 4 (some .int) [(0, 9, 12, 13), (0, 9, 15, 21)] 17 h 12 [] [va_rf s0] (f_X0_firstGapByShips_12 s0 h) := by
  unfold f_X0_firstGapByShips_12
  refine s_ast_n (pc := 12) (L2 := []) [] dX0_firstGapByShips_12 rfl (by decide) rfl rfl (zcA rfl) ?_
  refine s_iconst (pc := 13) (v := 1) dX0_firstGapByShips_13 (by decide) ?_
  exact s_iret (pc := 14) dX0_firstGapByShips_14 rfl
theorem w_X0_firstGapByShips_15 (s0 : Option Nat) (h : zH) : zS D z yX0_firstGapByShips cX0_firstGapByShips 4 (some .int) [(0, 9, 12, 13), (0, 9, 15, 21)] 17 h 15 [] [va_rf s0] (f_X0_firstGapByShips_15 s0 h) := by
  unfold f_X0_firstGapByShips_15
  refine s_ast_n (pc := 15) (L2 := []) [] dX0_firstGapByShips_15 rfl (by decide) rfl rfl (zcA rfl) ?_
  refine s_iconst (pc := 16) (v := 2) dX0_firstGapByShips_16 (by decide) ?_
  exact s_iret (pc := 17) dX0_firstGapByShips_17 rfl
theorem w_X0_firstGapByShips (v0 : Option Nat) (v1 : Int32) (v2 : Option Nat) (h : zH) : zS D z yX0_firstGapByShips cX0_firstGapByShips 4 (some .int) [(0, 9, 12, 13), (0, 9, 15, 21)] 17 h 0 [(0, va_rf v0), (1, .int v1), (2, va_rf v2)] [] (f_X0_firstGapByShips v0 v1 v2 h) := by
  unfold f_X0_firstGapByShips
  refine s_aload_n (pc := 0) 2 dX0_firstGapByShips_0 rfl rfl ?_
  refine s_iconst (pc := 1) (v := 0) dX0_firstGapByShips_1 (by decide) ?_
  refine s_aload_n (pc := 2) 0 dX0_firstGapByShips_2 rfl rfl ?_
  refine s_iload_n (pc := 3) 1 dX0_firstGapByShips_3 rfl rfl ?_
  refine zS_ite (fun ht => ?_) (fun _ => zS_none)
  refine s_callV (pc := 4) (np := 1) (as := [.int v1]) (rest := [.int 0, va_rf v2]) dX0_firstGapByShips_4 ht (q := (RX1, TX1, 11)) rfl (c_X1_firstGapByShips (by decide) v0 v1 h) rfl rfl q2814 q2815 q2816 rfl (by simp [zcat_rf, zcat_i, zcat_l, zcat_f, zcat_d]) (zkI (fun x3 h4 => ?_)) (fun e2 h1 => zT_ite (fun hx => (zT_catch (q := (RJ34, TJ34, 0)) [] (0, 9, 12, 13) [(0, 9, 15, 21)] rfl (by rw [hx]; rfl) zp0 rfl (by decide) q2266 (Or.inl rfl) rfl (by exact s_sub (pc := 12) [] rfl (w_X0_firstGapByShips_12 (some e2.2) h1)))) (fun _ => zT_ite (fun hx => (zT_out (fun q hq => by rw [hx] at hq; cases hq; exact (zpn (by decide) q2266 (by decide +kernel) (zpn (by decide) q2375 (by decide +kernel) zp0))))) (fun _ => zT_ite (fun hx => (zT_catch (q := (RJ28, TJ28, 0)) [(0, 9, 12, 13)] (0, 9, 15, 21) [] rfl (by rw [hx]; rfl) (zpn (by decide) q2266 (by decide +kernel) zp0) rfl (by decide) q2375 (Or.inl rfl) rfl (by exact s_sub (pc := 15) [] rfl (w_X0_firstGapByShips_15 (some e2.2) h1)))) (fun _ => zT_ite (fun hx => (zT_out (fun q hq => by rw [hx] at hq; cases hq; exact (zpn (by decide) q2266 (by decide +kernel) (zpn (by decide) q2375 (by decide +kernel) zp0))))) (fun _ => zT_ite (fun hx => (zT_out (fun q hq => by rw [hx] at hq; cases hq; exact (zpn (by decide) q2266 (by decide +kernel) (zpn (by decide) q2375 (by decide +kernel) zp0))))) (fun _ => zT_ite (fun hx => (zT_out (fun q hq => by rw [hx] at hq; cases hq; exact (zpn (by decide) q2266 (by decide +kernel) (zpn (by decide) q2375 (by decide +kernel) zp0))))) (fun _ => zT_ite (fun hx => (zT_out (fun q hq => by rw [hx] at hq; cases hq; exact (zpn (by decide) q2266 (by decide +kernel) (zpn (by decide) q2375 (by decide +kernel) zp0))))) (fun _ => zT_ite (fun hx => (zT_out (fun q hq => by rw [hx] at hq; cases hq; exact (zpn (by decide) q2266 (by decide +kernel) (zpn (by decide) q2375 (by decide +kernel) zp0))))) (fun _ => zT_none)))))))))
  refine s_i2l (pc := 7) dX0_firstGapByShips_7 ?_
  refine s_last (pc := 8) dX0_firstGapByShips_8 (ztc rfl zt0) (fun h5 => ?_)
  refine s_goto (pc := 9) (tgt := 18) dX0_firstGapByShips_9 (by decide) ?_
  refine s_iconst (pc := 18) (v := 0) dX0_firstGapByShips_18 (by decide) ?_
  exact s_iret (pc := 19) dX0_firstGapByShips_19 rfl
theorem c_X0_firstGapByShips {d0 : Nat} (hd0 : 17 < d0) (v0 : Option Nat) (v1 : Int32) (v2 : Option Nat) (h : zH) : zCal D z d0 h yX0_firstGapByShips [va_rf v0, .int v1, va_rf v2] (f_X0_firstGapByShips v0 v1 v2 h) :=
  ⟨cX0_firstGapByShips, 4, (some .int), [(0, 9, 12, 13), (0, 9, 15, 21)], 17, (show lv_args 0 [va_rf v0, .int v1, va_rf v2] = [(0, va_rf v0), (1, .int v1), (2, va_rf v2)] by simp [lv_args, zcat_rf, zcat_i, zcat_l, zcat_f, zcat_d]) ▸ w_X0_firstGapByShips v0 v1 v2 h, (plainFor_of_name (by decide)), by simp [lg_sl, zcat_rf, zcat_i, zcat_l, zcat_f, zcat_d], q2813, q94, hd0, by decide, by decide⟩
theorem w_X1_billOf (v0 : Option Nat) (v1 : Int32) (h : zH) : zS D z yX1_billOf cX1_billOf 2 (some .int) [] 10 h 0 [(0, va_rf v0), (1, .int v1)] [] (f_X1_billOf v0 v1 h) := by
  unfold f_X1_billOf
  refine s_aload_n (pc := 0) 0 dX1_billOf_0 rfl rfl ?_
  refine s_gR (pc := 1) dX1_billOf_1 gf_X1_30 (fun r1 => ?_)
  refine s_iload_n (pc := 4) 1 dX1_billOf_4 rfl rfl ?_
  refine zS_ite (fun ht => ?_) (fun _ => zS_none)
  refine s_callV (pc := 5) (np := 1) (as := [.int v1]) (rest := []) dX1_billOf_5 ht (q := (RX2, TX2, 10)) rfl (c_X2_ship (by decide) r1 v1 h) rfl rfl q2564 q2387 q2388 rfl (by decide) (zkR (fun r2 h3 => ?_)) zxo
  refine s_gI (pc := 8) dX1_billOf_8 gf_X1_260 (fun x4 => ?_)
  exact s_iret (pc := 11) dX1_billOf_11 rfl
theorem c_X1_billOf {d0 : Nat} (hd0 : 10 < d0) (v0 : Option Nat) (v1 : Int32) (h : zH) : zCal D z d0 h yX1_billOf [va_rf v0, .int v1] (f_X1_billOf v0 v1 h) :=
  ⟨cX1_billOf, 2, (some .int), [], 10, (show lv_args 0 [va_rf v0, .int v1] = [(0, va_rf v0), (1, .int v1)] by simp [lv_args, zcat_rf, zcat_i, zcat_l, zcat_f, zcat_d]) ▸ w_X1_billOf v0 v1 h, (plainFor_of_name (by decide)), by simp [lg_sl, zcat_rf, zcat_i, zcat_l, zcat_f, zcat_d], q2824, q95, hd0, by decide, by decide⟩
theorem w_X0_billOf_12 (s0 : Option Nat) (h : zH) : zS D z yX0_billOf cX0_billOf 4 (some .int) [(0, 9, 12, 21)] 11 h 12 [] [va_rf s0] (f_X0_billOf_12 s0 h) := by
  unfold f_X0_billOf_12
  refine s_ast_n (pc := 12) (L2 := []) [] dX0_billOf_12 rfl (by decide) rfl rfl (zcA rfl) ?_
  refine s_iconst (pc := 13) (v := 1) dX0_billOf_13 (by decide) ?_
  exact s_iret (pc := 14) dX0_billOf_14 rfl
theorem w_X0_billOf (v0 : Option Nat) (v1 : Int32) (v2 : Option Nat) (h : zH) : zS D z yX0_billOf cX0_billOf 4 (some .int) [(0, 9, 12, 21)] 11 h 0 [(0, va_rf v0), (1, .int v1), (2, va_rf v2)] [] (f_X0_billOf v0 v1 v2 h) := by
  unfold f_X0_billOf
  refine s_aload_n (pc := 0) 2 dX0_billOf_0 rfl rfl ?_
  refine s_iconst (pc := 1) (v := 0) dX0_billOf_1 (by decide) ?_
  refine s_aload_n (pc := 2) 0 dX0_billOf_2 rfl rfl ?_
  refine s_iload_n (pc := 3) 1 dX0_billOf_3 rfl rfl ?_
  refine zS_ite (fun ht => ?_) (fun _ => zS_none)
  refine s_callV (pc := 4) (np := 1) (as := [.int v1]) (rest := [.int 0, va_rf v2]) dX0_billOf_4 ht (q := (RX1, TX1, 11)) rfl (c_X1_billOf (by decide) v0 v1 h) rfl rfl q2821 q2822 q2823 rfl (by simp [zcat_rf, zcat_i, zcat_l, zcat_f, zcat_d]) (zkI (fun x3 h4 => ?_)) (fun e2 h1 => zT_ite (fun hx => (zT_out (fun q hq => by rw [hx] at hq; cases hq; exact (zpn (by decide) q2375 (by decide +kernel) zp0)))) (fun _ => zT_ite (fun hx => (zT_out (fun q hq => by rw [hx] at hq; cases hq; exact (zpn (by decide) q2375 (by decide +kernel) zp0)))) (fun _ => zT_ite (fun hx => (zT_catch (q := (RJ28, TJ28, 0)) [] (0, 9, 12, 21) [] rfl (by rw [hx]; rfl) zp0 rfl (by decide) q2375 (Or.inl rfl) rfl (by exact s_sub (pc := 12) [] rfl (w_X0_billOf_12 (some e2.2) h1)))) (fun _ => zT_ite (fun hx => (zT_out (fun q hq => by rw [hx] at hq; cases hq; exact (zpn (by decide) q2375 (by decide +kernel) zp0)))) (fun _ => zT_ite (fun hx => (zT_out (fun q hq => by rw [hx] at hq; cases hq; exact (zpn (by decide) q2375 (by decide +kernel) zp0)))) (fun _ => zT_ite (fun hx => (zT_out (fun q hq => by rw [hx] at hq; cases hq; exact (zpn (by decide) q2375 (by decide +kernel) zp0)))) (fun _ => zT_ite (fun hx => (zT_out (fun q hq => by rw [hx] at hq; cases hq; exact (zpn (by decide) q2375 (by decide +kernel) zp0)))) (fun _ => zT_ite (fun hx => (zT_out (fun q hq => by rw [hx] at hq; cases hq; exact (zpn (by decide) q2375 (by decide +kernel) zp0)))) (fun _ => zT_none)))))))))
  refine s_i2l (pc := 7) dX0_billOf_7 ?_
  refine s_last (pc := 8) dX0_billOf_8 (ztc rfl zt0) (fun h5 => ?_)
  refine s_goto (pc := 9) (tgt := 15) dX0_billOf_9 (by decide) ?_
  refine s_iconst (pc := 15) (v := 0) dX0_billOf_15 (by decide) ?_
  exact s_iret (pc := 16) dX0_billOf_16 rfl
theorem c_X0_billOf {d0 : Nat} (hd0 : 11 < d0) (v0 : Option Nat) (v1 : Int32) (v2 : Option Nat) (h : zH) : zCal D z d0 h yX0_billOf [va_rf v0, .int v1, va_rf v2] (f_X0_billOf v0 v1 v2 h) :=
  ⟨cX0_billOf, 4, (some .int), [(0, 9, 12, 21)], 11, (show lv_args 0 [va_rf v0, .int v1, va_rf v2] = [(0, va_rf v0), (1, .int v1), (2, va_rf v2)] by simp [lv_args, zcat_rf, zcat_i, zcat_l, zcat_f, zcat_d]) ▸ w_X0_billOf v0 v1 v2 h, (plainFor_of_name (by decide)), by simp [lg_sl, zcat_rf, zcat_i, zcat_l, zcat_f, zcat_d], q2820, q94, hd0, by decide, by decide⟩
theorem w_X1_pay (v0 : Option Nat) (v1 : Int32) (v2 : Int32) (h : zH) : zS D z yX1_pay cX1_pay 3 (some .int) [] 50 h 0 [(0, va_rf v0), (1, .int v1), (2, .int v2)] [] (f_X1_pay v0 v1 v2 h) := by
  unfold f_X1_pay
  refine s_aload_n (pc := 0) 0 dX1_pay_0 rfl rfl ?_
  refine s_iload_n (pc := 1) 1 dX1_pay_1 rfl rfl ?_
  refine s_iload_n (pc := 2) 2 dX1_pay_2 rfl rfl ?_
  refine s_lamM (pc := 3) (t := 317) (q := zSh siteWord_1_18) (vals := [.int v1, .int v2]) (rest := [va_rf v0]) dX1_pay_3 rfl rfl rfl rfl rfl rfl zk_17 ⟨zok_i _, ⟨zok_i _, trivial⟩⟩ rfl (by simp [zcat_rf, zcat_i, zcat_l, zcat_f, zcat_d]) (by decide) (fun r1 h2 => ?_)
  refine zS_ite (fun ht => ?_) (fun _ => zS_none)
  refine s_callV (pc := 8) (np := 1) (as := [va_rf r1]) (rest := []) dX1_pay_8 ht (q := (RX1, TX1, 11)) rfl (c_X1_change (by decide) v0 r1 h2) rfl rfl q2307 q2309 qs17 rfl (by decide) (zkI (fun x3 h4 => ?_)) zxo
  exact s_iret (pc := 11) dX1_pay_11 rfl
theorem c_X1_pay {d0 : Nat} (hd0 : 50 < d0) (v0 : Option Nat) (v1 : Int32) (v2 : Int32) (h : zH) : zCal D z d0 h yX1_pay [va_rf v0, .int v1, .int v2] (f_X1_pay v0 v1 v2 h) :=
  ⟨cX1_pay, 3, (some .int), [], 50, (show lv_args 0 [va_rf v0, .int v1, .int v2] = [(0, va_rf v0), (1, .int v1), (2, .int v2)] by simp [lv_args, zcat_rf, zcat_i, zcat_l, zcat_f, zcat_d]) ▸ w_X1_pay v0 v1 v2 h, (plainFor_of_name (by decide)), by simp [lg_sl, zcat_rf, zcat_i, zcat_l, zcat_f, zcat_d], q2831, q95, hd0, by decide, by decide⟩
theorem w_X0_pay_13 (s0 : Option Nat) (h : zH) : zS D z yX0_pay cX0_pay 5 (some .int) [(0, 10, 13, 21), (0, 10, 17, 13), (0, 10, 21, 15)] 51 h 13 [] [va_rf s0] (f_X0_pay_13 s0 h) := by
  unfold f_X0_pay_13
  refine s_ast (pc := 13) (L2 := []) [] dX0_pay_13 (by decide) rfl rfl (zcA rfl) ?_
  refine s_iconst (pc := 15) (v := 1) dX0_pay_15 (by decide) ?_
  exact s_iret (pc := 16) dX0_pay_16 rfl
theorem w_X0_pay_17 (s0 : Option Nat) (h : zH) : zS D z yX0_pay cX0_pay 5 (some .int) [(0, 10, 13, 21), (0, 10, 17, 13), (0, 10, 21, 15)] 51 h 17 [] [va_rf s0] (f_X0_pay_17 s0 h) := by
  unfold f_X0_pay_17
  refine s_ast (pc := 17) (L2 := []) [] dX0_pay_17 (by decide) rfl rfl (zcA rfl) ?_
  refine s_iconst (pc := 19) (v := 2) dX0_pay_19 (by decide) ?_
  exact s_iret (pc := 20) dX0_pay_20 rfl
theorem w_X0_pay_21 (s0 : Option Nat) (h : zH) : zS D z yX0_pay cX0_pay 5 (some .int) [(0, 10, 13, 21), (0, 10, 17, 13), (0, 10, 21, 15)] 51 h 21 [] [va_rf s0] (f_X0_pay_21 s0 h) := by
  unfold f_X0_pay_21
  refine s_ast (pc := 21) (L2 := []) [] dX0_pay_21 (by decide) rfl rfl (zcA rfl) ?_
  refine s_iconst (pc := 23) (v := 3) dX0_pay_23 (by decide) ?_
  exact s_iret (pc := 24) dX0_pay_24 rfl
theorem w_X0_pay (v0 : Option Nat) (v1 : Int32) (v2 : Int32) (v3 : Option Nat) (h : zH) : zS D z yX0_pay cX0_pay 5 (some .int) [(0, 10, 13, 21), (0, 10, 17, 13), (0, 10, 21, 15)] 51 h 0 [(0, va_rf v0), (1, .int v1), (2, .int v2), (3, va_rf v3)] [] (f_X0_pay v0 v1 v2 v3 h) := by
  unfold f_X0_pay
  refine s_aload_n (pc := 0) 3 dX0_pay_0 rfl rfl ?_
  refine s_iconst (pc := 1) (v := 0) dX0_pay_1 (by decide) ?_
  refine s_aload_n (pc := 2) 0 dX0_pay_2 rfl rfl ?_
  refine s_iload_n (pc := 3) 1 dX0_pay_3 rfl rfl ?_
  refine s_iload_n (pc := 4) 2 dX0_pay_4 rfl rfl ?_
  refine zS_ite (fun ht => ?_) (fun _ => zS_none)
  refine s_callV (pc := 5) (np := 2) (as := [.int v1, .int v2]) (rest := [.int 0, va_rf v3]) dX0_pay_5 ht (q := (RX1, TX1, 11)) rfl (c_X1_pay (by decide) v0 v1 v2 h) rfl rfl q2828 q2829 q2830 rfl (by simp [zcat_rf, zcat_i, zcat_l, zcat_f, zcat_d]) (zkI (fun x3 h4 => ?_)) (fun e2 h1 => zT_ite (fun hx => (zT_catch (q := (RJ34, TJ34, 0)) [(0, 10, 13, 21)] (0, 10, 17, 13) [(0, 10, 21, 15)] rfl (by rw [hx]; rfl) (zpn (by decide) q2375 (by decide +kernel) zp0) rfl (by decide) q2266 (Or.inl rfl) rfl (by exact s_sub (pc := 17) [] rfl (w_X0_pay_17 (some e2.2) h1)))) (fun _ => zT_ite (fun hx => (zT_catch (q := (RJ39, TJ39, 0)) [(0, 10, 13, 21), (0, 10, 17, 13)] (0, 10, 21, 15) [] rfl (by rw [hx]; rfl) (zpn (by decide) q2375 (by decide +kernel) (zpn (by decide) q2266 (by decide +kernel) zp0)) rfl (by decide) q2267 (Or.inl rfl) rfl (by exact s_sub (pc := 21) [] rfl (w_X0_pay_21 (some e2.2) h1)))) (fun _ => zT_ite (fun hx => (zT_catch (q := (RJ28, TJ28, 0)) [] (0, 10, 13, 21) [(0, 10, 17, 13), (0, 10, 21, 15)] rfl (by rw [hx]; rfl) zp0 rfl (by decide) q2375 (Or.inl rfl) rfl (by exact s_sub (pc := 13) [] rfl (w_X0_pay_13 (some e2.2) h1)))) (fun _ => zT_ite (fun hx => (zT_out (fun q hq => by rw [hx] at hq; cases hq; exact (zpn (by decide) q2375 (by decide +kernel) (zpn (by decide) q2266 (by decide +kernel) (zpn (by decide) q2267 (by decide +kernel) zp0)))))) (fun _ => zT_ite (fun hx => (zT_out (fun q hq => by rw [hx] at hq; cases hq; exact (zpn (by decide) q2375 (by decide +kernel) (zpn (by decide) q2266 (by decide +kernel) (zpn (by decide) q2267 (by decide +kernel) zp0)))))) (fun _ => zT_ite (fun hx => (zT_out (fun q hq => by rw [hx] at hq; cases hq; exact (zpn (by decide) q2375 (by decide +kernel) (zpn (by decide) q2266 (by decide +kernel) (zpn (by decide) q2267 (by decide +kernel) zp0)))))) (fun _ => zT_ite (fun hx => (zT_out (fun q hq => by rw [hx] at hq; cases hq; exact (zpn (by decide) q2375 (by decide +kernel) (zpn (by decide) q2266 (by decide +kernel) (zpn (by decide) q2267 (by decide +kernel) zp0)))))) (fun _ => zT_ite (fun hx => (zT_out (fun q hq => by rw [hx] at hq; cases hq; exact (zpn (by decide) q2375 (by decide +kernel) (zpn (by decide) q2266 (by decide +kernel) (zpn (by decide) q2267 (by decide +kernel) zp0)))))) (fun _ => zT_none)))))))))
  refine s_i2l (pc := 8) dX0_pay_8 ?_
  refine s_last (pc := 9) dX0_pay_9 (ztc rfl zt0) (fun h5 => ?_)
  refine s_goto (pc := 10) (tgt := 25) dX0_pay_10 (by decide) ?_
  refine s_iconst (pc := 25) (v := 0) dX0_pay_25 (by decide) ?_
  exact s_iret (pc := 26) dX0_pay_26 rfl
theorem c_X0_pay {d0 : Nat} (hd0 : 51 < d0) (v0 : Option Nat) (v1 : Int32) (v2 : Int32) (v3 : Option Nat) (h : zH) : zCal D z d0 h yX0_pay [va_rf v0, .int v1, .int v2, va_rf v3] (f_X0_pay v0 v1 v2 v3 h) :=
  ⟨cX0_pay, 5, (some .int), [(0, 10, 13, 21), (0, 10, 17, 13), (0, 10, 21, 15)], 51, (show lv_args 0 [va_rf v0, .int v1, .int v2, va_rf v3] = [(0, va_rf v0), (1, .int v1), (2, .int v2), (3, va_rf v3)] by simp [lv_args, zcat_rf, zcat_i, zcat_l, zcat_f, zcat_d]) ▸ w_X0_pay v0 v1 v2 v3 h, (plainFor_of_name (by decide)), by simp [lg_sl, zcat_rf, zcat_i, zcat_l, zcat_f, zcat_d], q2827, q94, hd0, by decide, by decide⟩
theorem w_X6_isAhead (v0 : Option Nat) (v1 : Option Nat) (h : zH) : zS D z yX6_isAhead cX6_isAhead 2 (some .boolean) [] 1 h 0 [(0, va_rf v0), (1, va_rf v1)] [] (f_X6_isAhead v0 v1 h) := by
  unfold f_X6_isAhead
  refine s_aload_n (pc := 0) 0 dX6_isAhead_0 rfl rfl ?_
  refine s_gI (pc := 1) dX6_isAhead_1 gf_X6_30 (fun x1 => ?_)
  refine s_aload_n (pc := 4) 1 dX6_isAhead_4 rfl rfl ?_
  refine s_gI (pc := 5) dX6_isAhead_5 gf_X6_30 (fun x2 => ?_)
  refine s_icmp_eq (pc := 8) (tgt := 28) dX6_isAhead_8 (by decide) (fun _ => ?_) (fun _ => ?_)
  · refine s_aload_n (pc := 28) 0 dX6_isAhead_28 rfl rfl ?_
    refine s_gI (pc := 29) dX6_isAhead_29 gf_X6_21 (fun x3 => ?_)
    refine s_aload_n (pc := 32) 1 dX6_isAhead_32 rfl rfl ?_
    refine s_gI (pc := 33) dX6_isAhead_33 gf_X6_21 (fun x4 => ?_)
    refine s_icmp_eq (pc := 36) (tgt := 58) dX6_isAhead_36 (by decide) (fun _ => ?_) (fun _ => ?_)
    · refine s_aload_n (pc := 58) 0 dX6_isAhead_58 rfl rfl ?_
      refine s_gI (pc := 59) dX6_isAhead_59 gf_X6_9 (fun x5 => ?_)
      refine s_aload_n (pc := 62) 1 dX6_isAhead_62 rfl rfl ?_
      refine s_gI (pc := 63) dX6_isAhead_63 gf_X6_9 (fun x6 => ?_)
      refine s_icmp_ge (pc := 66) (tgt := 73) dX6_isAhead_66 (by decide) (fun _ => ?_) (fun _ => ?_)
      · refine s_iconst (pc := 73) (v := 0) dX6_isAhead_73 (by decide) ?_
        exact s_nret (pc := 74) dX6_isAhead_74 rfl
      · refine s_iconst (pc := 69) (v := 1) dX6_isAhead_69 (by decide) ?_
        refine s_goto (pc := 70) (tgt := 74) dX6_isAhead_70 (by decide) ?_
        exact s_nret (pc := 74) dX6_isAhead_74 rfl
    · refine s_aload_n (pc := 39) 0 dX6_isAhead_39 rfl rfl ?_
      refine s_gI (pc := 40) dX6_isAhead_40 gf_X6_21 (fun x7 => ?_)
      refine s_aload_n (pc := 43) 1 dX6_isAhead_43 rfl rfl ?_
      refine s_gI (pc := 44) dX6_isAhead_44 gf_X6_21 (fun x8 => ?_)
      refine s_icmp_le (pc := 47) (tgt := 54) dX6_isAhead_47 (by decide) (fun _ => ?_) (fun _ => ?_)
      · refine s_iconst (pc := 54) (v := 0) dX6_isAhead_54 (by decide) ?_
        refine s_goto (pc := 55) (tgt := 74) dX6_isAhead_55 (by decide) ?_
        exact s_nret (pc := 74) dX6_isAhead_74 rfl
      · refine s_iconst (pc := 50) (v := 1) dX6_isAhead_50 (by decide) ?_
        refine s_goto (pc := 51) (tgt := 74) dX6_isAhead_51 (by decide) ?_
        exact s_nret (pc := 74) dX6_isAhead_74 rfl
  · refine s_aload_n (pc := 11) 0 dX6_isAhead_11 rfl rfl ?_
    refine s_gI (pc := 12) dX6_isAhead_12 gf_X6_30 (fun x9 => ?_)
    refine s_aload_n (pc := 15) 1 dX6_isAhead_15 rfl rfl ?_
    refine s_gI (pc := 16) dX6_isAhead_16 gf_X6_30 (fun x10 => ?_)
    refine s_icmp_le (pc := 19) (tgt := 26) dX6_isAhead_19 (by decide) (fun _ => ?_) (fun _ => ?_)
    · refine s_iconst (pc := 26) (v := 0) dX6_isAhead_26 (by decide) ?_
      exact s_nret (pc := 27) dX6_isAhead_27 rfl
    · refine s_iconst (pc := 22) (v := 1) dX6_isAhead_22 (by decide) ?_
      refine s_goto (pc := 23) (tgt := 27) dX6_isAhead_23 (by decide) ?_
      exact s_nret (pc := 27) dX6_isAhead_27 rfl
theorem c_X6_isAhead {d0 : Nat} (hd0 : 1 < d0) (v0 : Option Nat) (v1 : Option Nat) (h : zH) : zCal D z d0 h yX6_isAhead [va_rf v0, va_rf v1] (f_X6_isAhead v0 v1 h) :=
  ⟨cX6_isAhead, 2, (some .boolean), [], 1, (show lv_args 0 [va_rf v0, va_rf v1] = [(0, va_rf v0), (1, va_rf v1)] by simp [lv_args, zcat_rf, zcat_i, zcat_l, zcat_f, zcat_d]) ▸ w_X6_isAhead v0 v1 h, (plainFor_of_name (by decide)), by simp [lg_sl, zcat_rf, zcat_i, zcat_l, zcat_f, zcat_d], q2852, q142, hd0, by decide, by decide⟩
theorem w_X2_shipAtRank_87 (K13 : Option Nat → Int32 → Option Nat → zH → zO) (hK13 : ∀ (a0 : Option Nat) (a1 : Int32) (a2 : Option Nat) (h : zH), zS D z yX2_shipAtRank cX2_shipAtRank 7 (some .int) [] 10 h 13 [(0, va_rf a0), (1, .int a1), (2, va_rf a2)] [] (K13 a0 a1 a2 h)) (K49 : Option Nat → Int32 → Option Nat → Option Nat → Int32 → Option Nat → zH → zO) (hK49 : ∀ (a0 : Option Nat) (a1 : Int32) (a2 : Option Nat) (a3 : Option Nat) (a4 : Int32) (a5 : Option Nat) (h : zH), zS D z yX2_shipAtRank cX2_shipAtRank 7 (some .int) [] 10 h 49 [(0, va_rf a0), (1, .int a1), (2, va_rf a2), (3, va_rf a3), (4, .int a4), (5, va_rf a5)] [] (K49 a0 a1 a2 a3 a4 a5 h)) (a0 : Option Nat) (a1 : Int32) (a2 : Option Nat) (a3 : Option Nat) (a5 : Option Nat) (s0 : Int32) (s1 : Int32) (h : zH) : zS D z yX2_shipAtRank cX2_shipAtRank 7 (some .int) [] 10 h 87 [(0, va_rf a0), (1, .int a1), (2, va_rf a2), (3, va_rf a3), (5, va_rf a5)] [.int s0, .int s1] (f_X2_shipAtRank_87 K13 K49 a0 a1 a2 a3 a5 s0 s1 h) := by
  unfold f_X2_shipAtRank_87
  refine s_iadd (pc := 87) dX2_shipAtRank_87 ?_
  refine s_nm (pc := 88) Value.int (fun x205 => ?_)
  refine s_ist (pc := 88) (L2 := [(0, va_rf a0), (1, .int a1), (2, va_rf a2), (3, va_rf a3), (5, va_rf a5)]) [0, 1, 2, 3, 4] dX2_shipAtRank_88 (by decide) rfl rfl (zcB (j := 3) rfl (zcat_rf a3) rfl) ?_
  refine s_goto (pc := 90) (tgt := 49) dX2_shipAtRank_90 (by decide) ?_
  exact s_sub (pc := 49) [1, 2, 3, 4, 0, 5] rfl (hK49 a0 a1 a2 a3 x205 a5 h)
theorem w_X2_shipAtRank_93 (K13 : Option Nat → Int32 → Option Nat → zH → zO) (hK13 : ∀ (a0 : Option Nat) (a1 : Int32) (a2 : Option Nat) (h : zH), zS D z yX2_shipAtRank cX2_shipAtRank 7 (some .int) [] 10 h 13 [(0, va_rf a0), (1, .int a1), (2, va_rf a2)] [] (K13 a0 a1 a2 h)) (a0 : Option Nat) (a1 : Int32) (a2 : Option Nat) (a3 : Option Nat) (a4 : Int32) (h : zH) : zS D z yX2_shipAtRank cX2_shipAtRank 7 (some .int) [] 10 h 93 [(0, va_rf a0), (1, .int a1), (2, va_rf a2), (3, va_rf a3), (4, .int a4)] [] (f_X2_shipAtRank_93 K13 a0 a1 a2 a3 a4 h) := by
  unfold f_X2_shipAtRank_93
  refine s_iload (pc := 93) 4 dX2_shipAtRank_93 rfl ?_
  refine s_iload_n (pc := 95) 1 dX2_shipAtRank_95 rfl rfl ?_
  refine s_icmp_ne (pc := 96) (tgt := 104) dX2_shipAtRank_96 (by decide) (fun _ => ?_) (fun _ => ?_)
  · refine s_goto (pc := 104) (tgt := 13) dX2_shipAtRank_104 (by decide) ?_
    exact s_sub (pc := 13) [0, 1, 2] rfl (hK13 a0 a1 a2 h)
  · refine s_aload_n (pc := 99) 3 dX2_shipAtRank_99 rfl rfl ?_
    refine s_gI (pc := 100) dX2_shipAtRank_100 gf_X2_58 (fun x206 => ?_)
    exact s_iret (pc := 103) dX2_shipAtRank_103 rfl
theorem w_X2_shipAtRank_49 (K13 : Option Nat → Int32 → Option Nat → zH → zO) (hK13 : ∀ (a0 : Option Nat) (a1 : Int32) (a2 : Option Nat) (h : zH), zS D z yX2_shipAtRank cX2_shipAtRank 7 (some .int) [] 10 h 13 [(0, va_rf a0), (1, .int a1), (2, va_rf a2)] [] (K13 a0 a1 a2 h)) : ∀ (n : Nat) (a0 : Option Nat) (a1 : Int32) (a2 : Option Nat) (a3 : Option Nat) (a4 : Int32) (a5 : Option Nat) (h : zH), zS D z yX2_shipAtRank cX2_shipAtRank 7 (some .int) [] 10 h 49 [(0, va_rf a0), (1, .int a1), (2, va_rf a2), (3, va_rf a3), (4, .int a4), (5, va_rf a5)] [] (f_X2_shipAtRank_49 K13 n a0 a1 a2 a3 a4 a5 h) := by
  intro n
  induction n with
  | zero => intros; exact zS_none
  | succ n ih =>
    intro a0 a1 a2 a3 a4 a5 h
    rw [f_X2_shipAtRank_49.eq_2]
    refine s_aload (pc := 49) 5 dX2_shipAtRank_49 rfl ?_
    refine zS_ite (fun ht => ?_) (fun _ => ?_)
    · refine s_callF (pc := 51) (np := 0) (as := []) (rest := []) dX2_shipAtRank_51 ht (q := (RX9, TX9, 2)) rfl (c_X9_hasNext (by decide) a5 h) ⟨_, _, _, q637⟩ rfl rfl q629 (by decide +kernel) q635 q633 rfl (by decide) (zkI (fun x143 h144 => ?_)) zxo
      refine s_if_eq (pc := 56) (tgt := 93) dX2_shipAtRank_56 (by decide) (fun _ => ?_) (fun _ => ?_)
      · exact s_sub (pc := 93) [0, 1, 2, 3, 4] rfl (w_X2_shipAtRank_93 K13 hK13 a0 a1 a2 a3 a4 h144)
      · refine s_aload (pc := 59) 5 dX2_shipAtRank_59 rfl ?_
        refine zS_ite (fun ht => ?_) (fun _ => ?_)
        · refine s_callF (pc := 61) (np := 0) (as := []) (rest := []) dX2_shipAtRank_61 ht (q := (RX9, TX9, 2)) rfl (c_X9_next (by decide) a5 h144) ⟨_, _, _, q677⟩ rfl rfl q670 (by decide +kernel) q675 q673 rfl (by decide) (zkR (fun r145 h146 => ?_)) zxo
          refine s_cast (pc := 66) dX2_shipAtRank_66 q836 zcs_FloatingDock_Ship ?_
          refine s_ast (pc := 69) (L2 := [(0, va_rf a0), (1, .int a1), (2, va_rf a2), (3, va_rf a3), (4, .int a4), (5, va_rf a5)]) [0, 1, 2, 3, 4, 5] dX2_shipAtRank_69 (by decide) rfl rfl (zcB (j := 5) rfl (zcat_rf a5) rfl) ?_
          refine s_iload (pc := 71) 5 dX2_shipAtRank_71 rfl ?_
          refine s_aload (pc := 73) 0 dX2_shipAtRank_73 rfl ?_
          refine s_aload_n (pc := 75) 4 dX2_shipAtRank_75 rfl rfl ?_
          refine zS_ite (fun ht => ?_) (fun _ => zS_none)
          refine s_callV (pc := 76) (np := 1) (as := [va_rf a3]) (rest := [.int a4]) dX2_shipAtRank_76 ht (q := (RX6, TX6, 9)) rfl (c_X6_isAhead (by decide) r145 a3 h146) rfl rfl q2849 q2850 q2851 rfl (by simp [zcat_rf, zcat_i, zcat_l, zcat_f, zcat_d]) (zkI (fun x147 h148 => ?_)) zxo
          refine s_if_eq (pc := 79) (tgt := 86) dX2_shipAtRank_79 (by decide) (fun _ => ?_) (fun _ => ?_)
          · refine s_iconst (pc := 86) (v := 0) dX2_shipAtRank_86 (by decide) ?_
            exact s_sub (pc := 87) [1, 2, 3, 4, 6] rfl (w_X2_shipAtRank_87 K13 hK13 (f_X2_shipAtRank_49 K13 n) ih a0 a1 a2 a3 a5 0 a4 h148)
          · refine s_iconst (pc := 82) (v := 1) dX2_shipAtRank_82 (by decide) ?_
            refine s_goto (pc := 83) (tgt := 87) dX2_shipAtRank_83 (by decide) ?_
            exact s_sub (pc := 87) [1, 2, 3, 4, 6] rfl (w_X2_shipAtRank_87 K13 hK13 (f_X2_shipAtRank_49 K13 n) ih a0 a1 a2 a3 a5 1 a4 h148)
        refine zS_ite (fun ht => ?_) (fun _ => ?_)
        · refine s_callF (pc := 61) (np := 0) (as := []) (rest := []) dX2_shipAtRank_61 ht (q := (RJ15, TJ15, 4)) rfl (c_J15_next (by decide) a5 h144) ⟨_, _, _, q788⟩ rfl rfl q670 (by decide +kernel) q786 q784 rfl (by decide) (zkR (fun r145 h146 => ?_)) zxo
          refine s_cast (pc := 66) dX2_shipAtRank_66 q836 zcs_FloatingDock_Ship ?_
          refine s_ast (pc := 69) (L2 := [(0, va_rf a0), (1, .int a1), (2, va_rf a2), (3, va_rf a3), (4, .int a4), (5, va_rf a5)]) [0, 1, 2, 3, 4, 5] dX2_shipAtRank_69 (by decide) rfl rfl (zcB (j := 5) rfl (zcat_rf a5) rfl) ?_
          refine s_iload (pc := 71) 5 dX2_shipAtRank_71 rfl ?_
          refine s_aload (pc := 73) 0 dX2_shipAtRank_73 rfl ?_
          refine s_aload_n (pc := 75) 4 dX2_shipAtRank_75 rfl rfl ?_
          refine zS_ite (fun ht => ?_) (fun _ => zS_none)
          refine s_callV (pc := 76) (np := 1) (as := [va_rf a3]) (rest := [.int a4]) dX2_shipAtRank_76 ht (q := (RX6, TX6, 9)) rfl (c_X6_isAhead (by decide) r145 a3 h146) rfl rfl q2849 q2850 q2851 rfl (by simp [zcat_rf, zcat_i, zcat_l, zcat_f, zcat_d]) (zkI (fun x149 h150 => ?_)) zxo
          refine s_if_eq (pc := 79) (tgt := 86) dX2_shipAtRank_79 (by decide) (fun _ => ?_) (fun _ => ?_)
          · refine s_iconst (pc := 86) (v := 0) dX2_shipAtRank_86 (by decide) ?_
            exact s_sub (pc := 87) [1, 2, 3, 4, 6] rfl (w_X2_shipAtRank_87 K13 hK13 (f_X2_shipAtRank_49 K13 n) ih a0 a1 a2 a3 a5 0 a4 h150)
          · refine s_iconst (pc := 82) (v := 1) dX2_shipAtRank_82 (by decide) ?_
            refine s_goto (pc := 83) (tgt := 87) dX2_shipAtRank_83 (by decide) ?_
            exact s_sub (pc := 87) [1, 2, 3, 4, 6] rfl (w_X2_shipAtRank_87 K13 hK13 (f_X2_shipAtRank_49 K13 n) ih a0 a1 a2 a3 a5 1 a4 h150)
        refine zS_ite (fun ht => ?_) (fun _ => ?_)
        · refine s_callF (pc := 61) (np := 0) (as := []) (rest := []) dX2_shipAtRank_61 ht (q := (RJ17, TJ17, 5)) rfl (c_J17_next (by decide) a5 h144) ⟨_, _, _, q799⟩ rfl rfl q670 (by decide +kernel) q797 q795 rfl (by decide) (zkR (fun r145 h146 => ?_)) zxo
          refine s_cast (pc := 66) dX2_shipAtRank_66 q836 zcs_FloatingDock_Ship ?_
          refine s_ast (pc := 69) (L2 := [(0, va_rf a0), (1, .int a1), (2, va_rf a2), (3, va_rf a3), (4, .int a4), (5, va_rf a5)]) [0, 1, 2, 3, 4, 5] dX2_shipAtRank_69 (by decide) rfl rfl (zcB (j := 5) rfl (zcat_rf a5) rfl) ?_
          refine s_iload (pc := 71) 5 dX2_shipAtRank_71 rfl ?_
          refine s_aload (pc := 73) 0 dX2_shipAtRank_73 rfl ?_
          refine s_aload_n (pc := 75) 4 dX2_shipAtRank_75 rfl rfl ?_
          refine zS_ite (fun ht => ?_) (fun _ => zS_none)
          refine s_callV (pc := 76) (np := 1) (as := [va_rf a3]) (rest := [.int a4]) dX2_shipAtRank_76 ht (q := (RX6, TX6, 9)) rfl (c_X6_isAhead (by decide) r145 a3 h146) rfl rfl q2849 q2850 q2851 rfl (by simp [zcat_rf, zcat_i, zcat_l, zcat_f, zcat_d]) (zkI (fun x151 h152 => ?_)) zxo
          refine s_if_eq (pc := 79) (tgt := 86) dX2_shipAtRank_79 (by decide) (fun _ => ?_) (fun _ => ?_)
          · refine s_iconst (pc := 86) (v := 0) dX2_shipAtRank_86 (by decide) ?_
            exact s_sub (pc := 87) [1, 2, 3, 4, 6] rfl (w_X2_shipAtRank_87 K13 hK13 (f_X2_shipAtRank_49 K13 n) ih a0 a1 a2 a3 a5 0 a4 h152)
          · refine s_iconst (pc := 82) (v := 1) dX2_shipAtRank_82 (by decide) ?_
            refine s_goto (pc := 83) (tgt := 87) dX2_shipAtRank_83 (by decide) ?_
            exact s_sub (pc := 87) [1, 2, 3, 4, 6] rfl (w_X2_shipAtRank_87 K13 hK13 (f_X2_shipAtRank_49 K13 n) ih a0 a1 a2 a3 a5 1 a4 h152)
        refine zS_ite (fun ht => ?_) (fun _ => ?_)
        · refine s_callF (pc := 61) (np := 0) (as := []) (rest := []) dX2_shipAtRank_61 ht (q := (RJ21, TJ21, 5)) rfl (c_J21_next (by decide) a5 h144) ⟨_, _, _, q812⟩ rfl rfl q670 (by decide +kernel) q810 q808 rfl (by decide) (zkR (fun r145 h146 => ?_)) zxo
          refine s_cast (pc := 66) dX2_shipAtRank_66 q836 zcs_FloatingDock_Ship ?_
          refine s_ast (pc := 69) (L2 := [(0, va_rf a0), (1, .int a1), (2, va_rf a2), (3, va_rf a3), (4, .int a4), (5, va_rf a5)]) [0, 1, 2, 3, 4, 5] dX2_shipAtRank_69 (by decide) rfl rfl (zcB (j := 5) rfl (zcat_rf a5) rfl) ?_
          refine s_iload (pc := 71) 5 dX2_shipAtRank_71 rfl ?_
          refine s_aload (pc := 73) 0 dX2_shipAtRank_73 rfl ?_
          refine s_aload_n (pc := 75) 4 dX2_shipAtRank_75 rfl rfl ?_
          refine zS_ite (fun ht => ?_) (fun _ => zS_none)
          refine s_callV (pc := 76) (np := 1) (as := [va_rf a3]) (rest := [.int a4]) dX2_shipAtRank_76 ht (q := (RX6, TX6, 9)) rfl (c_X6_isAhead (by decide) r145 a3 h146) rfl rfl q2849 q2850 q2851 rfl (by simp [zcat_rf, zcat_i, zcat_l, zcat_f, zcat_d]) (zkI (fun x153 h154 => ?_)) zxo
          refine s_if_eq (pc := 79) (tgt := 86) dX2_shipAtRank_79 (by decide) (fun _ => ?_) (fun _ => ?_)
          · refine s_iconst (pc := 86) (v := 0) dX2_shipAtRank_86 (by decide) ?_
            exact s_sub (pc := 87) [1, 2, 3, 4, 6] rfl (w_X2_shipAtRank_87 K13 hK13 (f_X2_shipAtRank_49 K13 n) ih a0 a1 a2 a3 a5 0 a4 h154)
          · refine s_iconst (pc := 82) (v := 1) dX2_shipAtRank_82 (by decide) ?_
            refine s_goto (pc := 83) (tgt := 87) dX2_shipAtRank_83 (by decide) ?_
            exact s_sub (pc := 87) [1, 2, 3, 4, 6] rfl (w_X2_shipAtRank_87 K13 hK13 (f_X2_shipAtRank_49 K13 n) ih a0 a1 a2 a3 a5 1 a4 h154)
        refine zS_ite (fun ht => ?_) (fun _ => zS_none)
        refine s_callF (pc := 61) (np := 0) (as := []) (rest := []) dX2_shipAtRank_61 ht (q := (RJ22, TJ22, 5)) rfl (c_J22_next (by decide) a5 h144) ⟨_, _, _, q832⟩ rfl rfl q670 (by decide +kernel) q830 q828 rfl (by decide) (zkR (fun r145 h146 => ?_)) zxo
        refine s_cast (pc := 66) dX2_shipAtRank_66 q836 zcs_FloatingDock_Ship ?_
        refine s_ast (pc := 69) (L2 := [(0, va_rf a0), (1, .int a1), (2, va_rf a2), (3, va_rf a3), (4, .int a4), (5, va_rf a5)]) [0, 1, 2, 3, 4, 5] dX2_shipAtRank_69 (by decide) rfl rfl (zcB (j := 5) rfl (zcat_rf a5) rfl) ?_
        refine s_iload (pc := 71) 5 dX2_shipAtRank_71 rfl ?_
        refine s_aload (pc := 73) 0 dX2_shipAtRank_73 rfl ?_
        refine s_aload_n (pc := 75) 4 dX2_shipAtRank_75 rfl rfl ?_
        refine zS_ite (fun ht => ?_) (fun _ => zS_none)
        refine s_callV (pc := 76) (np := 1) (as := [va_rf a3]) (rest := [.int a4]) dX2_shipAtRank_76 ht (q := (RX6, TX6, 9)) rfl (c_X6_isAhead (by decide) r145 a3 h146) rfl rfl q2849 q2850 q2851 rfl (by simp [zcat_rf, zcat_i, zcat_l, zcat_f, zcat_d]) (zkI (fun x155 h156 => ?_)) zxo
        refine s_if_eq (pc := 79) (tgt := 86) dX2_shipAtRank_79 (by decide) (fun _ => ?_) (fun _ => ?_)
        · refine s_iconst (pc := 86) (v := 0) dX2_shipAtRank_86 (by decide) ?_
          exact s_sub (pc := 87) [1, 2, 3, 4, 6] rfl (w_X2_shipAtRank_87 K13 hK13 (f_X2_shipAtRank_49 K13 n) ih a0 a1 a2 a3 a5 0 a4 h156)
        · refine s_iconst (pc := 82) (v := 1) dX2_shipAtRank_82 (by decide) ?_
          refine s_goto (pc := 83) (tgt := 87) dX2_shipAtRank_83 (by decide) ?_
          exact s_sub (pc := 87) [1, 2, 3, 4, 6] rfl (w_X2_shipAtRank_87 K13 hK13 (f_X2_shipAtRank_49 K13 n) ih a0 a1 a2 a3 a5 1 a4 h156)
    refine zS_ite (fun ht => ?_) (fun _ => ?_)
    · refine s_callF (pc := 51) (np := 0) (as := []) (rest := []) dX2_shipAtRank_51 ht (q := (RJ15, TJ15, 4)) rfl (c_J15_hasNext (by decide) a5 h) ⟨_, _, _, q653⟩ rfl rfl q629 (by decide +kernel) q651 q649 rfl (by decide) (zkI (fun x143 h144 => ?_)) zxo
      refine s_if_eq (pc := 56) (tgt := 93) dX2_shipAtRank_56 (by decide) (fun _ => ?_) (fun _ => ?_)
      · exact s_sub (pc := 93) [0, 1, 2, 3, 4] rfl (w_X2_shipAtRank_93 K13 hK13 a0 a1 a2 a3 a4 h144)
      · refine s_aload (pc := 59) 5 dX2_shipAtRank_59 rfl ?_
        refine zS_ite (fun ht => ?_) (fun _ => ?_)
        · refine s_callF (pc := 61) (np := 0) (as := []) (rest := []) dX2_shipAtRank_61 ht (q := (RX9, TX9, 2)) rfl (c_X9_next (by decide) a5 h144) ⟨_, _, _, q677⟩ rfl rfl q670 (by decide +kernel) q675 q673 rfl (by decide) (zkR (fun r157 h158 => ?_)) zxo
          refine s_cast (pc := 66) dX2_shipAtRank_66 q836 zcs_FloatingDock_Ship ?_
          refine s_ast (pc := 69) (L2 := [(0, va_rf a0), (1, .int a1), (2, va_rf a2), (3, va_rf a3), (4, .int a4), (5, va_rf a5)]) [0, 1, 2, 3, 4, 5] dX2_shipAtRank_69 (by decide) rfl rfl (zcB (j := 5) rfl (zcat_rf a5) rfl) ?_
          refine s_iload (pc := 71) 5 dX2_shipAtRank_71 rfl ?_
          refine s_aload (pc := 73) 0 dX2_shipAtRank_73 rfl ?_
          refine s_aload_n (pc := 75) 4 dX2_shipAtRank_75 rfl rfl ?_
          refine zS_ite (fun ht => ?_) (fun _ => zS_none)
          refine s_callV (pc := 76) (np := 1) (as := [va_rf a3]) (rest := [.int a4]) dX2_shipAtRank_76 ht (q := (RX6, TX6, 9)) rfl (c_X6_isAhead (by decide) r157 a3 h158) rfl rfl q2849 q2850 q2851 rfl (by simp [zcat_rf, zcat_i, zcat_l, zcat_f, zcat_d]) (zkI (fun x159 h160 => ?_)) zxo
          refine s_if_eq (pc := 79) (tgt := 86) dX2_shipAtRank_79 (by decide) (fun _ => ?_) (fun _ => ?_)
          · refine s_iconst (pc := 86) (v := 0) dX2_shipAtRank_86 (by decide) ?_
            exact s_sub (pc := 87) [1, 2, 3, 4, 6] rfl (w_X2_shipAtRank_87 K13 hK13 (f_X2_shipAtRank_49 K13 n) ih a0 a1 a2 a3 a5 0 a4 h160)
          · refine s_iconst (pc := 82) (v := 1) dX2_shipAtRank_82 (by decide) ?_
            refine s_goto (pc := 83) (tgt := 87) dX2_shipAtRank_83 (by decide) ?_
            exact s_sub (pc := 87) [1, 2, 3, 4, 6] rfl (w_X2_shipAtRank_87 K13 hK13 (f_X2_shipAtRank_49 K13 n) ih a0 a1 a2 a3 a5 1 a4 h160)
        refine zS_ite (fun ht => ?_) (fun _ => ?_)
        · refine s_callF (pc := 61) (np := 0) (as := []) (rest := []) dX2_shipAtRank_61 ht (q := (RJ15, TJ15, 4)) rfl (c_J15_next (by decide) a5 h144) ⟨_, _, _, q788⟩ rfl rfl q670 (by decide +kernel) q786 q784 rfl (by decide) (zkR (fun r157 h158 => ?_)) zxo
          refine s_cast (pc := 66) dX2_shipAtRank_66 q836 zcs_FloatingDock_Ship ?_
          refine s_ast (pc := 69) (L2 := [(0, va_rf a0), (1, .int a1), (2, va_rf a2), (3, va_rf a3), (4, .int a4), (5, va_rf a5)]) [0, 1, 2, 3, 4, 5] dX2_shipAtRank_69 (by decide) rfl rfl (zcB (j := 5) rfl (zcat_rf a5) rfl) ?_
          refine s_iload (pc := 71) 5 dX2_shipAtRank_71 rfl ?_
          refine s_aload (pc := 73) 0 dX2_shipAtRank_73 rfl ?_
          refine s_aload_n (pc := 75) 4 dX2_shipAtRank_75 rfl rfl ?_
          refine zS_ite (fun ht => ?_) (fun _ => zS_none)
          refine s_callV (pc := 76) (np := 1) (as := [va_rf a3]) (rest := [.int a4]) dX2_shipAtRank_76 ht (q := (RX6, TX6, 9)) rfl (c_X6_isAhead (by decide) r157 a3 h158) rfl rfl q2849 q2850 q2851 rfl (by simp [zcat_rf, zcat_i, zcat_l, zcat_f, zcat_d]) (zkI (fun x161 h162 => ?_)) zxo
          refine s_if_eq (pc := 79) (tgt := 86) dX2_shipAtRank_79 (by decide) (fun _ => ?_) (fun _ => ?_)
          · refine s_iconst (pc := 86) (v := 0) dX2_shipAtRank_86 (by decide) ?_
            exact s_sub (pc := 87) [1, 2, 3, 4, 6] rfl (w_X2_shipAtRank_87 K13 hK13 (f_X2_shipAtRank_49 K13 n) ih a0 a1 a2 a3 a5 0 a4 h162)
          · refine s_iconst (pc := 82) (v := 1) dX2_shipAtRank_82 (by decide) ?_
            refine s_goto (pc := 83) (tgt := 87) dX2_shipAtRank_83 (by decide) ?_
            exact s_sub (pc := 87) [1, 2, 3, 4, 6] rfl (w_X2_shipAtRank_87 K13 hK13 (f_X2_shipAtRank_49 K13 n) ih a0 a1 a2 a3 a5 1 a4 h162)
        refine zS_ite (fun ht => ?_) (fun _ => ?_)
        · refine s_callF (pc := 61) (np := 0) (as := []) (rest := []) dX2_shipAtRank_61 ht (q := (RJ17, TJ17, 5)) rfl (c_J17_next (by decide) a5 h144) ⟨_, _, _, q799⟩ rfl rfl q670 (by decide +kernel) q797 q795 rfl (by decide) (zkR (fun r157 h158 => ?_)) zxo
          refine s_cast (pc := 66) dX2_shipAtRank_66 q836 zcs_FloatingDock_Ship ?_
          refine s_ast (pc := 69) (L2 := [(0, va_rf a0), (1, .int a1), (2, va_rf a2), (3, va_rf a3), (4, .int a4), (5, va_rf a5)]) [0, 1, 2, 3, 4, 5] dX2_shipAtRank_69 (by decide) rfl rfl (zcB (j := 5) rfl (zcat_rf a5) rfl) ?_
          refine s_iload (pc := 71) 5 dX2_shipAtRank_71 rfl ?_
          refine s_aload (pc := 73) 0 dX2_shipAtRank_73 rfl ?_
          refine s_aload_n (pc := 75) 4 dX2_shipAtRank_75 rfl rfl ?_
          refine zS_ite (fun ht => ?_) (fun _ => zS_none)
          refine s_callV (pc := 76) (np := 1) (as := [va_rf a3]) (rest := [.int a4]) dX2_shipAtRank_76 ht (q := (RX6, TX6, 9)) rfl (c_X6_isAhead (by decide) r157 a3 h158) rfl rfl q2849 q2850 q2851 rfl (by simp [zcat_rf, zcat_i, zcat_l, zcat_f, zcat_d]) (zkI (fun x163 h164 => ?_)) zxo
          refine s_if_eq (pc := 79) (tgt := 86) dX2_shipAtRank_79 (by decide) (fun _ => ?_) (fun _ => ?_)
          · refine s_iconst (pc := 86) (v := 0) dX2_shipAtRank_86 (by decide) ?_
            exact s_sub (pc := 87) [1, 2, 3, 4, 6] rfl (w_X2_shipAtRank_87 K13 hK13 (f_X2_shipAtRank_49 K13 n) ih a0 a1 a2 a3 a5 0 a4 h164)
          · refine s_iconst (pc := 82) (v := 1) dX2_shipAtRank_82 (by decide) ?_
            refine s_goto (pc := 83) (tgt := 87) dX2_shipAtRank_83 (by decide) ?_
            exact s_sub (pc := 87) [1, 2, 3, 4, 6] rfl (w_X2_shipAtRank_87 K13 hK13 (f_X2_shipAtRank_49 K13 n) ih a0 a1 a2 a3 a5 1 a4 h164)
        refine zS_ite (fun ht => ?_) (fun _ => ?_)
        · refine s_callF (pc := 61) (np := 0) (as := []) (rest := []) dX2_shipAtRank_61 ht (q := (RJ21, TJ21, 5)) rfl (c_J21_next (by decide) a5 h144) ⟨_, _, _, q812⟩ rfl rfl q670 (by decide +kernel) q810 q808 rfl (by decide) (zkR (fun r157 h158 => ?_)) zxo
          refine s_cast (pc := 66) dX2_shipAtRank_66 q836 zcs_FloatingDock_Ship ?_
          refine s_ast (pc := 69) (L2 := [(0, va_rf a0), (1, .int a1), (2, va_rf a2), (3, va_rf a3), (4, .int a4), (5, va_rf a5)]) [0, 1, 2, 3, 4, 5] dX2_shipAtRank_69 (by decide) rfl rfl (zcB (j := 5) rfl (zcat_rf a5) rfl) ?_
          refine s_iload (pc := 71) 5 dX2_shipAtRank_71 rfl ?_
          refine s_aload (pc := 73) 0 dX2_shipAtRank_73 rfl ?_
          refine s_aload_n (pc := 75) 4 dX2_shipAtRank_75 rfl rfl ?_
          refine zS_ite (fun ht => ?_) (fun _ => zS_none)
          refine s_callV (pc := 76) (np := 1) (as := [va_rf a3]) (rest := [.int a4]) dX2_shipAtRank_76 ht (q := (RX6, TX6, 9)) rfl (c_X6_isAhead (by decide) r157 a3 h158) rfl rfl q2849 q2850 q2851 rfl (by simp [zcat_rf, zcat_i, zcat_l, zcat_f, zcat_d]) (zkI (fun x165 h166 => ?_)) zxo
          refine s_if_eq (pc := 79) (tgt := 86) dX2_shipAtRank_79 (by decide) (fun _ => ?_) (fun _ => ?_)
          · refine s_iconst (pc := 86) (v := 0) dX2_shipAtRank_86 (by decide) ?_
            exact s_sub (pc := 87) [1, 2, 3, 4, 6] rfl (w_X2_shipAtRank_87 K13 hK13 (f_X2_shipAtRank_49 K13 n) ih a0 a1 a2 a3 a5 0 a4 h166)
          · refine s_iconst (pc := 82) (v := 1) dX2_shipAtRank_82 (by decide) ?_
            refine s_goto (pc := 83) (tgt := 87) dX2_shipAtRank_83 (by decide) ?_
            exact s_sub (pc := 87) [1, 2, 3, 4, 6] rfl (w_X2_shipAtRank_87 K13 hK13 (f_X2_shipAtRank_49 K13 n) ih a0 a1 a2 a3 a5 1 a4 h166)
        refine zS_ite (fun ht => ?_) (fun _ => zS_none)
        refine s_callF (pc := 61) (np := 0) (as := []) (rest := []) dX2_shipAtRank_61 ht (q := (RJ22, TJ22, 5)) rfl (c_J22_next (by decide) a5 h144) ⟨_, _, _, q832⟩ rfl rfl q670 (by decide +kernel) q830 q828 rfl (by decide) (zkR (fun r157 h158 => ?_)) zxo
        refine s_cast (pc := 66) dX2_shipAtRank_66 q836 zcs_FloatingDock_Ship ?_
        refine s_ast (pc := 69) (L2 := [(0, va_rf a0), (1, .int a1), (2, va_rf a2), (3, va_rf a3), (4, .int a4), (5, va_rf a5)]) [0, 1, 2, 3, 4, 5] dX2_shipAtRank_69 (by decide) rfl rfl (zcB (j := 5) rfl (zcat_rf a5) rfl) ?_
        refine s_iload (pc := 71) 5 dX2_shipAtRank_71 rfl ?_
        refine s_aload (pc := 73) 0 dX2_shipAtRank_73 rfl ?_
        refine s_aload_n (pc := 75) 4 dX2_shipAtRank_75 rfl rfl ?_
        refine zS_ite (fun ht => ?_) (fun _ => zS_none)
        refine s_callV (pc := 76) (np := 1) (as := [va_rf a3]) (rest := [.int a4]) dX2_shipAtRank_76 ht (q := (RX6, TX6, 9)) rfl (c_X6_isAhead (by decide) r157 a3 h158) rfl rfl q2849 q2850 q2851 rfl (by simp [zcat_rf, zcat_i, zcat_l, zcat_f, zcat_d]) (zkI (fun x167 h168 => ?_)) zxo
        refine s_if_eq (pc := 79) (tgt := 86) dX2_shipAtRank_79 (by decide) (fun _ => ?_) (fun _ => ?_)
        · refine s_iconst (pc := 86) (v := 0) dX2_shipAtRank_86 (by decide) ?_
          exact s_sub (pc := 87) [1, 2, 3, 4, 6] rfl (w_X2_shipAtRank_87 K13 hK13 (f_X2_shipAtRank_49 K13 n) ih a0 a1 a2 a3 a5 0 a4 h168)
        · refine s_iconst (pc := 82) (v := 1) dX2_shipAtRank_82 (by decide) ?_
          refine s_goto (pc := 83) (tgt := 87) dX2_shipAtRank_83 (by decide) ?_
          exact s_sub (pc := 87) [1, 2, 3, 4, 6] rfl (w_X2_shipAtRank_87 K13 hK13 (f_X2_shipAtRank_49 K13 n) ih a0 a1 a2 a3 a5 1 a4 h168)
    refine zS_ite (fun ht => ?_) (fun _ => ?_)
    · refine s_callF (pc := 51) (np := 0) (as := []) (rest := []) dX2_shipAtRank_51 ht (q := (RJ17, TJ17, 5)) rfl (c_J16_hasNext (by decide) a5 h) ⟨_, _, _, q659⟩ rfl rfl q629 (by decide +kernel) q657 q655 rfl (by decide) (zkI (fun x143 h144 => ?_)) zxo
      refine s_if_eq (pc := 56) (tgt := 93) dX2_shipAtRank_56 (by decide) (fun _ => ?_) (fun _ => ?_)
      · exact s_sub (pc := 93) [0, 1, 2, 3, 4] rfl (w_X2_shipAtRank_93 K13 hK13 a0 a1 a2 a3 a4 h144)
      · refine s_aload (pc := 59) 5 dX2_shipAtRank_59 rfl ?_
        refine zS_ite (fun ht => ?_) (fun _ => ?_)
        · refine s_callF (pc := 61) (np := 0) (as := []) (rest := []) dX2_shipAtRank_61 ht (q := (RX9, TX9, 2)) rfl (c_X9_next (by decide) a5 h144) ⟨_, _, _, q677⟩ rfl rfl q670 (by decide +kernel) q675 q673 rfl (by decide) (zkR (fun r169 h170 => ?_)) zxo
          refine s_cast (pc := 66) dX2_shipAtRank_66 q836 zcs_FloatingDock_Ship ?_
          refine s_ast (pc := 69) (L2 := [(0, va_rf a0), (1, .int a1), (2, va_rf a2), (3, va_rf a3), (4, .int a4), (5, va_rf a5)]) [0, 1, 2, 3, 4, 5] dX2_shipAtRank_69 (by decide) rfl rfl (zcB (j := 5) rfl (zcat_rf a5) rfl) ?_
          refine s_iload (pc := 71) 5 dX2_shipAtRank_71 rfl ?_
          refine s_aload (pc := 73) 0 dX2_shipAtRank_73 rfl ?_
          refine s_aload_n (pc := 75) 4 dX2_shipAtRank_75 rfl rfl ?_
          refine zS_ite (fun ht => ?_) (fun _ => zS_none)
          refine s_callV (pc := 76) (np := 1) (as := [va_rf a3]) (rest := [.int a4]) dX2_shipAtRank_76 ht (q := (RX6, TX6, 9)) rfl (c_X6_isAhead (by decide) r169 a3 h170) rfl rfl q2849 q2850 q2851 rfl (by simp [zcat_rf, zcat_i, zcat_l, zcat_f, zcat_d]) (zkI (fun x171 h172 => ?_)) zxo
          refine s_if_eq (pc := 79) (tgt := 86) dX2_shipAtRank_79 (by decide) (fun _ => ?_) (fun _ => ?_)
          · refine s_iconst (pc := 86) (v := 0) dX2_shipAtRank_86 (by decide) ?_
            exact s_sub (pc := 87) [1, 2, 3, 4, 6] rfl (w_X2_shipAtRank_87 K13 hK13 (f_X2_shipAtRank_49 K13 n) ih a0 a1 a2 a3 a5 0 a4 h172)
          · refine s_iconst (pc := 82) (v := 1) dX2_shipAtRank_82 (by decide) ?_
            refine s_goto (pc := 83) (tgt := 87) dX2_shipAtRank_83 (by decide) ?_
            exact s_sub (pc := 87) [1, 2, 3, 4, 6] rfl (w_X2_shipAtRank_87 K13 hK13 (f_X2_shipAtRank_49 K13 n) ih a0 a1 a2 a3 a5 1 a4 h172)
        refine zS_ite (fun ht => ?_) (fun _ => ?_)
        · refine s_callF (pc := 61) (np := 0) (as := []) (rest := []) dX2_shipAtRank_61 ht (q := (RJ15, TJ15, 4)) rfl (c_J15_next (by decide) a5 h144) ⟨_, _, _, q788⟩ rfl rfl q670 (by decide +kernel) q786 q784 rfl (by decide) (zkR (fun r169 h170 => ?_)) zxo
          refine s_cast (pc := 66) dX2_shipAtRank_66 q836 zcs_FloatingDock_Ship ?_
          refine s_ast (pc := 69) (L2 := [(0, va_rf a0), (1, .int a1), (2, va_rf a2), (3, va_rf a3), (4, .int a4), (5, va_rf a5)]) [0, 1, 2, 3, 4, 5] dX2_shipAtRank_69 (by decide) rfl rfl (zcB (j := 5) rfl (zcat_rf a5) rfl) ?_
          refine s_iload (pc := 71) 5 dX2_shipAtRank_71 rfl ?_
          refine s_aload (pc := 73) 0 dX2_shipAtRank_73 rfl ?_
          refine s_aload_n (pc := 75) 4 dX2_shipAtRank_75 rfl rfl ?_
          refine zS_ite (fun ht => ?_) (fun _ => zS_none)
          refine s_callV (pc := 76) (np := 1) (as := [va_rf a3]) (rest := [.int a4]) dX2_shipAtRank_76 ht (q := (RX6, TX6, 9)) rfl (c_X6_isAhead (by decide) r169 a3 h170) rfl rfl q2849 q2850 q2851 rfl (by simp [zcat_rf, zcat_i, zcat_l, zcat_f, zcat_d]) (zkI (fun x173 h174 => ?_)) zxo
          refine s_if_eq (pc := 79) (tgt := 86) dX2_shipAtRank_79 (by decide) (fun _ => ?_) (fun _ => ?_)
          · refine s_iconst (pc := 86) (v := 0) dX2_shipAtRank_86 (by decide) ?_
            exact s_sub (pc := 87) [1, 2, 3, 4, 6] rfl (w_X2_shipAtRank_87 K13 hK13 (f_X2_shipAtRank_49 K13 n) ih a0 a1 a2 a3 a5 0 a4 h174)
          · refine s_iconst (pc := 82) (v := 1) dX2_shipAtRank_82 (by decide) ?_
            refine s_goto (pc := 83) (tgt := 87) dX2_shipAtRank_83 (by decide) ?_
            exact s_sub (pc := 87) [1, 2, 3, 4, 6] rfl (w_X2_shipAtRank_87 K13 hK13 (f_X2_shipAtRank_49 K13 n) ih a0 a1 a2 a3 a5 1 a4 h174)
        refine zS_ite (fun ht => ?_) (fun _ => ?_)
        · refine s_callF (pc := 61) (np := 0) (as := []) (rest := []) dX2_shipAtRank_61 ht (q := (RJ17, TJ17, 5)) rfl (c_J17_next (by decide) a5 h144) ⟨_, _, _, q799⟩ rfl rfl q670 (by decide +kernel) q797 q795 rfl (by decide) (zkR (fun r169 h170 => ?_)) zxo
          refine s_cast (pc := 66) dX2_shipAtRank_66 q836 zcs_FloatingDock_Ship ?_
          refine s_ast (pc := 69) (L2 := [(0, va_rf a0), (1, .int a1), (2, va_rf a2), (3, va_rf a3), (4, .int a4), (5, va_rf a5)]) [0, 1, 2, 3, 4, 5] dX2_shipAtRank_69 (by decide) rfl rfl (zcB (j := 5) rfl (zcat_rf a5) rfl) ?_
          refine s_iload (pc := 71) 5 dX2_shipAtRank_71 rfl ?_
          refine s_aload (pc := 73) 0 dX2_shipAtRank_73 rfl ?_
          refine s_aload_n (pc := 75) 4 dX2_shipAtRank_75 rfl rfl ?_
          refine zS_ite (fun ht => ?_) (fun _ => zS_none)
          refine s_callV (pc := 76) (np := 1) (as := [va_rf a3]) (rest := [.int a4]) dX2_shipAtRank_76 ht (q := (RX6, TX6, 9)) rfl (c_X6_isAhead (by decide) r169 a3 h170) rfl rfl q2849 q2850 q2851 rfl (by simp [zcat_rf, zcat_i, zcat_l, zcat_f, zcat_d]) (zkI (fun x175 h176 => ?_)) zxo
          refine s_if_eq (pc := 79) (tgt := 86) dX2_shipAtRank_79 (by decide) (fun _ => ?_) (fun _ => ?_)
          · refine s_iconst (pc := 86) (v := 0) dX2_shipAtRank_86 (by decide) ?_
            exact s_sub (pc := 87) [1, 2, 3, 4, 6] rfl (w_X2_shipAtRank_87 K13 hK13 (f_X2_shipAtRank_49 K13 n) ih a0 a1 a2 a3 a5 0 a4 h176)
          · refine s_iconst (pc := 82) (v := 1) dX2_shipAtRank_82 (by decide) ?_
            refine s_goto (pc := 83) (tgt := 87) dX2_shipAtRank_83 (by decide) ?_
            exact s_sub (pc := 87) [1, 2, 3, 4, 6] rfl (w_X2_shipAtRank_87 K13 hK13 (f_X2_shipAtRank_49 K13 n) ih a0 a1 a2 a3 a5 1 a4 h176)
        refine zS_ite (fun ht => ?_) (fun _ => ?_)
        · refine s_callF (pc := 61) (np := 0) (as := []) (rest := []) dX2_shipAtRank_61 ht (q := (RJ21, TJ21, 5)) rfl (c_J21_next (by decide) a5 h144) ⟨_, _, _, q812⟩ rfl rfl q670 (by decide +kernel) q810 q808 rfl (by decide) (zkR (fun r169 h170 => ?_)) zxo
          refine s_cast (pc := 66) dX2_shipAtRank_66 q836 zcs_FloatingDock_Ship ?_
          refine s_ast (pc := 69) (L2 := [(0, va_rf a0), (1, .int a1), (2, va_rf a2), (3, va_rf a3), (4, .int a4), (5, va_rf a5)]) [0, 1, 2, 3, 4, 5] dX2_shipAtRank_69 (by decide) rfl rfl (zcB (j := 5) rfl (zcat_rf a5) rfl) ?_
          refine s_iload (pc := 71) 5 dX2_shipAtRank_71 rfl ?_
          refine s_aload (pc := 73) 0 dX2_shipAtRank_73 rfl ?_
          refine s_aload_n (pc := 75) 4 dX2_shipAtRank_75 rfl rfl ?_
          refine zS_ite (fun ht => ?_) (fun _ => zS_none)
          refine s_callV (pc := 76) (np := 1) (as := [va_rf a3]) (rest := [.int a4]) dX2_shipAtRank_76 ht (q := (RX6, TX6, 9)) rfl (c_X6_isAhead (by decide) r169 a3 h170) rfl rfl q2849 q2850 q2851 rfl (by simp [zcat_rf, zcat_i, zcat_l, zcat_f, zcat_d]) (zkI (fun x177 h178 => ?_)) zxo
          refine s_if_eq (pc := 79) (tgt := 86) dX2_shipAtRank_79 (by decide) (fun _ => ?_) (fun _ => ?_)
          · refine s_iconst (pc := 86) (v := 0) dX2_shipAtRank_86 (by decide) ?_
            exact s_sub (pc := 87) [1, 2, 3, 4, 6] rfl (w_X2_shipAtRank_87 K13 hK13 (f_X2_shipAtRank_49 K13 n) ih a0 a1 a2 a3 a5 0 a4 h178)
          · refine s_iconst (pc := 82) (v := 1) dX2_shipAtRank_82 (by decide) ?_
            refine s_goto (pc := 83) (tgt := 87) dX2_shipAtRank_83 (by decide) ?_
            exact s_sub (pc := 87) [1, 2, 3, 4, 6] rfl (w_X2_shipAtRank_87 K13 hK13 (f_X2_shipAtRank_49 K13 n) ih a0 a1 a2 a3 a5 1 a4 h178)
        refine zS_ite (fun ht => ?_) (fun _ => zS_none)
        refine s_callF (pc := 61) (np := 0) (as := []) (rest := []) dX2_shipAtRank_61 ht (q := (RJ22, TJ22, 5)) rfl (c_J22_next (by decide) a5 h144) ⟨_, _, _, q832⟩ rfl rfl q670 (by decide +kernel) q830 q828 rfl (by decide) (zkR (fun r169 h170 => ?_)) zxo
        refine s_cast (pc := 66) dX2_shipAtRank_66 q836 zcs_FloatingDock_Ship ?_
        refine s_ast (pc := 69) (L2 := [(0, va_rf a0), (1, .int a1), (2, va_rf a2), (3, va_rf a3), (4, .int a4), (5, va_rf a5)]) [0, 1, 2, 3, 4, 5] dX2_shipAtRank_69 (by decide) rfl rfl (zcB (j := 5) rfl (zcat_rf a5) rfl) ?_
        refine s_iload (pc := 71) 5 dX2_shipAtRank_71 rfl ?_
        refine s_aload (pc := 73) 0 dX2_shipAtRank_73 rfl ?_
        refine s_aload_n (pc := 75) 4 dX2_shipAtRank_75 rfl rfl ?_
        refine zS_ite (fun ht => ?_) (fun _ => zS_none)
        refine s_callV (pc := 76) (np := 1) (as := [va_rf a3]) (rest := [.int a4]) dX2_shipAtRank_76 ht (q := (RX6, TX6, 9)) rfl (c_X6_isAhead (by decide) r169 a3 h170) rfl rfl q2849 q2850 q2851 rfl (by simp [zcat_rf, zcat_i, zcat_l, zcat_f, zcat_d]) (zkI (fun x179 h180 => ?_)) zxo
        refine s_if_eq (pc := 79) (tgt := 86) dX2_shipAtRank_79 (by decide) (fun _ => ?_) (fun _ => ?_)
        · refine s_iconst (pc := 86) (v := 0) dX2_shipAtRank_86 (by decide) ?_
          exact s_sub (pc := 87) [1, 2, 3, 4, 6] rfl (w_X2_shipAtRank_87 K13 hK13 (f_X2_shipAtRank_49 K13 n) ih a0 a1 a2 a3 a5 0 a4 h180)
        · refine s_iconst (pc := 82) (v := 1) dX2_shipAtRank_82 (by decide) ?_
          refine s_goto (pc := 83) (tgt := 87) dX2_shipAtRank_83 (by decide) ?_
          exact s_sub (pc := 87) [1, 2, 3, 4, 6] rfl (w_X2_shipAtRank_87 K13 hK13 (f_X2_shipAtRank_49 K13 n) ih a0 a1 a2 a3 a5 1 a4 h180)
    refine zS_ite (fun ht => ?_) (fun _ => ?_)
    · refine s_callF (pc := 51) (np := 0) (as := []) (rest := []) dX2_shipAtRank_51 ht (q := (RJ21, TJ21, 5)) rfl (c_J20_hasNext (by decide) a5 h) ⟨_, _, _, q665⟩ rfl rfl q629 (by decide +kernel) q663 q661 rfl (by decide) (zkI (fun x143 h144 => ?_)) zxo
      refine s_if_eq (pc := 56) (tgt := 93) dX2_shipAtRank_56 (by decide) (fun _ => ?_) (fun _ => ?_)
      · exact s_sub (pc := 93) [0, 1, 2, 3, 4] rfl (w_X2_shipAtRank_93 K13 hK13 a0 a1 a2 a3 a4 h144)
      · refine s_aload (pc := 59) 5 dX2_shipAtRank_59 rfl ?_
        refine zS_ite (fun ht => ?_) (fun _ => ?_)
        · refine s_callF (pc := 61) (np := 0) (as := []) (rest := []) dX2_shipAtRank_61 ht (q := (RX9, TX9, 2)) rfl (c_X9_next (by decide) a5 h144) ⟨_, _, _, q677⟩ rfl rfl q670 (by decide +kernel) q675 q673 rfl (by decide) (zkR (fun r181 h182 => ?_)) zxo
          refine s_cast (pc := 66) dX2_shipAtRank_66 q836 zcs_FloatingDock_Ship ?_
          refine s_ast (pc := 69) (L2 := [(0, va_rf a0), (1, .int a1), (2, va_rf a2), (3, va_rf a3), (4, .int a4), (5, va_rf a5)]) [0, 1, 2, 3, 4, 5] dX2_shipAtRank_69 (by decide) rfl rfl (zcB (j := 5) rfl (zcat_rf a5) rfl) ?_
          refine s_iload (pc := 71) 5 dX2_shipAtRank_71 rfl ?_
          refine s_aload (pc := 73) 0 dX2_shipAtRank_73 rfl ?_
          refine s_aload_n (pc := 75) 4 dX2_shipAtRank_75 rfl rfl ?_
          refine zS_ite (fun ht => ?_) (fun _ => zS_none)
          refine s_callV (pc := 76) (np := 1) (as := [va_rf a3]) (rest := [.int a4]) dX2_shipAtRank_76 ht (q := (RX6, TX6, 9)) rfl (c_X6_isAhead (by decide) r181 a3 h182) rfl rfl q2849 q2850 q2851 rfl (by simp [zcat_rf, zcat_i, zcat_l, zcat_f, zcat_d]) (zkI (fun x183 h184 => ?_)) zxo
          refine s_if_eq (pc := 79) (tgt := 86) dX2_shipAtRank_79 (by decide) (fun _ => ?_) (fun _ => ?_)
          · refine s_iconst (pc := 86) (v := 0) dX2_shipAtRank_86 (by decide) ?_
            exact s_sub (pc := 87) [1, 2, 3, 4, 6] rfl (w_X2_shipAtRank_87 K13 hK13 (f_X2_shipAtRank_49 K13 n) ih a0 a1 a2 a3 a5 0 a4 h184)
          · refine s_iconst (pc := 82) (v := 1) dX2_shipAtRank_82 (by decide) ?_
            refine s_goto (pc := 83) (tgt := 87) dX2_shipAtRank_83 (by decide) ?_
            exact s_sub (pc := 87) [1, 2, 3, 4, 6] rfl (w_X2_shipAtRank_87 K13 hK13 (f_X2_shipAtRank_49 K13 n) ih a0 a1 a2 a3 a5 1 a4 h184)
        refine zS_ite (fun ht => ?_) (fun _ => ?_)
        · refine s_callF (pc := 61) (np := 0) (as := []) (rest := []) dX2_shipAtRank_61 ht (q := (RJ15, TJ15, 4)) rfl (c_J15_next (by decide) a5 h144) ⟨_, _, _, q788⟩ rfl rfl q670 (by decide +kernel) q786 q784 rfl (by decide) (zkR (fun r181 h182 => ?_)) zxo
          refine s_cast (pc := 66) dX2_shipAtRank_66 q836 zcs_FloatingDock_Ship ?_
          refine s_ast (pc := 69) (L2 := [(0, va_rf a0), (1, .int a1), (2, va_rf a2), (3, va_rf a3), (4, .int a4), (5, va_rf a5)]) [0, 1, 2, 3, 4, 5] dX2_shipAtRank_69 (by decide) rfl rfl (zcB (j := 5) rfl (zcat_rf a5) rfl) ?_
          refine s_iload (pc := 71) 5 dX2_shipAtRank_71 rfl ?_
          refine s_aload (pc := 73) 0 dX2_shipAtRank_73 rfl ?_
          refine s_aload_n (pc := 75) 4 dX2_shipAtRank_75 rfl rfl ?_
          refine zS_ite (fun ht => ?_) (fun _ => zS_none)
          refine s_callV (pc := 76) (np := 1) (as := [va_rf a3]) (rest := [.int a4]) dX2_shipAtRank_76 ht (q := (RX6, TX6, 9)) rfl (c_X6_isAhead (by decide) r181 a3 h182) rfl rfl q2849 q2850 q2851 rfl (by simp [zcat_rf, zcat_i, zcat_l, zcat_f, zcat_d]) (zkI (fun x185 h186 => ?_)) zxo
          refine s_if_eq (pc := 79) (tgt := 86) dX2_shipAtRank_79 (by decide) (fun _ => ?_) (fun _ => ?_)
          · refine s_iconst (pc := 86) (v := 0) dX2_shipAtRank_86 (by decide) ?_
            exact s_sub (pc := 87) [1, 2, 3, 4, 6] rfl (w_X2_shipAtRank_87 K13 hK13 (f_X2_shipAtRank_49 K13 n) ih a0 a1 a2 a3 a5 0 a4 h186)
          · refine s_iconst (pc := 82) (v := 1) dX2_shipAtRank_82 (by decide) ?_
            refine s_goto (pc := 83) (tgt := 87) dX2_shipAtRank_83 (by decide) ?_
            exact s_sub (pc := 87) [1, 2, 3, 4, 6] rfl (w_X2_shipAtRank_87 K13 hK13 (f_X2_shipAtRank_49 K13 n) ih a0 a1 a2 a3 a5 1 a4 h186)
        refine zS_ite (fun ht => ?_) (fun _ => ?_)
        · refine s_callF (pc := 61) (np := 0) (as := []) (rest := []) dX2_shipAtRank_61 ht (q := (RJ17, TJ17, 5)) rfl (c_J17_next (by decide) a5 h144) ⟨_, _, _, q799⟩ rfl rfl q670 (by decide +kernel) q797 q795 rfl (by decide) (zkR (fun r181 h182 => ?_)) zxo
          refine s_cast (pc := 66) dX2_shipAtRank_66 q836 zcs_FloatingDock_Ship ?_
          refine s_ast (pc := 69) (L2 := [(0, va_rf a0), (1, .int a1), (2, va_rf a2), (3, va_rf a3), (4, .int a4), (5, va_rf a5)]) [0, 1, 2, 3, 4, 5] dX2_shipAtRank_69 (by decide) rfl rfl (zcB (j := 5) rfl (zcat_rf a5) rfl) ?_
          refine s_iload (pc := 71) 5 dX2_shipAtRank_71 rfl ?_
          refine s_aload (pc := 73) 0 dX2_shipAtRank_73 rfl ?_
          refine s_aload_n (pc := 75) 4 dX2_shipAtRank_75 rfl rfl ?_
          refine zS_ite (fun ht => ?_) (fun _ => zS_none)
          refine s_callV (pc := 76) (np := 1) (as := [va_rf a3]) (rest := [.int a4]) dX2_shipAtRank_76 ht (q := (RX6, TX6, 9)) rfl (c_X6_isAhead (by decide) r181 a3 h182) rfl rfl q2849 q2850 q2851 rfl (by simp [zcat_rf, zcat_i, zcat_l, zcat_f, zcat_d]) (zkI (fun x187 h188 => ?_)) zxo
          refine s_if_eq (pc := 79) (tgt := 86) dX2_shipAtRank_79 (by decide) (fun _ => ?_) (fun _ => ?_)
          · refine s_iconst (pc := 86) (v := 0) dX2_shipAtRank_86 (by decide) ?_
            exact s_sub (pc := 87) [1, 2, 3, 4, 6] rfl (w_X2_shipAtRank_87 K13 hK13 (f_X2_shipAtRank_49 K13 n) ih a0 a1 a2 a3 a5 0 a4 h188)
          · refine s_iconst (pc := 82) (v := 1) dX2_shipAtRank_82 (by decide) ?_
            refine s_goto (pc := 83) (tgt := 87) dX2_shipAtRank_83 (by decide) ?_
            exact s_sub (pc := 87) [1, 2, 3, 4, 6] rfl (w_X2_shipAtRank_87 K13 hK13 (f_X2_shipAtRank_49 K13 n) ih a0 a1 a2 a3 a5 1 a4 h188)
        refine zS_ite (fun ht => ?_) (fun _ => ?_)
        · refine s_callF (pc := 61) (np := 0) (as := []) (rest := []) dX2_shipAtRank_61 ht (q := (RJ21, TJ21, 5)) rfl (c_J21_next (by decide) a5 h144) ⟨_, _, _, q812⟩ rfl rfl q670 (by decide +kernel) q810 q808 rfl (by decide) (zkR (fun r181 h182 => ?_)) zxo
          refine s_cast (pc := 66) dX2_shipAtRank_66 q836 zcs_FloatingDock_Ship ?_
          refine s_ast (pc := 69) (L2 := [(0, va_rf a0), (1, .int a1), (2, va_rf a2), (3, va_rf a3), (4, .int a4), (5, va_rf a5)]) [0, 1, 2, 3, 4, 5] dX2_shipAtRank_69 (by decide) rfl rfl (zcB (j := 5) rfl (zcat_rf a5) rfl) ?_
          refine s_iload (pc := 71) 5 dX2_shipAtRank_71 rfl ?_
          refine s_aload (pc := 73) 0 dX2_shipAtRank_73 rfl ?_
          refine s_aload_n (pc := 75) 4 dX2_shipAtRank_75 rfl rfl ?_
          refine zS_ite (fun ht => ?_) (fun _ => zS_none)
          refine s_callV (pc := 76) (np := 1) (as := [va_rf a3]) (rest := [.int a4]) dX2_shipAtRank_76 ht (q := (RX6, TX6, 9)) rfl (c_X6_isAhead (by decide) r181 a3 h182) rfl rfl q2849 q2850 q2851 rfl (by simp [zcat_rf, zcat_i, zcat_l, zcat_f, zcat_d]) (zkI (fun x189 h190 => ?_)) zxo
          refine s_if_eq (pc := 79) (tgt := 86) dX2_shipAtRank_79 (by decide) (fun _ => ?_) (fun _ => ?_)
          · refine s_iconst (pc := 86) (v := 0) dX2_shipAtRank_86 (by decide) ?_
            exact s_sub (pc := 87) [1, 2, 3, 4, 6] rfl (w_X2_shipAtRank_87 K13 hK13 (f_X2_shipAtRank_49 K13 n) ih a0 a1 a2 a3 a5 0 a4 h190)
          · refine s_iconst (pc := 82) (v := 1) dX2_shipAtRank_82 (by decide) ?_
            refine s_goto (pc := 83) (tgt := 87) dX2_shipAtRank_83 (by decide) ?_
            exact s_sub (pc := 87) [1, 2, 3, 4, 6] rfl (w_X2_shipAtRank_87 K13 hK13 (f_X2_shipAtRank_49 K13 n) ih a0 a1 a2 a3 a5 1 a4 h190)
        refine zS_ite (fun ht => ?_) (fun _ => zS_none)
        refine s_callF (pc := 61) (np := 0) (as := []) (rest := []) dX2_shipAtRank_61 ht (q := (RJ22, TJ22, 5)) rfl (c_J22_next (by decide) a5 h144) ⟨_, _, _, q832⟩ rfl rfl q670 (by decide +kernel) q830 q828 rfl (by decide) (zkR (fun r181 h182 => ?_)) zxo
        refine s_cast (pc := 66) dX2_shipAtRank_66 q836 zcs_FloatingDock_Ship ?_
        refine s_ast (pc := 69) (L2 := [(0, va_rf a0), (1, .int a1), (2, va_rf a2), (3, va_rf a3), (4, .int a4), (5, va_rf a5)]) [0, 1, 2, 3, 4, 5] dX2_shipAtRank_69 (by decide) rfl rfl (zcB (j := 5) rfl (zcat_rf a5) rfl) ?_
        refine s_iload (pc := 71) 5 dX2_shipAtRank_71 rfl ?_
        refine s_aload (pc := 73) 0 dX2_shipAtRank_73 rfl ?_
        refine s_aload_n (pc := 75) 4 dX2_shipAtRank_75 rfl rfl ?_
        refine zS_ite (fun ht => ?_) (fun _ => zS_none)
        refine s_callV (pc := 76) (np := 1) (as := [va_rf a3]) (rest := [.int a4]) dX2_shipAtRank_76 ht (q := (RX6, TX6, 9)) rfl (c_X6_isAhead (by decide) r181 a3 h182) rfl rfl q2849 q2850 q2851 rfl (by simp [zcat_rf, zcat_i, zcat_l, zcat_f, zcat_d]) (zkI (fun x191 h192 => ?_)) zxo
        refine s_if_eq (pc := 79) (tgt := 86) dX2_shipAtRank_79 (by decide) (fun _ => ?_) (fun _ => ?_)
        · refine s_iconst (pc := 86) (v := 0) dX2_shipAtRank_86 (by decide) ?_
          exact s_sub (pc := 87) [1, 2, 3, 4, 6] rfl (w_X2_shipAtRank_87 K13 hK13 (f_X2_shipAtRank_49 K13 n) ih a0 a1 a2 a3 a5 0 a4 h192)
        · refine s_iconst (pc := 82) (v := 1) dX2_shipAtRank_82 (by decide) ?_
          refine s_goto (pc := 83) (tgt := 87) dX2_shipAtRank_83 (by decide) ?_
          exact s_sub (pc := 87) [1, 2, 3, 4, 6] rfl (w_X2_shipAtRank_87 K13 hK13 (f_X2_shipAtRank_49 K13 n) ih a0 a1 a2 a3 a5 1 a4 h192)
    refine zS_ite (fun ht => ?_) (fun _ => zS_none)
    refine s_callF (pc := 51) (np := 0) (as := []) (rest := []) dX2_shipAtRank_51 ht (q := (RJ22, TJ22, 5)) rfl (c_J20_hasNext (by decide) a5 h) ⟨_, _, _, q665⟩ rfl rfl q629 (by decide +kernel) q663 q667 rfl (by decide) (zkI (fun x143 h144 => ?_)) zxo
    refine s_if_eq (pc := 56) (tgt := 93) dX2_shipAtRank_56 (by decide) (fun _ => ?_) (fun _ => ?_)
    · exact s_sub (pc := 93) [0, 1, 2, 3, 4] rfl (w_X2_shipAtRank_93 K13 hK13 a0 a1 a2 a3 a4 h144)
    · refine s_aload (pc := 59) 5 dX2_shipAtRank_59 rfl ?_
      refine zS_ite (fun ht => ?_) (fun _ => ?_)
      · refine s_callF (pc := 61) (np := 0) (as := []) (rest := []) dX2_shipAtRank_61 ht (q := (RX9, TX9, 2)) rfl (c_X9_next (by decide) a5 h144) ⟨_, _, _, q677⟩ rfl rfl q670 (by decide +kernel) q675 q673 rfl (by decide) (zkR (fun r193 h194 => ?_)) zxo
        refine s_cast (pc := 66) dX2_shipAtRank_66 q836 zcs_FloatingDock_Ship ?_
        refine s_ast (pc := 69) (L2 := [(0, va_rf a0), (1, .int a1), (2, va_rf a2), (3, va_rf a3), (4, .int a4), (5, va_rf a5)]) [0, 1, 2, 3, 4, 5] dX2_shipAtRank_69 (by decide) rfl rfl (zcB (j := 5) rfl (zcat_rf a5) rfl) ?_
        refine s_iload (pc := 71) 5 dX2_shipAtRank_71 rfl ?_
        refine s_aload (pc := 73) 0 dX2_shipAtRank_73 rfl ?_
        refine s_aload_n (pc := 75) 4 dX2_shipAtRank_75 rfl rfl ?_
        refine zS_ite (fun ht => ?_) (fun _ => zS_none)
        refine s_callV (pc := 76) (np := 1) (as := [va_rf a3]) (rest := [.int a4]) dX2_shipAtRank_76 ht (q := (RX6, TX6, 9)) rfl (c_X6_isAhead (by decide) r193 a3 h194) rfl rfl q2849 q2850 q2851 rfl (by simp [zcat_rf, zcat_i, zcat_l, zcat_f, zcat_d]) (zkI (fun x195 h196 => ?_)) zxo
        refine s_if_eq (pc := 79) (tgt := 86) dX2_shipAtRank_79 (by decide) (fun _ => ?_) (fun _ => ?_)
        · refine s_iconst (pc := 86) (v := 0) dX2_shipAtRank_86 (by decide) ?_
          exact s_sub (pc := 87) [1, 2, 3, 4, 6] rfl (w_X2_shipAtRank_87 K13 hK13 (f_X2_shipAtRank_49 K13 n) ih a0 a1 a2 a3 a5 0 a4 h196)
        · refine s_iconst (pc := 82) (v := 1) dX2_shipAtRank_82 (by decide) ?_
          refine s_goto (pc := 83) (tgt := 87) dX2_shipAtRank_83 (by decide) ?_
          exact s_sub (pc := 87) [1, 2, 3, 4, 6] rfl (w_X2_shipAtRank_87 K13 hK13 (f_X2_shipAtRank_49 K13 n) ih a0 a1 a2 a3 a5 1 a4 h196)
      refine zS_ite (fun ht => ?_) (fun _ => ?_)
      · refine s_callF (pc := 61) (np := 0) (as := []) (rest := []) dX2_shipAtRank_61 ht (q := (RJ15, TJ15, 4)) rfl (c_J15_next (by decide) a5 h144) ⟨_, _, _, q788⟩ rfl rfl q670 (by decide +kernel) q786 q784 rfl (by decide) (zkR (fun r193 h194 => ?_)) zxo
        refine s_cast (pc := 66) dX2_shipAtRank_66 q836 zcs_FloatingDock_Ship ?_
        refine s_ast (pc := 69) (L2 := [(0, va_rf a0), (1, .int a1), (2, va_rf a2), (3, va_rf a3), (4, .int a4), (5, va_rf a5)]) [0, 1, 2, 3, 4, 5] dX2_shipAtRank_69 (by decide) rfl rfl (zcB (j := 5) rfl (zcat_rf a5) rfl) ?_
        refine s_iload (pc := 71) 5 dX2_shipAtRank_71 rfl ?_
        refine s_aload (pc := 73) 0 dX2_shipAtRank_73 rfl ?_
        refine s_aload_n (pc := 75) 4 dX2_shipAtRank_75 rfl rfl ?_
        refine zS_ite (fun ht => ?_) (fun _ => zS_none)
        refine s_callV (pc := 76) (np := 1) (as := [va_rf a3]) (rest := [.int a4]) dX2_shipAtRank_76 ht (q := (RX6, TX6, 9)) rfl (c_X6_isAhead (by decide) r193 a3 h194) rfl rfl q2849 q2850 q2851 rfl (by simp [zcat_rf, zcat_i, zcat_l, zcat_f, zcat_d]) (zkI (fun x197 h198 => ?_)) zxo
        refine s_if_eq (pc := 79) (tgt := 86) dX2_shipAtRank_79 (by decide) (fun _ => ?_) (fun _ => ?_)
        · refine s_iconst (pc := 86) (v := 0) dX2_shipAtRank_86 (by decide) ?_
          exact s_sub (pc := 87) [1, 2, 3, 4, 6] rfl (w_X2_shipAtRank_87 K13 hK13 (f_X2_shipAtRank_49 K13 n) ih a0 a1 a2 a3 a5 0 a4 h198)
        · refine s_iconst (pc := 82) (v := 1) dX2_shipAtRank_82 (by decide) ?_
          refine s_goto (pc := 83) (tgt := 87) dX2_shipAtRank_83 (by decide) ?_
          exact s_sub (pc := 87) [1, 2, 3, 4, 6] rfl (w_X2_shipAtRank_87 K13 hK13 (f_X2_shipAtRank_49 K13 n) ih a0 a1 a2 a3 a5 1 a4 h198)
      refine zS_ite (fun ht => ?_) (fun _ => ?_)
      · refine s_callF (pc := 61) (np := 0) (as := []) (rest := []) dX2_shipAtRank_61 ht (q := (RJ17, TJ17, 5)) rfl (c_J17_next (by decide) a5 h144) ⟨_, _, _, q799⟩ rfl rfl q670 (by decide +kernel) q797 q795 rfl (by decide) (zkR (fun r193 h194 => ?_)) zxo
        refine s_cast (pc := 66) dX2_shipAtRank_66 q836 zcs_FloatingDock_Ship ?_
        refine s_ast (pc := 69) (L2 := [(0, va_rf a0), (1, .int a1), (2, va_rf a2), (3, va_rf a3), (4, .int a4), (5, va_rf a5)]) [0, 1, 2, 3, 4, 5] dX2_shipAtRank_69 (by decide) rfl rfl (zcB (j := 5) rfl (zcat_rf a5) rfl) ?_
        refine s_iload (pc := 71) 5 dX2_shipAtRank_71 rfl ?_
        refine s_aload (pc := 73) 0 dX2_shipAtRank_73 rfl ?_
        refine s_aload_n (pc := 75) 4 dX2_shipAtRank_75 rfl rfl ?_
        refine zS_ite (fun ht => ?_) (fun _ => zS_none)
        refine s_callV (pc := 76) (np := 1) (as := [va_rf a3]) (rest := [.int a4]) dX2_shipAtRank_76 ht (q := (RX6, TX6, 9)) rfl (c_X6_isAhead (by decide) r193 a3 h194) rfl rfl q2849 q2850 q2851 rfl (by simp [zcat_rf, zcat_i, zcat_l, zcat_f, zcat_d]) (zkI (fun x199 h200 => ?_)) zxo
        refine s_if_eq (pc := 79) (tgt := 86) dX2_shipAtRank_79 (by decide) (fun _ => ?_) (fun _ => ?_)
        · refine s_iconst (pc := 86) (v := 0) dX2_shipAtRank_86 (by decide) ?_
          exact s_sub (pc := 87) [1, 2, 3, 4, 6] rfl (w_X2_shipAtRank_87 K13 hK13 (f_X2_shipAtRank_49 K13 n) ih a0 a1 a2 a3 a5 0 a4 h200)
        · refine s_iconst (pc := 82) (v := 1) dX2_shipAtRank_82 (by decide) ?_
          refine s_goto (pc := 83) (tgt := 87) dX2_shipAtRank_83 (by decide) ?_
          exact s_sub (pc := 87) [1, 2, 3, 4, 6] rfl (w_X2_shipAtRank_87 K13 hK13 (f_X2_shipAtRank_49 K13 n) ih a0 a1 a2 a3 a5 1 a4 h200)
      refine zS_ite (fun ht => ?_) (fun _ => ?_)
      · refine s_callF (pc := 61) (np := 0) (as := []) (rest := []) dX2_shipAtRank_61 ht (q := (RJ21, TJ21, 5)) rfl (c_J21_next (by decide) a5 h144) ⟨_, _, _, q812⟩ rfl rfl q670 (by decide +kernel) q810 q808 rfl (by decide) (zkR (fun r193 h194 => ?_)) zxo
        refine s_cast (pc := 66) dX2_shipAtRank_66 q836 zcs_FloatingDock_Ship ?_
        refine s_ast (pc := 69) (L2 := [(0, va_rf a0), (1, .int a1), (2, va_rf a2), (3, va_rf a3), (4, .int a4), (5, va_rf a5)]) [0, 1, 2, 3, 4, 5] dX2_shipAtRank_69 (by decide) rfl rfl (zcB (j := 5) rfl (zcat_rf a5) rfl) ?_
        refine s_iload (pc := 71) 5 dX2_shipAtRank_71 rfl ?_
        refine s_aload (pc := 73) 0 dX2_shipAtRank_73 rfl ?_
        refine s_aload_n (pc := 75) 4 dX2_shipAtRank_75 rfl rfl ?_
        refine zS_ite (fun ht => ?_) (fun _ => zS_none)
        refine s_callV (pc := 76) (np := 1) (as := [va_rf a3]) (rest := [.int a4]) dX2_shipAtRank_76 ht (q := (RX6, TX6, 9)) rfl (c_X6_isAhead (by decide) r193 a3 h194) rfl rfl q2849 q2850 q2851 rfl (by simp [zcat_rf, zcat_i, zcat_l, zcat_f, zcat_d]) (zkI (fun x201 h202 => ?_)) zxo
        refine s_if_eq (pc := 79) (tgt := 86) dX2_shipAtRank_79 (by decide) (fun _ => ?_) (fun _ => ?_)
        · refine s_iconst (pc := 86) (v := 0) dX2_shipAtRank_86 (by decide) ?_
          exact s_sub (pc := 87) [1, 2, 3, 4, 6] rfl (w_X2_shipAtRank_87 K13 hK13 (f_X2_shipAtRank_49 K13 n) ih a0 a1 a2 a3 a5 0 a4 h202)
        · refine s_iconst (pc := 82) (v := 1) dX2_shipAtRank_82 (by decide) ?_
          refine s_goto (pc := 83) (tgt := 87) dX2_shipAtRank_83 (by decide) ?_
          exact s_sub (pc := 87) [1, 2, 3, 4, 6] rfl (w_X2_shipAtRank_87 K13 hK13 (f_X2_shipAtRank_49 K13 n) ih a0 a1 a2 a3 a5 1 a4 h202)
      refine zS_ite (fun ht => ?_) (fun _ => zS_none)
      refine s_callF (pc := 61) (np := 0) (as := []) (rest := []) dX2_shipAtRank_61 ht (q := (RJ22, TJ22, 5)) rfl (c_J22_next (by decide) a5 h144) ⟨_, _, _, q832⟩ rfl rfl q670 (by decide +kernel) q830 q828 rfl (by decide) (zkR (fun r193 h194 => ?_)) zxo
      refine s_cast (pc := 66) dX2_shipAtRank_66 q836 zcs_FloatingDock_Ship ?_
      refine s_ast (pc := 69) (L2 := [(0, va_rf a0), (1, .int a1), (2, va_rf a2), (3, va_rf a3), (4, .int a4), (5, va_rf a5)]) [0, 1, 2, 3, 4, 5] dX2_shipAtRank_69 (by decide) rfl rfl (zcB (j := 5) rfl (zcat_rf a5) rfl) ?_
      refine s_iload (pc := 71) 5 dX2_shipAtRank_71 rfl ?_
      refine s_aload (pc := 73) 0 dX2_shipAtRank_73 rfl ?_
      refine s_aload_n (pc := 75) 4 dX2_shipAtRank_75 rfl rfl ?_
      refine zS_ite (fun ht => ?_) (fun _ => zS_none)
      refine s_callV (pc := 76) (np := 1) (as := [va_rf a3]) (rest := [.int a4]) dX2_shipAtRank_76 ht (q := (RX6, TX6, 9)) rfl (c_X6_isAhead (by decide) r193 a3 h194) rfl rfl q2849 q2850 q2851 rfl (by simp [zcat_rf, zcat_i, zcat_l, zcat_f, zcat_d]) (zkI (fun x203 h204 => ?_)) zxo
      refine s_if_eq (pc := 79) (tgt := 86) dX2_shipAtRank_79 (by decide) (fun _ => ?_) (fun _ => ?_)
      · refine s_iconst (pc := 86) (v := 0) dX2_shipAtRank_86 (by decide) ?_
        exact s_sub (pc := 87) [1, 2, 3, 4, 6] rfl (w_X2_shipAtRank_87 K13 hK13 (f_X2_shipAtRank_49 K13 n) ih a0 a1 a2 a3 a5 0 a4 h204)
      · refine s_iconst (pc := 82) (v := 1) dX2_shipAtRank_82 (by decide) ?_
        refine s_goto (pc := 83) (tgt := 87) dX2_shipAtRank_83 (by decide) ?_
        exact s_sub (pc := 87) [1, 2, 3, 4, 6] rfl (w_X2_shipAtRank_87 K13 hK13 (f_X2_shipAtRank_49 K13 n) ih a0 a1 a2 a3 a5 1 a4 h204)
theorem w_X2_shipAtRank_107  (h : zH) : zS D z yX2_shipAtRank cX2_shipAtRank 7 (some .int) [] 10 h 107 [] [] (f_X2_shipAtRank_107 h) := by
  unfold f_X2_shipAtRank_107
  refine s_make0 (pc := 107) dX2_shipAtRank_107 dX2_shipAtRank_110 dX2_shipAtRank_111 xf_X2_348_350 (by decide) (by decide) (fun r207 h208 => ?_)
  exact s_athrow (pc := 114) dX2_shipAtRank_114 rfl (fun x => zxo x _)
theorem w_X2_shipAtRank_13 : ∀ (n : Nat) (a0 : Option Nat) (a1 : Int32) (a2 : Option Nat) (h : zH), zS D z yX2_shipAtRank cX2_shipAtRank 7 (some .int) [] 10 h 13 [(0, va_rf a0), (1, .int a1), (2, va_rf a2)] [] (f_X2_shipAtRank_13 n a0 a1 a2 h) := by
  intro n
  induction n with
  | zero => intros; exact zS_none
  | succ n ih =>
    intro a0 a1 a2 h
    rw [f_X2_shipAtRank_13.eq_2]
    refine s_aload_n (pc := 13) 2 dX2_shipAtRank_13 rfl rfl ?_
    refine zS_ite (fun ht => ?_) (fun _ => ?_)
    · refine s_callF (pc := 14) (np := 0) (as := []) (rest := []) dX2_shipAtRank_14 ht (q := (RX9, TX9, 2)) rfl (c_X9_hasNext (by decide) a2 h) ⟨_, _, _, q637⟩ rfl rfl q629 (by decide +kernel) q635 q633 rfl (by decide) (zkI (fun x6 h7 => ?_)) zxo
      refine s_if_eq (pc := 19) (tgt := 107) dX2_shipAtRank_19 (by decide) (fun _ => ?_) (fun _ => ?_)
      · exact s_sub (pc := 107) [] rfl (w_X2_shipAtRank_107 h7)
      · refine s_aload_n (pc := 22) 2 dX2_shipAtRank_22 rfl rfl ?_
        refine zS_ite (fun ht => ?_) (fun _ => ?_)
        · refine s_callF (pc := 23) (np := 0) (as := []) (rest := []) dX2_shipAtRank_23 ht (q := (RX9, TX9, 2)) rfl (c_X9_next (by decide) a2 h7) ⟨_, _, _, q677⟩ rfl rfl q670 (by decide +kernel) q675 q673 rfl (by decide) (zkR (fun r8 h9 => ?_)) zxo
          refine s_cast (pc := 28) dX2_shipAtRank_28 q836 zcs_FloatingDock_Ship ?_
          refine s_ast_n (pc := 31) (L2 := [(0, va_rf a0), (1, .int a1), (2, va_rf a2)]) [0, 1, 2] dX2_shipAtRank_31 rfl (by decide) rfl rfl (zcB (j := 2) rfl (zcat_rf a2) rfl) ?_
          refine s_iconst (pc := 32) (v := 0) dX2_shipAtRank_32 (by decide) ?_
          refine s_ist (pc := 33) (L2 := [(3, va_rf r8), (0, va_rf a0), (1, .int a1), (2, va_rf a2)]) [0, 1, 2, 3] dX2_shipAtRank_33 (by decide) rfl rfl (zcB (j := 0) rfl (zcat_rf r8) rfl) ?_
          refine s_aload_n (pc := 35) 2 dX2_shipAtRank_35 rfl rfl ?_
          refine s_gR (pc := 36) dX2_shipAtRank_36 gf_X2_12 (fun r10 => ?_)
          refine zS_ite (fun ht => ?_) (fun _ => zS_none)
          refine s_callV (pc := 39) (np := 0) (as := []) (rest := []) dX2_shipAtRank_39 ht (q := (RJ2, TJ2, 12)) rfl (c_J2_values (by decide) r10 h9) rfl rfl q413 q414 q415 rfl (by decide) (zkR (fun r11 h12 => ?_)) zxo
          refine zS_ite (fun ht => ?_) (fun _ => zS_none)
          refine s_callF (pc := 42) (np := 0) (as := []) (rest := []) dX2_shipAtRank_42 ht (q := (RJ13, TJ13, 2)) rfl (c_J13_iterator (by decide) r11 h12) ⟨_, _, _, q615⟩ rfl rfl q436 (by decide +kernel) q613 q611 rfl (by decide) (zkR (fun r13 h14 => ?_)) zxo
          refine s_ast (pc := 47) (L2 := [(4, .int 0), (3, va_rf r8), (0, va_rf a0), (1, .int a1), (2, va_rf a2)]) [0, 1, 2, 3, 4] dX2_shipAtRank_47 (by decide) rfl rfl (zcB (j := 0) rfl rfl rfl) ?_
          exact s_sub (pc := 49) [3, 4, 5, 2, 1, 0] rfl (w_X2_shipAtRank_49 (f_X2_shipAtRank_13 n) ih zfuel a0 a1 a2 r8 0 r13 h14)
        refine zS_ite (fun ht => ?_) (fun _ => ?_)
        · refine s_callF (pc := 23) (np := 0) (as := []) (rest := []) dX2_shipAtRank_23 ht (q := (RJ15, TJ15, 4)) rfl (c_J15_next (by decide) a2 h7) ⟨_, _, _, q788⟩ rfl rfl q670 (by decide +kernel) q786 q784 rfl (by decide) (zkR (fun r8 h9 => ?_)) zxo
          refine s_cast (pc := 28) dX2_shipAtRank_28 q836 zcs_FloatingDock_Ship ?_
          refine s_ast_n (pc := 31) (L2 := [(0, va_rf a0), (1, .int a1), (2, va_rf a2)]) [0, 1, 2] dX2_shipAtRank_31 rfl (by decide) rfl rfl (zcB (j := 2) rfl (zcat_rf a2) rfl) ?_
          refine s_iconst (pc := 32) (v := 0) dX2_shipAtRank_32 (by decide) ?_
          refine s_ist (pc := 33) (L2 := [(3, va_rf r8), (0, va_rf a0), (1, .int a1), (2, va_rf a2)]) [0, 1, 2, 3] dX2_shipAtRank_33 (by decide) rfl rfl (zcB (j := 0) rfl (zcat_rf r8) rfl) ?_
          refine s_aload_n (pc := 35) 2 dX2_shipAtRank_35 rfl rfl ?_
          refine s_gR (pc := 36) dX2_shipAtRank_36 gf_X2_12 (fun r15 => ?_)
          refine zS_ite (fun ht => ?_) (fun _ => zS_none)
          refine s_callV (pc := 39) (np := 0) (as := []) (rest := []) dX2_shipAtRank_39 ht (q := (RJ2, TJ2, 12)) rfl (c_J2_values (by decide) r15 h9) rfl rfl q413 q414 q415 rfl (by decide) (zkR (fun r16 h17 => ?_)) zxo
          refine zS_ite (fun ht => ?_) (fun _ => zS_none)
          refine s_callF (pc := 42) (np := 0) (as := []) (rest := []) dX2_shipAtRank_42 ht (q := (RJ13, TJ13, 2)) rfl (c_J13_iterator (by decide) r16 h17) ⟨_, _, _, q615⟩ rfl rfl q436 (by decide +kernel) q613 q611 rfl (by decide) (zkR (fun r18 h19 => ?_)) zxo
          refine s_ast (pc := 47) (L2 := [(4, .int 0), (3, va_rf r8), (0, va_rf a0), (1, .int a1), (2, va_rf a2)]) [0, 1, 2, 3, 4] dX2_shipAtRank_47 (by decide) rfl rfl (zcB (j := 0) rfl rfl rfl) ?_
          exact s_sub (pc := 49) [3, 4, 5, 2, 1, 0] rfl (w_X2_shipAtRank_49 (f_X2_shipAtRank_13 n) ih zfuel a0 a1 a2 r8 0 r18 h19)
        refine zS_ite (fun ht => ?_) (fun _ => ?_)
        · refine s_callF (pc := 23) (np := 0) (as := []) (rest := []) dX2_shipAtRank_23 ht (q := (RJ17, TJ17, 5)) rfl (c_J17_next (by decide) a2 h7) ⟨_, _, _, q799⟩ rfl rfl q670 (by decide +kernel) q797 q795 rfl (by decide) (zkR (fun r8 h9 => ?_)) zxo
          refine s_cast (pc := 28) dX2_shipAtRank_28 q836 zcs_FloatingDock_Ship ?_
          refine s_ast_n (pc := 31) (L2 := [(0, va_rf a0), (1, .int a1), (2, va_rf a2)]) [0, 1, 2] dX2_shipAtRank_31 rfl (by decide) rfl rfl (zcB (j := 2) rfl (zcat_rf a2) rfl) ?_
          refine s_iconst (pc := 32) (v := 0) dX2_shipAtRank_32 (by decide) ?_
          refine s_ist (pc := 33) (L2 := [(3, va_rf r8), (0, va_rf a0), (1, .int a1), (2, va_rf a2)]) [0, 1, 2, 3] dX2_shipAtRank_33 (by decide) rfl rfl (zcB (j := 0) rfl (zcat_rf r8) rfl) ?_
          refine s_aload_n (pc := 35) 2 dX2_shipAtRank_35 rfl rfl ?_
          refine s_gR (pc := 36) dX2_shipAtRank_36 gf_X2_12 (fun r20 => ?_)
          refine zS_ite (fun ht => ?_) (fun _ => zS_none)
          refine s_callV (pc := 39) (np := 0) (as := []) (rest := []) dX2_shipAtRank_39 ht (q := (RJ2, TJ2, 12)) rfl (c_J2_values (by decide) r20 h9) rfl rfl q413 q414 q415 rfl (by decide) (zkR (fun r21 h22 => ?_)) zxo
          refine zS_ite (fun ht => ?_) (fun _ => zS_none)
          refine s_callF (pc := 42) (np := 0) (as := []) (rest := []) dX2_shipAtRank_42 ht (q := (RJ13, TJ13, 2)) rfl (c_J13_iterator (by decide) r21 h22) ⟨_, _, _, q615⟩ rfl rfl q436 (by decide +kernel) q613 q611 rfl (by decide) (zkR (fun r23 h24 => ?_)) zxo
          refine s_ast (pc := 47) (L2 := [(4, .int 0), (3, va_rf r8), (0, va_rf a0), (1, .int a1), (2, va_rf a2)]) [0, 1, 2, 3, 4] dX2_shipAtRank_47 (by decide) rfl rfl (zcB (j := 0) rfl rfl rfl) ?_
          exact s_sub (pc := 49) [3, 4, 5, 2, 1, 0] rfl (w_X2_shipAtRank_49 (f_X2_shipAtRank_13 n) ih zfuel a0 a1 a2 r8 0 r23 h24)
        refine zS_ite (fun ht => ?_) (fun _ => ?_)
        · refine s_callF (pc := 23) (np := 0) (as := []) (rest := []) dX2_shipAtRank_23 ht (q := (RJ21, TJ21, 5)) rfl (c_J21_next (by decide) a2 h7) ⟨_, _, _, q812⟩ rfl rfl q670 (by decide +kernel) q810 q808 rfl (by decide) (zkR (fun r8 h9 => ?_)) zxo
          refine s_cast (pc := 28) dX2_shipAtRank_28 q836 zcs_FloatingDock_Ship ?_
          refine s_ast_n (pc := 31) (L2 := [(0, va_rf a0), (1, .int a1), (2, va_rf a2)]) [0, 1, 2] dX2_shipAtRank_31 rfl (by decide) rfl rfl (zcB (j := 2) rfl (zcat_rf a2) rfl) ?_
          refine s_iconst (pc := 32) (v := 0) dX2_shipAtRank_32 (by decide) ?_
          refine s_ist (pc := 33) (L2 := [(3, va_rf r8), (0, va_rf a0), (1, .int a1), (2, va_rf a2)]) [0, 1, 2, 3] dX2_shipAtRank_33 (by decide) rfl rfl (zcB (j := 0) rfl (zcat_rf r8) rfl) ?_
          refine s_aload_n (pc := 35) 2 dX2_shipAtRank_35 rfl rfl ?_
          refine s_gR (pc := 36) dX2_shipAtRank_36 gf_X2_12 (fun r25 => ?_)
          refine zS_ite (fun ht => ?_) (fun _ => zS_none)
          refine s_callV (pc := 39) (np := 0) (as := []) (rest := []) dX2_shipAtRank_39 ht (q := (RJ2, TJ2, 12)) rfl (c_J2_values (by decide) r25 h9) rfl rfl q413 q414 q415 rfl (by decide) (zkR (fun r26 h27 => ?_)) zxo
          refine zS_ite (fun ht => ?_) (fun _ => zS_none)
          refine s_callF (pc := 42) (np := 0) (as := []) (rest := []) dX2_shipAtRank_42 ht (q := (RJ13, TJ13, 2)) rfl (c_J13_iterator (by decide) r26 h27) ⟨_, _, _, q615⟩ rfl rfl q436 (by decide +kernel) q613 q611 rfl (by decide) (zkR (fun r28 h29 => ?_)) zxo
          refine s_ast (pc := 47) (L2 := [(4, .int 0), (3, va_rf r8), (0, va_rf a0), (1, .int a1), (2, va_rf a2)]) [0, 1, 2, 3, 4] dX2_shipAtRank_47 (by decide) rfl rfl (zcB (j := 0) rfl rfl rfl) ?_
          exact s_sub (pc := 49) [3, 4, 5, 2, 1, 0] rfl (w_X2_shipAtRank_49 (f_X2_shipAtRank_13 n) ih zfuel a0 a1 a2 r8 0 r28 h29)
        refine zS_ite (fun ht => ?_) (fun _ => zS_none)
        refine s_callF (pc := 23) (np := 0) (as := []) (rest := []) dX2_shipAtRank_23 ht (q := (RJ22, TJ22, 5)) rfl (c_J22_next (by decide) a2 h7) ⟨_, _, _, q832⟩ rfl rfl q670 (by decide +kernel) q830 q828 rfl (by decide) (zkR (fun r8 h9 => ?_)) zxo
        refine s_cast (pc := 28) dX2_shipAtRank_28 q836 zcs_FloatingDock_Ship ?_
        refine s_ast_n (pc := 31) (L2 := [(0, va_rf a0), (1, .int a1), (2, va_rf a2)]) [0, 1, 2] dX2_shipAtRank_31 rfl (by decide) rfl rfl (zcB (j := 2) rfl (zcat_rf a2) rfl) ?_
        refine s_iconst (pc := 32) (v := 0) dX2_shipAtRank_32 (by decide) ?_
        refine s_ist (pc := 33) (L2 := [(3, va_rf r8), (0, va_rf a0), (1, .int a1), (2, va_rf a2)]) [0, 1, 2, 3] dX2_shipAtRank_33 (by decide) rfl rfl (zcB (j := 0) rfl (zcat_rf r8) rfl) ?_
        refine s_aload_n (pc := 35) 2 dX2_shipAtRank_35 rfl rfl ?_
        refine s_gR (pc := 36) dX2_shipAtRank_36 gf_X2_12 (fun r30 => ?_)
        refine zS_ite (fun ht => ?_) (fun _ => zS_none)
        refine s_callV (pc := 39) (np := 0) (as := []) (rest := []) dX2_shipAtRank_39 ht (q := (RJ2, TJ2, 12)) rfl (c_J2_values (by decide) r30 h9) rfl rfl q413 q414 q415 rfl (by decide) (zkR (fun r31 h32 => ?_)) zxo
        refine zS_ite (fun ht => ?_) (fun _ => zS_none)
        refine s_callF (pc := 42) (np := 0) (as := []) (rest := []) dX2_shipAtRank_42 ht (q := (RJ13, TJ13, 2)) rfl (c_J13_iterator (by decide) r31 h32) ⟨_, _, _, q615⟩ rfl rfl q436 (by decide +kernel) q613 q611 rfl (by decide) (zkR (fun r33 h34 => ?_)) zxo
        refine s_ast (pc := 47) (L2 := [(4, .int 0), (3, va_rf r8), (0, va_rf a0), (1, .int a1), (2, va_rf a2)]) [0, 1, 2, 3, 4] dX2_shipAtRank_47 (by decide) rfl rfl (zcB (j := 0) rfl rfl rfl) ?_
        exact s_sub (pc := 49) [3, 4, 5, 2, 1, 0] rfl (w_X2_shipAtRank_49 (f_X2_shipAtRank_13 n) ih zfuel a0 a1 a2 r8 0 r33 h34)
    refine zS_ite (fun ht => ?_) (fun _ => ?_)
    · refine s_callF (pc := 14) (np := 0) (as := []) (rest := []) dX2_shipAtRank_14 ht (q := (RJ15, TJ15, 4)) rfl (c_J15_hasNext (by decide) a2 h) ⟨_, _, _, q653⟩ rfl rfl q629 (by decide +kernel) q651 q649 rfl (by decide) (zkI (fun x6 h7 => ?_)) zxo
      refine s_if_eq (pc := 19) (tgt := 107) dX2_shipAtRank_19 (by decide) (fun _ => ?_) (fun _ => ?_)
      · exact s_sub (pc := 107) [] rfl (w_X2_shipAtRank_107 h7)
      · refine s_aload_n (pc := 22) 2 dX2_shipAtRank_22 rfl rfl ?_
        refine zS_ite (fun ht => ?_) (fun _ => ?_)
        · refine s_callF (pc := 23) (np := 0) (as := []) (rest := []) dX2_shipAtRank_23 ht (q := (RX9, TX9, 2)) rfl (c_X9_next (by decide) a2 h7) ⟨_, _, _, q677⟩ rfl rfl q670 (by decide +kernel) q675 q673 rfl (by decide) (zkR (fun r35 h36 => ?_)) zxo
          refine s_cast (pc := 28) dX2_shipAtRank_28 q836 zcs_FloatingDock_Ship ?_
          refine s_ast_n (pc := 31) (L2 := [(0, va_rf a0), (1, .int a1), (2, va_rf a2)]) [0, 1, 2] dX2_shipAtRank_31 rfl (by decide) rfl rfl (zcB (j := 2) rfl (zcat_rf a2) rfl) ?_
          refine s_iconst (pc := 32) (v := 0) dX2_shipAtRank_32 (by decide) ?_
          refine s_ist (pc := 33) (L2 := [(3, va_rf r35), (0, va_rf a0), (1, .int a1), (2, va_rf a2)]) [0, 1, 2, 3] dX2_shipAtRank_33 (by decide) rfl rfl (zcB (j := 0) rfl (zcat_rf r35) rfl) ?_
          refine s_aload_n (pc := 35) 2 dX2_shipAtRank_35 rfl rfl ?_
          refine s_gR (pc := 36) dX2_shipAtRank_36 gf_X2_12 (fun r37 => ?_)
          refine zS_ite (fun ht => ?_) (fun _ => zS_none)
          refine s_callV (pc := 39) (np := 0) (as := []) (rest := []) dX2_shipAtRank_39 ht (q := (RJ2, TJ2, 12)) rfl (c_J2_values (by decide) r37 h36) rfl rfl q413 q414 q415 rfl (by decide) (zkR (fun r38 h39 => ?_)) zxo
          refine zS_ite (fun ht => ?_) (fun _ => zS_none)
          refine s_callF (pc := 42) (np := 0) (as := []) (rest := []) dX2_shipAtRank_42 ht (q := (RJ13, TJ13, 2)) rfl (c_J13_iterator (by decide) r38 h39) ⟨_, _, _, q615⟩ rfl rfl q436 (by decide +kernel) q613 q611 rfl (by decide) (zkR (fun r40 h41 => ?_)) zxo
          refine s_ast (pc := 47) (L2 := [(4, .int 0), (3, va_rf r35), (0, va_rf a0), (1, .int a1), (2, va_rf a2)]) [0, 1, 2, 3, 4] dX2_shipAtRank_47 (by decide) rfl rfl (zcB (j := 0) rfl rfl rfl) ?_
          exact s_sub (pc := 49) [3, 4, 5, 2, 1, 0] rfl (w_X2_shipAtRank_49 (f_X2_shipAtRank_13 n) ih zfuel a0 a1 a2 r35 0 r40 h41)
        refine zS_ite (fun ht => ?_) (fun _ => ?_)
        · refine s_callF (pc := 23) (np := 0) (as := []) (rest := []) dX2_shipAtRank_23 ht (q := (RJ15, TJ15, 4)) rfl (c_J15_next (by decide) a2 h7) ⟨_, _, _, q788⟩ rfl rfl q670 (by decide +kernel) q786 q784 rfl (by decide) (zkR (fun r35 h36 => ?_)) zxo
          refine s_cast (pc := 28) dX2_shipAtRank_28 q836 zcs_FloatingDock_Ship ?_
          refine s_ast_n (pc := 31) (L2 := [(0, va_rf a0), (1, .int a1), (2, va_rf a2)]) [0, 1, 2] dX2_shipAtRank_31 rfl (by decide) rfl rfl (zcB (j := 2) rfl (zcat_rf a2) rfl) ?_
          refine s_iconst (pc := 32) (v := 0) dX2_shipAtRank_32 (by decide) ?_
          refine s_ist (pc := 33) (L2 := [(3, va_rf r35), (0, va_rf a0), (1, .int a1), (2, va_rf a2)]) [0, 1, 2, 3] dX2_shipAtRank_33 (by decide) rfl rfl (zcB (j := 0) rfl (zcat_rf r35) rfl) ?_
          refine s_aload_n (pc := 35) 2 dX2_shipAtRank_35 rfl rfl ?_
          refine s_gR (pc := 36) dX2_shipAtRank_36 gf_X2_12 (fun r42 => ?_)
          refine zS_ite (fun ht => ?_) (fun _ => zS_none)
          refine s_callV (pc := 39) (np := 0) (as := []) (rest := []) dX2_shipAtRank_39 ht (q := (RJ2, TJ2, 12)) rfl (c_J2_values (by decide) r42 h36) rfl rfl q413 q414 q415 rfl (by decide) (zkR (fun r43 h44 => ?_)) zxo
          refine zS_ite (fun ht => ?_) (fun _ => zS_none)
          refine s_callF (pc := 42) (np := 0) (as := []) (rest := []) dX2_shipAtRank_42 ht (q := (RJ13, TJ13, 2)) rfl (c_J13_iterator (by decide) r43 h44) ⟨_, _, _, q615⟩ rfl rfl q436 (by decide +kernel) q613 q611 rfl (by decide) (zkR (fun r45 h46 => ?_)) zxo
          refine s_ast (pc := 47) (L2 := [(4, .int 0), (3, va_rf r35), (0, va_rf a0), (1, .int a1), (2, va_rf a2)]) [0, 1, 2, 3, 4] dX2_shipAtRank_47 (by decide) rfl rfl (zcB (j := 0) rfl rfl rfl) ?_
          exact s_sub (pc := 49) [3, 4, 5, 2, 1, 0] rfl (w_X2_shipAtRank_49 (f_X2_shipAtRank_13 n) ih zfuel a0 a1 a2 r35 0 r45 h46)
        refine zS_ite (fun ht => ?_) (fun _ => ?_)
        · refine s_callF (pc := 23) (np := 0) (as := []) (rest := []) dX2_shipAtRank_23 ht (q := (RJ17, TJ17, 5)) rfl (c_J17_next (by decide) a2 h7) ⟨_, _, _, q799⟩ rfl rfl q670 (by decide +kernel) q797 q795 rfl (by decide) (zkR (fun r35 h36 => ?_)) zxo
          refine s_cast (pc := 28) dX2_shipAtRank_28 q836 zcs_FloatingDock_Ship ?_
          refine s_ast_n (pc := 31) (L2 := [(0, va_rf a0), (1, .int a1), (2, va_rf a2)]) [0, 1, 2] dX2_shipAtRank_31 rfl (by decide) rfl rfl (zcB (j := 2) rfl (zcat_rf a2) rfl) ?_
          refine s_iconst (pc := 32) (v := 0) dX2_shipAtRank_32 (by decide) ?_
          refine s_ist (pc := 33) (L2 := [(3, va_rf r35), (0, va_rf a0), (1, .int a1), (2, va_rf a2)]) [0, 1, 2, 3] dX2_shipAtRank_33 (by decide) rfl rfl (zcB (j := 0) rfl (zcat_rf r35) rfl) ?_
          refine s_aload_n (pc := 35) 2 dX2_shipAtRank_35 rfl rfl ?_
          refine s_gR (pc := 36) dX2_shipAtRank_36 gf_X2_12 (fun r47 => ?_)
          refine zS_ite (fun ht => ?_) (fun _ => zS_none)
          refine s_callV (pc := 39) (np := 0) (as := []) (rest := []) dX2_shipAtRank_39 ht (q := (RJ2, TJ2, 12)) rfl (c_J2_values (by decide) r47 h36) rfl rfl q413 q414 q415 rfl (by decide) (zkR (fun r48 h49 => ?_)) zxo
          refine zS_ite (fun ht => ?_) (fun _ => zS_none)
          refine s_callF (pc := 42) (np := 0) (as := []) (rest := []) dX2_shipAtRank_42 ht (q := (RJ13, TJ13, 2)) rfl (c_J13_iterator (by decide) r48 h49) ⟨_, _, _, q615⟩ rfl rfl q436 (by decide +kernel) q613 q611 rfl (by decide) (zkR (fun r50 h51 => ?_)) zxo
          refine s_ast (pc := 47) (L2 := [(4, .int 0), (3, va_rf r35), (0, va_rf a0), (1, .int a1), (2, va_rf a2)]) [0, 1, 2, 3, 4] dX2_shipAtRank_47 (by decide) rfl rfl (zcB (j := 0) rfl rfl rfl) ?_
          exact s_sub (pc := 49) [3, 4, 5, 2, 1, 0] rfl (w_X2_shipAtRank_49 (f_X2_shipAtRank_13 n) ih zfuel a0 a1 a2 r35 0 r50 h51)
        refine zS_ite (fun ht => ?_) (fun _ => ?_)
        · refine s_callF (pc := 23) (np := 0) (as := []) (rest := []) dX2_shipAtRank_23 ht (q := (RJ21, TJ21, 5)) rfl (c_J21_next (by decide) a2 h7) ⟨_, _, _, q812⟩ rfl rfl q670 (by decide +kernel) q810 q808 rfl (by decide) (zkR (fun r35 h36 => ?_)) zxo
          refine s_cast (pc := 28) dX2_shipAtRank_28 q836 zcs_FloatingDock_Ship ?_
          refine s_ast_n (pc := 31) (L2 := [(0, va_rf a0), (1, .int a1), (2, va_rf a2)]) [0, 1, 2] dX2_shipAtRank_31 rfl (by decide) rfl rfl (zcB (j := 2) rfl (zcat_rf a2) rfl) ?_
          refine s_iconst (pc := 32) (v := 0) dX2_shipAtRank_32 (by decide) ?_
          refine s_ist (pc := 33) (L2 := [(3, va_rf r35), (0, va_rf a0), (1, .int a1), (2, va_rf a2)]) [0, 1, 2, 3] dX2_shipAtRank_33 (by decide) rfl rfl (zcB (j := 0) rfl (zcat_rf r35) rfl) ?_
          refine s_aload_n (pc := 35) 2 dX2_shipAtRank_35 rfl rfl ?_
          refine s_gR (pc := 36) dX2_shipAtRank_36 gf_X2_12 (fun r52 => ?_)
          refine zS_ite (fun ht => ?_) (fun _ => zS_none)
          refine s_callV (pc := 39) (np := 0) (as := []) (rest := []) dX2_shipAtRank_39 ht (q := (RJ2, TJ2, 12)) rfl (c_J2_values (by decide) r52 h36) rfl rfl q413 q414 q415 rfl (by decide) (zkR (fun r53 h54 => ?_)) zxo
          refine zS_ite (fun ht => ?_) (fun _ => zS_none)
          refine s_callF (pc := 42) (np := 0) (as := []) (rest := []) dX2_shipAtRank_42 ht (q := (RJ13, TJ13, 2)) rfl (c_J13_iterator (by decide) r53 h54) ⟨_, _, _, q615⟩ rfl rfl q436 (by decide +kernel) q613 q611 rfl (by decide) (zkR (fun r55 h56 => ?_)) zxo
          refine s_ast (pc := 47) (L2 := [(4, .int 0), (3, va_rf r35), (0, va_rf a0), (1, .int a1), (2, va_rf a2)]) [0, 1, 2, 3, 4] dX2_shipAtRank_47 (by decide) rfl rfl (zcB (j := 0) rfl rfl rfl) ?_
          exact s_sub (pc := 49) [3, 4, 5, 2, 1, 0] rfl (w_X2_shipAtRank_49 (f_X2_shipAtRank_13 n) ih zfuel a0 a1 a2 r35 0 r55 h56)
        refine zS_ite (fun ht => ?_) (fun _ => zS_none)
        refine s_callF (pc := 23) (np := 0) (as := []) (rest := []) dX2_shipAtRank_23 ht (q := (RJ22, TJ22, 5)) rfl (c_J22_next (by decide) a2 h7) ⟨_, _, _, q832⟩ rfl rfl q670 (by decide +kernel) q830 q828 rfl (by decide) (zkR (fun r35 h36 => ?_)) zxo
        refine s_cast (pc := 28) dX2_shipAtRank_28 q836 zcs_FloatingDock_Ship ?_
        refine s_ast_n (pc := 31) (L2 := [(0, va_rf a0), (1, .int a1), (2, va_rf a2)]) [0, 1, 2] dX2_shipAtRank_31 rfl (by decide) rfl rfl (zcB (j := 2) rfl (zcat_rf a2) rfl) ?_
        refine s_iconst (pc := 32) (v := 0) dX2_shipAtRank_32 (by decide) ?_
        refine s_ist (pc := 33) (L2 := [(3, va_rf r35), (0, va_rf a0), (1, .int a1), (2, va_rf a2)]) [0, 1, 2, 3] dX2_shipAtRank_33 (by decide) rfl rfl (zcB (j := 0) rfl (zcat_rf r35) rfl) ?_
        refine s_aload_n (pc := 35) 2 dX2_shipAtRank_35 rfl rfl ?_
        refine s_gR (pc := 36) dX2_shipAtRank_36 gf_X2_12 (fun r57 => ?_)
        refine zS_ite (fun ht => ?_) (fun _ => zS_none)
        refine s_callV (pc := 39) (np := 0) (as := []) (rest := []) dX2_shipAtRank_39 ht (q := (RJ2, TJ2, 12)) rfl (c_J2_values (by decide) r57 h36) rfl rfl q413 q414 q415 rfl (by decide) (zkR (fun r58 h59 => ?_)) zxo
        refine zS_ite (fun ht => ?_) (fun _ => zS_none)
        refine s_callF (pc := 42) (np := 0) (as := []) (rest := []) dX2_shipAtRank_42 ht (q := (RJ13, TJ13, 2)) rfl (c_J13_iterator (by decide) r58 h59) ⟨_, _, _, q615⟩ rfl rfl q436 (by decide +kernel) q613 q611 rfl (by decide) (zkR (fun r60 h61 => ?_)) zxo
        refine s_ast (pc := 47) (L2 := [(4, .int 0), (3, va_rf r35), (0, va_rf a0), (1, .int a1), (2, va_rf a2)]) [0, 1, 2, 3, 4] dX2_shipAtRank_47 (by decide) rfl rfl (zcB (j := 0) rfl rfl rfl) ?_
        exact s_sub (pc := 49) [3, 4, 5, 2, 1, 0] rfl (w_X2_shipAtRank_49 (f_X2_shipAtRank_13 n) ih zfuel a0 a1 a2 r35 0 r60 h61)
    refine zS_ite (fun ht => ?_) (fun _ => ?_)
    · refine s_callF (pc := 14) (np := 0) (as := []) (rest := []) dX2_shipAtRank_14 ht (q := (RJ17, TJ17, 5)) rfl (c_J16_hasNext (by decide) a2 h) ⟨_, _, _, q659⟩ rfl rfl q629 (by decide +kernel) q657 q655 rfl (by decide) (zkI (fun x6 h7 => ?_)) zxo
      refine s_if_eq (pc := 19) (tgt := 107) dX2_shipAtRank_19 (by decide) (fun _ => ?_) (fun _ => ?_)
      · exact s_sub (pc := 107) [] rfl (w_X2_shipAtRank_107 h7)
      · refine s_aload_n (pc := 22) 2 dX2_shipAtRank_22 rfl rfl ?_
        refine zS_ite (fun ht => ?_) (fun _ => ?_)
        · refine s_callF (pc := 23) (np := 0) (as := []) (rest := []) dX2_shipAtRank_23 ht (q := (RX9, TX9, 2)) rfl (c_X9_next (by decide) a2 h7) ⟨_, _, _, q677⟩ rfl rfl q670 (by decide +kernel) q675 q673 rfl (by decide) (zkR (fun r62 h63 => ?_)) zxo
          refine s_cast (pc := 28) dX2_shipAtRank_28 q836 zcs_FloatingDock_Ship ?_
          refine s_ast_n (pc := 31) (L2 := [(0, va_rf a0), (1, .int a1), (2, va_rf a2)]) [0, 1, 2] dX2_shipAtRank_31 rfl (by decide) rfl rfl (zcB (j := 2) rfl (zcat_rf a2) rfl) ?_
          refine s_iconst (pc := 32) (v := 0) dX2_shipAtRank_32 (by decide) ?_
          refine s_ist (pc := 33) (L2 := [(3, va_rf r62), (0, va_rf a0), (1, .int a1), (2, va_rf a2)]) [0, 1, 2, 3] dX2_shipAtRank_33 (by decide) rfl rfl (zcB (j := 0) rfl (zcat_rf r62) rfl) ?_
          refine s_aload_n (pc := 35) 2 dX2_shipAtRank_35 rfl rfl ?_
          refine s_gR (pc := 36) dX2_shipAtRank_36 gf_X2_12 (fun r64 => ?_)
          refine zS_ite (fun ht => ?_) (fun _ => zS_none)
          refine s_callV (pc := 39) (np := 0) (as := []) (rest := []) dX2_shipAtRank_39 ht (q := (RJ2, TJ2, 12)) rfl (c_J2_values (by decide) r64 h63) rfl rfl q413 q414 q415 rfl (by decide) (zkR (fun r65 h66 => ?_)) zxo
          refine zS_ite (fun ht => ?_) (fun _ => zS_none)
          refine s_callF (pc := 42) (np := 0) (as := []) (rest := []) dX2_shipAtRank_42 ht (q := (RJ13, TJ13, 2)) rfl (c_J13_iterator (by decide) r65 h66) ⟨_, _, _, q615⟩ rfl rfl q436 (by decide +kernel) q613 q611 rfl (by decide) (zkR (fun r67 h68 => ?_)) zxo
          refine s_ast (pc := 47) (L2 := [(4, .int 0), (3, va_rf r62), (0, va_rf a0), (1, .int a1), (2, va_rf a2)]) [0, 1, 2, 3, 4] dX2_shipAtRank_47 (by decide) rfl rfl (zcB (j := 0) rfl rfl rfl) ?_
          exact s_sub (pc := 49) [3, 4, 5, 2, 1, 0] rfl (w_X2_shipAtRank_49 (f_X2_shipAtRank_13 n) ih zfuel a0 a1 a2 r62 0 r67 h68)
        refine zS_ite (fun ht => ?_) (fun _ => ?_)
        · refine s_callF (pc := 23) (np := 0) (as := []) (rest := []) dX2_shipAtRank_23 ht (q := (RJ15, TJ15, 4)) rfl (c_J15_next (by decide) a2 h7) ⟨_, _, _, q788⟩ rfl rfl q670 (by decide +kernel) q786 q784 rfl (by decide) (zkR (fun r62 h63 => ?_)) zxo
          refine s_cast (pc := 28) dX2_shipAtRank_28 q836 zcs_FloatingDock_Ship ?_
          refine s_ast_n (pc := 31) (L2 := [(0, va_rf a0), (1, .int a1), (2, va_rf a2)]) [0, 1, 2] dX2_shipAtRank_31 rfl (by decide) rfl rfl (zcB (j := 2) rfl (zcat_rf a2) rfl) ?_
          refine s_iconst (pc := 32) (v := 0) dX2_shipAtRank_32 (by decide) ?_
          refine s_ist (pc := 33) (L2 := [(3, va_rf r62), (0, va_rf a0), (1, .int a1), (2, va_rf a2)]) [0, 1, 2, 3] dX2_shipAtRank_33 (by decide) rfl rfl (zcB (j := 0) rfl (zcat_rf r62) rfl) ?_
          refine s_aload_n (pc := 35) 2 dX2_shipAtRank_35 rfl rfl ?_
          refine s_gR (pc := 36) dX2_shipAtRank_36 gf_X2_12 (fun r69 => ?_)
          refine zS_ite (fun ht => ?_) (fun _ => zS_none)
          refine s_callV (pc := 39) (np := 0) (as := []) (rest := []) dX2_shipAtRank_39 ht (q := (RJ2, TJ2, 12)) rfl (c_J2_values (by decide) r69 h63) rfl rfl q413 q414 q415 rfl (by decide) (zkR (fun r70 h71 => ?_)) zxo
          refine zS_ite (fun ht => ?_) (fun _ => zS_none)
          refine s_callF (pc := 42) (np := 0) (as := []) (rest := []) dX2_shipAtRank_42 ht (q := (RJ13, TJ13, 2)) rfl (c_J13_iterator (by decide) r70 h71) ⟨_, _, _, q615⟩ rfl rfl q436 (by decide +kernel) q613 q611 rfl (by decide) (zkR (fun r72 h73 => ?_)) zxo
          refine s_ast (pc := 47) (L2 := [(4, .int 0), (3, va_rf r62), (0, va_rf a0), (1, .int a1), (2, va_rf a2)]) [0, 1, 2, 3, 4] dX2_shipAtRank_47 (by decide) rfl rfl (zcB (j := 0) rfl rfl rfl) ?_
          exact s_sub (pc := 49) [3, 4, 5, 2, 1, 0] rfl (w_X2_shipAtRank_49 (f_X2_shipAtRank_13 n) ih zfuel a0 a1 a2 r62 0 r72 h73)
        refine zS_ite (fun ht => ?_) (fun _ => ?_)
        · refine s_callF (pc := 23) (np := 0) (as := []) (rest := []) dX2_shipAtRank_23 ht (q := (RJ17, TJ17, 5)) rfl (c_J17_next (by decide) a2 h7) ⟨_, _, _, q799⟩ rfl rfl q670 (by decide +kernel) q797 q795 rfl (by decide) (zkR (fun r62 h63 => ?_)) zxo
          refine s_cast (pc := 28) dX2_shipAtRank_28 q836 zcs_FloatingDock_Ship ?_
          refine s_ast_n (pc := 31) (L2 := [(0, va_rf a0), (1, .int a1), (2, va_rf a2)]) [0, 1, 2] dX2_shipAtRank_31 rfl (by decide) rfl rfl (zcB (j := 2) rfl (zcat_rf a2) rfl) ?_
          refine s_iconst (pc := 32) (v := 0) dX2_shipAtRank_32 (by decide) ?_
          refine s_ist (pc := 33) (L2 := [(3, va_rf r62), (0, va_rf a0), (1, .int a1), (2, va_rf a2)]) [0, 1, 2, 3] dX2_shipAtRank_33 (by decide) rfl rfl (zcB (j := 0) rfl (zcat_rf r62) rfl) ?_
          refine s_aload_n (pc := 35) 2 dX2_shipAtRank_35 rfl rfl ?_
          refine s_gR (pc := 36) dX2_shipAtRank_36 gf_X2_12 (fun r74 => ?_)
          refine zS_ite (fun ht => ?_) (fun _ => zS_none)
          refine s_callV (pc := 39) (np := 0) (as := []) (rest := []) dX2_shipAtRank_39 ht (q := (RJ2, TJ2, 12)) rfl (c_J2_values (by decide) r74 h63) rfl rfl q413 q414 q415 rfl (by decide) (zkR (fun r75 h76 => ?_)) zxo
          refine zS_ite (fun ht => ?_) (fun _ => zS_none)
          refine s_callF (pc := 42) (np := 0) (as := []) (rest := []) dX2_shipAtRank_42 ht (q := (RJ13, TJ13, 2)) rfl (c_J13_iterator (by decide) r75 h76) ⟨_, _, _, q615⟩ rfl rfl q436 (by decide +kernel) q613 q611 rfl (by decide) (zkR (fun r77 h78 => ?_)) zxo
          refine s_ast (pc := 47) (L2 := [(4, .int 0), (3, va_rf r62), (0, va_rf a0), (1, .int a1), (2, va_rf a2)]) [0, 1, 2, 3, 4] dX2_shipAtRank_47 (by decide) rfl rfl (zcB (j := 0) rfl rfl rfl) ?_
          exact s_sub (pc := 49) [3, 4, 5, 2, 1, 0] rfl (w_X2_shipAtRank_49 (f_X2_shipAtRank_13 n) ih zfuel a0 a1 a2 r62 0 r77 h78)
        refine zS_ite (fun ht => ?_) (fun _ => ?_)
        · refine s_callF (pc := 23) (np := 0) (as := []) (rest := []) dX2_shipAtRank_23 ht (q := (RJ21, TJ21, 5)) rfl (c_J21_next (by decide) a2 h7) ⟨_, _, _, q812⟩ rfl rfl q670 (by decide +kernel) q810 q808 rfl (by decide) (zkR (fun r62 h63 => ?_)) zxo
          refine s_cast (pc := 28) dX2_shipAtRank_28 q836 zcs_FloatingDock_Ship ?_
          refine s_ast_n (pc := 31) (L2 := [(0, va_rf a0), (1, .int a1), (2, va_rf a2)]) [0, 1, 2] dX2_shipAtRank_31 rfl (by decide) rfl rfl (zcB (j := 2) rfl (zcat_rf a2) rfl) ?_
          refine s_iconst (pc := 32) (v := 0) dX2_shipAtRank_32 (by decide) ?_
          refine s_ist (pc := 33) (L2 := [(3, va_rf r62), (0, va_rf a0), (1, .int a1), (2, va_rf a2)]) [0, 1, 2, 3] dX2_shipAtRank_33 (by decide) rfl rfl (zcB (j := 0) rfl (zcat_rf r62) rfl) ?_
          refine s_aload_n (pc := 35) 2 dX2_shipAtRank_35 rfl rfl ?_
          refine s_gR (pc := 36) dX2_shipAtRank_36 gf_X2_12 (fun r79 => ?_)
          refine zS_ite (fun ht => ?_) (fun _ => zS_none)
          refine s_callV (pc := 39) (np := 0) (as := []) (rest := []) dX2_shipAtRank_39 ht (q := (RJ2, TJ2, 12)) rfl (c_J2_values (by decide) r79 h63) rfl rfl q413 q414 q415 rfl (by decide) (zkR (fun r80 h81 => ?_)) zxo
          refine zS_ite (fun ht => ?_) (fun _ => zS_none)
          refine s_callF (pc := 42) (np := 0) (as := []) (rest := []) dX2_shipAtRank_42 ht (q := (RJ13, TJ13, 2)) rfl (c_J13_iterator (by decide) r80 h81) ⟨_, _, _, q615⟩ rfl rfl q436 (by decide +kernel) q613 q611 rfl (by decide) (zkR (fun r82 h83 => ?_)) zxo
          refine s_ast (pc := 47) (L2 := [(4, .int 0), (3, va_rf r62), (0, va_rf a0), (1, .int a1), (2, va_rf a2)]) [0, 1, 2, 3, 4] dX2_shipAtRank_47 (by decide) rfl rfl (zcB (j := 0) rfl rfl rfl) ?_
          exact s_sub (pc := 49) [3, 4, 5, 2, 1, 0] rfl (w_X2_shipAtRank_49 (f_X2_shipAtRank_13 n) ih zfuel a0 a1 a2 r62 0 r82 h83)
        refine zS_ite (fun ht => ?_) (fun _ => zS_none)
        refine s_callF (pc := 23) (np := 0) (as := []) (rest := []) dX2_shipAtRank_23 ht (q := (RJ22, TJ22, 5)) rfl (c_J22_next (by decide) a2 h7) ⟨_, _, _, q832⟩ rfl rfl q670 (by decide +kernel) q830 q828 rfl (by decide) (zkR (fun r62 h63 => ?_)) zxo
        refine s_cast (pc := 28) dX2_shipAtRank_28 q836 zcs_FloatingDock_Ship ?_
        refine s_ast_n (pc := 31) (L2 := [(0, va_rf a0), (1, .int a1), (2, va_rf a2)]) [0, 1, 2] dX2_shipAtRank_31 rfl (by decide) rfl rfl (zcB (j := 2) rfl (zcat_rf a2) rfl) ?_
        refine s_iconst (pc := 32) (v := 0) dX2_shipAtRank_32 (by decide) ?_
        refine s_ist (pc := 33) (L2 := [(3, va_rf r62), (0, va_rf a0), (1, .int a1), (2, va_rf a2)]) [0, 1, 2, 3] dX2_shipAtRank_33 (by decide) rfl rfl (zcB (j := 0) rfl (zcat_rf r62) rfl) ?_
        refine s_aload_n (pc := 35) 2 dX2_shipAtRank_35 rfl rfl ?_
        refine s_gR (pc := 36) dX2_shipAtRank_36 gf_X2_12 (fun r84 => ?_)
        refine zS_ite (fun ht => ?_) (fun _ => zS_none)
        refine s_callV (pc := 39) (np := 0) (as := []) (rest := []) dX2_shipAtRank_39 ht (q := (RJ2, TJ2, 12)) rfl (c_J2_values (by decide) r84 h63) rfl rfl q413 q414 q415 rfl (by decide) (zkR (fun r85 h86 => ?_)) zxo
        refine zS_ite (fun ht => ?_) (fun _ => zS_none)
        refine s_callF (pc := 42) (np := 0) (as := []) (rest := []) dX2_shipAtRank_42 ht (q := (RJ13, TJ13, 2)) rfl (c_J13_iterator (by decide) r85 h86) ⟨_, _, _, q615⟩ rfl rfl q436 (by decide +kernel) q613 q611 rfl (by decide) (zkR (fun r87 h88 => ?_)) zxo
        refine s_ast (pc := 47) (L2 := [(4, .int 0), (3, va_rf r62), (0, va_rf a0), (1, .int a1), (2, va_rf a2)]) [0, 1, 2, 3, 4] dX2_shipAtRank_47 (by decide) rfl rfl (zcB (j := 0) rfl rfl rfl) ?_
        exact s_sub (pc := 49) [3, 4, 5, 2, 1, 0] rfl (w_X2_shipAtRank_49 (f_X2_shipAtRank_13 n) ih zfuel a0 a1 a2 r62 0 r87 h88)
    refine zS_ite (fun ht => ?_) (fun _ => ?_)
    · refine s_callF (pc := 14) (np := 0) (as := []) (rest := []) dX2_shipAtRank_14 ht (q := (RJ21, TJ21, 5)) rfl (c_J20_hasNext (by decide) a2 h) ⟨_, _, _, q665⟩ rfl rfl q629 (by decide +kernel) q663 q661 rfl (by decide) (zkI (fun x6 h7 => ?_)) zxo
      refine s_if_eq (pc := 19) (tgt := 107) dX2_shipAtRank_19 (by decide) (fun _ => ?_) (fun _ => ?_)
      · exact s_sub (pc := 107) [] rfl (w_X2_shipAtRank_107 h7)
      · refine s_aload_n (pc := 22) 2 dX2_shipAtRank_22 rfl rfl ?_
        refine zS_ite (fun ht => ?_) (fun _ => ?_)
        · refine s_callF (pc := 23) (np := 0) (as := []) (rest := []) dX2_shipAtRank_23 ht (q := (RX9, TX9, 2)) rfl (c_X9_next (by decide) a2 h7) ⟨_, _, _, q677⟩ rfl rfl q670 (by decide +kernel) q675 q673 rfl (by decide) (zkR (fun r89 h90 => ?_)) zxo
          refine s_cast (pc := 28) dX2_shipAtRank_28 q836 zcs_FloatingDock_Ship ?_
          refine s_ast_n (pc := 31) (L2 := [(0, va_rf a0), (1, .int a1), (2, va_rf a2)]) [0, 1, 2] dX2_shipAtRank_31 rfl (by decide) rfl rfl (zcB (j := 2) rfl (zcat_rf a2) rfl) ?_
          refine s_iconst (pc := 32) (v := 0) dX2_shipAtRank_32 (by decide) ?_
          refine s_ist (pc := 33) (L2 := [(3, va_rf r89), (0, va_rf a0), (1, .int a1), (2, va_rf a2)]) [0, 1, 2, 3] dX2_shipAtRank_33 (by decide) rfl rfl (zcB (j := 0) rfl (zcat_rf r89) rfl) ?_
          refine s_aload_n (pc := 35) 2 dX2_shipAtRank_35 rfl rfl ?_
          refine s_gR (pc := 36) dX2_shipAtRank_36 gf_X2_12 (fun r91 => ?_)
          refine zS_ite (fun ht => ?_) (fun _ => zS_none)
          refine s_callV (pc := 39) (np := 0) (as := []) (rest := []) dX2_shipAtRank_39 ht (q := (RJ2, TJ2, 12)) rfl (c_J2_values (by decide) r91 h90) rfl rfl q413 q414 q415 rfl (by decide) (zkR (fun r92 h93 => ?_)) zxo
          refine zS_ite (fun ht => ?_) (fun _ => zS_none)
          refine s_callF (pc := 42) (np := 0) (as := []) (rest := []) dX2_shipAtRank_42 ht (q := (RJ13, TJ13, 2)) rfl (c_J13_iterator (by decide) r92 h93) ⟨_, _, _, q615⟩ rfl rfl q436 (by decide +kernel) q613 q611 rfl (by decide) (zkR (fun r94 h95 => ?_)) zxo
          refine s_ast (pc := 47) (L2 := [(4, .int 0), (3, va_rf r89), (0, va_rf a0), (1, .int a1), (2, va_rf a2)]) [0, 1, 2, 3, 4] dX2_shipAtRank_47 (by decide) rfl rfl (zcB (j := 0) rfl rfl rfl) ?_
          exact s_sub (pc := 49) [3, 4, 5, 2, 1, 0] rfl (w_X2_shipAtRank_49 (f_X2_shipAtRank_13 n) ih zfuel a0 a1 a2 r89 0 r94 h95)
        refine zS_ite (fun ht => ?_) (fun _ => ?_)
        · refine s_callF (pc := 23) (np := 0) (as := []) (rest := []) dX2_shipAtRank_23 ht (q := (RJ15, TJ15, 4)) rfl (c_J15_next (by decide) a2 h7) ⟨_, _, _, q788⟩ rfl rfl q670 (by decide +kernel) q786 q784 rfl (by decide) (zkR (fun r89 h90 => ?_)) zxo
          refine s_cast (pc := 28) dX2_shipAtRank_28 q836 zcs_FloatingDock_Ship ?_
          refine s_ast_n (pc := 31) (L2 := [(0, va_rf a0), (1, .int a1), (2, va_rf a2)]) [0, 1, 2] dX2_shipAtRank_31 rfl (by decide) rfl rfl (zcB (j := 2) rfl (zcat_rf a2) rfl) ?_
          refine s_iconst (pc := 32) (v := 0) dX2_shipAtRank_32 (by decide) ?_
          refine s_ist (pc := 33) (L2 := [(3, va_rf r89), (0, va_rf a0), (1, .int a1), (2, va_rf a2)]) [0, 1, 2, 3] dX2_shipAtRank_33 (by decide) rfl rfl (zcB (j := 0) rfl (zcat_rf r89) rfl) ?_
          refine s_aload_n (pc := 35) 2 dX2_shipAtRank_35 rfl rfl ?_
          refine s_gR (pc := 36) dX2_shipAtRank_36 gf_X2_12 (fun r96 => ?_)
          refine zS_ite (fun ht => ?_) (fun _ => zS_none)
          refine s_callV (pc := 39) (np := 0) (as := []) (rest := []) dX2_shipAtRank_39 ht (q := (RJ2, TJ2, 12)) rfl (c_J2_values (by decide) r96 h90) rfl rfl q413 q414 q415 rfl (by decide) (zkR (fun r97 h98 => ?_)) zxo
          refine zS_ite (fun ht => ?_) (fun _ => zS_none)
          refine s_callF (pc := 42) (np := 0) (as := []) (rest := []) dX2_shipAtRank_42 ht (q := (RJ13, TJ13, 2)) rfl (c_J13_iterator (by decide) r97 h98) ⟨_, _, _, q615⟩ rfl rfl q436 (by decide +kernel) q613 q611 rfl (by decide) (zkR (fun r99 h100 => ?_)) zxo
          refine s_ast (pc := 47) (L2 := [(4, .int 0), (3, va_rf r89), (0, va_rf a0), (1, .int a1), (2, va_rf a2)]) [0, 1, 2, 3, 4] dX2_shipAtRank_47 (by decide) rfl rfl (zcB (j := 0) rfl rfl rfl) ?_
          exact s_sub (pc := 49) [3, 4, 5, 2, 1, 0] rfl (w_X2_shipAtRank_49 (f_X2_shipAtRank_13 n) ih zfuel a0 a1 a2 r89 0 r99 h100)
        refine zS_ite (fun ht => ?_) (fun _ => ?_)
        · refine s_callF (pc := 23) (np := 0) (as := []) (rest := []) dX2_shipAtRank_23 ht (q := (RJ17, TJ17, 5)) rfl (c_J17_next (by decide) a2 h7) ⟨_, _, _, q799⟩ rfl rfl q670 (by decide +kernel) q797 q795 rfl (by decide) (zkR (fun r89 h90 => ?_)) zxo
          refine s_cast (pc := 28) dX2_shipAtRank_28 q836 zcs_FloatingDock_Ship ?_
          refine s_ast_n (pc := 31) (L2 := [(0, va_rf a0), (1, .int a1), (2, va_rf a2)]) [0, 1, 2] dX2_shipAtRank_31 rfl (by decide) rfl rfl (zcB (j := 2) rfl (zcat_rf a2) rfl) ?_
          refine s_iconst (pc := 32) (v := 0) dX2_shipAtRank_32 (by decide) ?_
          refine s_ist (pc := 33) (L2 := [(3, va_rf r89), (0, va_rf a0), (1, .int a1), (2, va_rf a2)]) [0, 1, 2, 3] dX2_shipAtRank_33 (by decide) rfl rfl (zcB (j := 0) rfl (zcat_rf r89) rfl) ?_
          refine s_aload_n (pc := 35) 2 dX2_shipAtRank_35 rfl rfl ?_
          refine s_gR (pc := 36) dX2_shipAtRank_36 gf_X2_12 (fun r101 => ?_)
          refine zS_ite (fun ht => ?_) (fun _ => zS_none)
          refine s_callV (pc := 39) (np := 0) (as := []) (rest := []) dX2_shipAtRank_39 ht (q := (RJ2, TJ2, 12)) rfl (c_J2_values (by decide) r101 h90) rfl rfl q413 q414 q415 rfl (by decide) (zkR (fun r102 h103 => ?_)) zxo
          refine zS_ite (fun ht => ?_) (fun _ => zS_none)
          refine s_callF (pc := 42) (np := 0) (as := []) (rest := []) dX2_shipAtRank_42 ht (q := (RJ13, TJ13, 2)) rfl (c_J13_iterator (by decide) r102 h103) ⟨_, _, _, q615⟩ rfl rfl q436 (by decide +kernel) q613 q611 rfl (by decide) (zkR (fun r104 h105 => ?_)) zxo
          refine s_ast (pc := 47) (L2 := [(4, .int 0), (3, va_rf r89), (0, va_rf a0), (1, .int a1), (2, va_rf a2)]) [0, 1, 2, 3, 4] dX2_shipAtRank_47 (by decide) rfl rfl (zcB (j := 0) rfl rfl rfl) ?_
          exact s_sub (pc := 49) [3, 4, 5, 2, 1, 0] rfl (w_X2_shipAtRank_49 (f_X2_shipAtRank_13 n) ih zfuel a0 a1 a2 r89 0 r104 h105)
        refine zS_ite (fun ht => ?_) (fun _ => ?_)
        · refine s_callF (pc := 23) (np := 0) (as := []) (rest := []) dX2_shipAtRank_23 ht (q := (RJ21, TJ21, 5)) rfl (c_J21_next (by decide) a2 h7) ⟨_, _, _, q812⟩ rfl rfl q670 (by decide +kernel) q810 q808 rfl (by decide) (zkR (fun r89 h90 => ?_)) zxo
          refine s_cast (pc := 28) dX2_shipAtRank_28 q836 zcs_FloatingDock_Ship ?_
          refine s_ast_n (pc := 31) (L2 := [(0, va_rf a0), (1, .int a1), (2, va_rf a2)]) [0, 1, 2] dX2_shipAtRank_31 rfl (by decide) rfl rfl (zcB (j := 2) rfl (zcat_rf a2) rfl) ?_
          refine s_iconst (pc := 32) (v := 0) dX2_shipAtRank_32 (by decide) ?_
          refine s_ist (pc := 33) (L2 := [(3, va_rf r89), (0, va_rf a0), (1, .int a1), (2, va_rf a2)]) [0, 1, 2, 3] dX2_shipAtRank_33 (by decide) rfl rfl (zcB (j := 0) rfl (zcat_rf r89) rfl) ?_
          refine s_aload_n (pc := 35) 2 dX2_shipAtRank_35 rfl rfl ?_
          refine s_gR (pc := 36) dX2_shipAtRank_36 gf_X2_12 (fun r106 => ?_)
          refine zS_ite (fun ht => ?_) (fun _ => zS_none)
          refine s_callV (pc := 39) (np := 0) (as := []) (rest := []) dX2_shipAtRank_39 ht (q := (RJ2, TJ2, 12)) rfl (c_J2_values (by decide) r106 h90) rfl rfl q413 q414 q415 rfl (by decide) (zkR (fun r107 h108 => ?_)) zxo
          refine zS_ite (fun ht => ?_) (fun _ => zS_none)
          refine s_callF (pc := 42) (np := 0) (as := []) (rest := []) dX2_shipAtRank_42 ht (q := (RJ13, TJ13, 2)) rfl (c_J13_iterator (by decide) r107 h108) ⟨_, _, _, q615⟩ rfl rfl q436 (by decide +kernel) q613 q611 rfl (by decide) (zkR (fun r109 h110 => ?_)) zxo
          refine s_ast (pc := 47) (L2 := [(4, .int 0), (3, va_rf r89), (0, va_rf a0), (1, .int a1), (2, va_rf a2)]) [0, 1, 2, 3, 4] dX2_shipAtRank_47 (by decide) rfl rfl (zcB (j := 0) rfl rfl rfl) ?_
          exact s_sub (pc := 49) [3, 4, 5, 2, 1, 0] rfl (w_X2_shipAtRank_49 (f_X2_shipAtRank_13 n) ih zfuel a0 a1 a2 r89 0 r109 h110)
        refine zS_ite (fun ht => ?_) (fun _ => zS_none)
        refine s_callF (pc := 23) (np := 0) (as := []) (rest := []) dX2_shipAtRank_23 ht (q := (RJ22, TJ22, 5)) rfl (c_J22_next (by decide) a2 h7) ⟨_, _, _, q832⟩ rfl rfl q670 (by decide +kernel) q830 q828 rfl (by decide) (zkR (fun r89 h90 => ?_)) zxo
        refine s_cast (pc := 28) dX2_shipAtRank_28 q836 zcs_FloatingDock_Ship ?_
        refine s_ast_n (pc := 31) (L2 := [(0, va_rf a0), (1, .int a1), (2, va_rf a2)]) [0, 1, 2] dX2_shipAtRank_31 rfl (by decide) rfl rfl (zcB (j := 2) rfl (zcat_rf a2) rfl) ?_
        refine s_iconst (pc := 32) (v := 0) dX2_shipAtRank_32 (by decide) ?_
        refine s_ist (pc := 33) (L2 := [(3, va_rf r89), (0, va_rf a0), (1, .int a1), (2, va_rf a2)]) [0, 1, 2, 3] dX2_shipAtRank_33 (by decide) rfl rfl (zcB (j := 0) rfl (zcat_rf r89) rfl) ?_
        refine s_aload_n (pc := 35) 2 dX2_shipAtRank_35 rfl rfl ?_
        refine s_gR (pc := 36) dX2_shipAtRank_36 gf_X2_12 (fun r111 => ?_)
        refine zS_ite (fun ht => ?_) (fun _ => zS_none)
        refine s_callV (pc := 39) (np := 0) (as := []) (rest := []) dX2_shipAtRank_39 ht (q := (RJ2, TJ2, 12)) rfl (c_J2_values (by decide) r111 h90) rfl rfl q413 q414 q415 rfl (by decide) (zkR (fun r112 h113 => ?_)) zxo
        refine zS_ite (fun ht => ?_) (fun _ => zS_none)
        refine s_callF (pc := 42) (np := 0) (as := []) (rest := []) dX2_shipAtRank_42 ht (q := (RJ13, TJ13, 2)) rfl (c_J13_iterator (by decide) r112 h113) ⟨_, _, _, q615⟩ rfl rfl q436 (by decide +kernel) q613 q611 rfl (by decide) (zkR (fun r114 h115 => ?_)) zxo
        refine s_ast (pc := 47) (L2 := [(4, .int 0), (3, va_rf r89), (0, va_rf a0), (1, .int a1), (2, va_rf a2)]) [0, 1, 2, 3, 4] dX2_shipAtRank_47 (by decide) rfl rfl (zcB (j := 0) rfl rfl rfl) ?_
        exact s_sub (pc := 49) [3, 4, 5, 2, 1, 0] rfl (w_X2_shipAtRank_49 (f_X2_shipAtRank_13 n) ih zfuel a0 a1 a2 r89 0 r114 h115)
    refine zS_ite (fun ht => ?_) (fun _ => zS_none)
    refine s_callF (pc := 14) (np := 0) (as := []) (rest := []) dX2_shipAtRank_14 ht (q := (RJ22, TJ22, 5)) rfl (c_J20_hasNext (by decide) a2 h) ⟨_, _, _, q665⟩ rfl rfl q629 (by decide +kernel) q663 q667 rfl (by decide) (zkI (fun x6 h7 => ?_)) zxo
    refine s_if_eq (pc := 19) (tgt := 107) dX2_shipAtRank_19 (by decide) (fun _ => ?_) (fun _ => ?_)
    · exact s_sub (pc := 107) [] rfl (w_X2_shipAtRank_107 h7)
    · refine s_aload_n (pc := 22) 2 dX2_shipAtRank_22 rfl rfl ?_
      refine zS_ite (fun ht => ?_) (fun _ => ?_)
      · refine s_callF (pc := 23) (np := 0) (as := []) (rest := []) dX2_shipAtRank_23 ht (q := (RX9, TX9, 2)) rfl (c_X9_next (by decide) a2 h7) ⟨_, _, _, q677⟩ rfl rfl q670 (by decide +kernel) q675 q673 rfl (by decide) (zkR (fun r116 h117 => ?_)) zxo
        refine s_cast (pc := 28) dX2_shipAtRank_28 q836 zcs_FloatingDock_Ship ?_
        refine s_ast_n (pc := 31) (L2 := [(0, va_rf a0), (1, .int a1), (2, va_rf a2)]) [0, 1, 2] dX2_shipAtRank_31 rfl (by decide) rfl rfl (zcB (j := 2) rfl (zcat_rf a2) rfl) ?_
        refine s_iconst (pc := 32) (v := 0) dX2_shipAtRank_32 (by decide) ?_
        refine s_ist (pc := 33) (L2 := [(3, va_rf r116), (0, va_rf a0), (1, .int a1), (2, va_rf a2)]) [0, 1, 2, 3] dX2_shipAtRank_33 (by decide) rfl rfl (zcB (j := 0) rfl (zcat_rf r116) rfl) ?_
        refine s_aload_n (pc := 35) 2 dX2_shipAtRank_35 rfl rfl ?_
        refine s_gR (pc := 36) dX2_shipAtRank_36 gf_X2_12 (fun r118 => ?_)
        refine zS_ite (fun ht => ?_) (fun _ => zS_none)
        refine s_callV (pc := 39) (np := 0) (as := []) (rest := []) dX2_shipAtRank_39 ht (q := (RJ2, TJ2, 12)) rfl (c_J2_values (by decide) r118 h117) rfl rfl q413 q414 q415 rfl (by decide) (zkR (fun r119 h120 => ?_)) zxo
        refine zS_ite (fun ht => ?_) (fun _ => zS_none)
        refine s_callF (pc := 42) (np := 0) (as := []) (rest := []) dX2_shipAtRank_42 ht (q := (RJ13, TJ13, 2)) rfl (c_J13_iterator (by decide) r119 h120) ⟨_, _, _, q615⟩ rfl rfl q436 (by decide +kernel) q613 q611 rfl (by decide) (zkR (fun r121 h122 => ?_)) zxo
        refine s_ast (pc := 47) (L2 := [(4, .int 0), (3, va_rf r116), (0, va_rf a0), (1, .int a1), (2, va_rf a2)]) [0, 1, 2, 3, 4] dX2_shipAtRank_47 (by decide) rfl rfl (zcB (j := 0) rfl rfl rfl) ?_
        exact s_sub (pc := 49) [3, 4, 5, 2, 1, 0] rfl (w_X2_shipAtRank_49 (f_X2_shipAtRank_13 n) ih zfuel a0 a1 a2 r116 0 r121 h122)
      refine zS_ite (fun ht => ?_) (fun _ => ?_)
      · refine s_callF (pc := 23) (np := 0) (as := []) (rest := []) dX2_shipAtRank_23 ht (q := (RJ15, TJ15, 4)) rfl (c_J15_next (by decide) a2 h7) ⟨_, _, _, q788⟩ rfl rfl q670 (by decide +kernel) q786 q784 rfl (by decide) (zkR (fun r116 h117 => ?_)) zxo
        refine s_cast (pc := 28) dX2_shipAtRank_28 q836 zcs_FloatingDock_Ship ?_
        refine s_ast_n (pc := 31) (L2 := [(0, va_rf a0), (1, .int a1), (2, va_rf a2)]) [0, 1, 2] dX2_shipAtRank_31 rfl (by decide) rfl rfl (zcB (j := 2) rfl (zcat_rf a2) rfl) ?_
        refine s_iconst (pc := 32) (v := 0) dX2_shipAtRank_32 (by decide) ?_
        refine s_ist (pc := 33) (L2 := [(3, va_rf r116), (0, va_rf a0), (1, .int a1), (2, va_rf a2)]) [0, 1, 2, 3] dX2_shipAtRank_33 (by decide) rfl rfl (zcB (j := 0) rfl (zcat_rf r116) rfl) ?_
        refine s_aload_n (pc := 35) 2 dX2_shipAtRank_35 rfl rfl ?_
        refine s_gR (pc := 36) dX2_shipAtRank_36 gf_X2_12 (fun r123 => ?_)
        refine zS_ite (fun ht => ?_) (fun _ => zS_none)
        refine s_callV (pc := 39) (np := 0) (as := []) (rest := []) dX2_shipAtRank_39 ht (q := (RJ2, TJ2, 12)) rfl (c_J2_values (by decide) r123 h117) rfl rfl q413 q414 q415 rfl (by decide) (zkR (fun r124 h125 => ?_)) zxo
        refine zS_ite (fun ht => ?_) (fun _ => zS_none)
        refine s_callF (pc := 42) (np := 0) (as := []) (rest := []) dX2_shipAtRank_42 ht (q := (RJ13, TJ13, 2)) rfl (c_J13_iterator (by decide) r124 h125) ⟨_, _, _, q615⟩ rfl rfl q436 (by decide +kernel) q613 q611 rfl (by decide) (zkR (fun r126 h127 => ?_)) zxo
        refine s_ast (pc := 47) (L2 := [(4, .int 0), (3, va_rf r116), (0, va_rf a0), (1, .int a1), (2, va_rf a2)]) [0, 1, 2, 3, 4] dX2_shipAtRank_47 (by decide) rfl rfl (zcB (j := 0) rfl rfl rfl) ?_
        exact s_sub (pc := 49) [3, 4, 5, 2, 1, 0] rfl (w_X2_shipAtRank_49 (f_X2_shipAtRank_13 n) ih zfuel a0 a1 a2 r116 0 r126 h127)
      refine zS_ite (fun ht => ?_) (fun _ => ?_)
      · refine s_callF (pc := 23) (np := 0) (as := []) (rest := []) dX2_shipAtRank_23 ht (q := (RJ17, TJ17, 5)) rfl (c_J17_next (by decide) a2 h7) ⟨_, _, _, q799⟩ rfl rfl q670 (by decide +kernel) q797 q795 rfl (by decide) (zkR (fun r116 h117 => ?_)) zxo
        refine s_cast (pc := 28) dX2_shipAtRank_28 q836 zcs_FloatingDock_Ship ?_
        refine s_ast_n (pc := 31) (L2 := [(0, va_rf a0), (1, .int a1), (2, va_rf a2)]) [0, 1, 2] dX2_shipAtRank_31 rfl (by decide) rfl rfl (zcB (j := 2) rfl (zcat_rf a2) rfl) ?_
        refine s_iconst (pc := 32) (v := 0) dX2_shipAtRank_32 (by decide) ?_
        refine s_ist (pc := 33) (L2 := [(3, va_rf r116), (0, va_rf a0), (1, .int a1), (2, va_rf a2)]) [0, 1, 2, 3] dX2_shipAtRank_33 (by decide) rfl rfl (zcB (j := 0) rfl (zcat_rf r116) rfl) ?_
        refine s_aload_n (pc := 35) 2 dX2_shipAtRank_35 rfl rfl ?_
        refine s_gR (pc := 36) dX2_shipAtRank_36 gf_X2_12 (fun r128 => ?_)
        refine zS_ite (fun ht => ?_) (fun _ => zS_none)
        refine s_callV (pc := 39) (np := 0) (as := []) (rest := []) dX2_shipAtRank_39 ht (q := (RJ2, TJ2, 12)) rfl (c_J2_values (by decide) r128 h117) rfl rfl q413 q414 q415 rfl (by decide) (zkR (fun r129 h130 => ?_)) zxo
        refine zS_ite (fun ht => ?_) (fun _ => zS_none)
        refine s_callF (pc := 42) (np := 0) (as := []) (rest := []) dX2_shipAtRank_42 ht (q := (RJ13, TJ13, 2)) rfl (c_J13_iterator (by decide) r129 h130) ⟨_, _, _, q615⟩ rfl rfl q436 (by decide +kernel) q613 q611 rfl (by decide) (zkR (fun r131 h132 => ?_)) zxo
        refine s_ast (pc := 47) (L2 := [(4, .int 0), (3, va_rf r116), (0, va_rf a0), (1, .int a1), (2, va_rf a2)]) [0, 1, 2, 3, 4] dX2_shipAtRank_47 (by decide) rfl rfl (zcB (j := 0) rfl rfl rfl) ?_
        exact s_sub (pc := 49) [3, 4, 5, 2, 1, 0] rfl (w_X2_shipAtRank_49 (f_X2_shipAtRank_13 n) ih zfuel a0 a1 a2 r116 0 r131 h132)
      refine zS_ite (fun ht => ?_) (fun _ => ?_)
      · refine s_callF (pc := 23) (np := 0) (as := []) (rest := []) dX2_shipAtRank_23 ht (q := (RJ21, TJ21, 5)) rfl (c_J21_next (by decide) a2 h7) ⟨_, _, _, q812⟩ rfl rfl q670 (by decide +kernel) q810 q808 rfl (by decide) (zkR (fun r116 h117 => ?_)) zxo
        refine s_cast (pc := 28) dX2_shipAtRank_28 q836 zcs_FloatingDock_Ship ?_
        refine s_ast_n (pc := 31) (L2 := [(0, va_rf a0), (1, .int a1), (2, va_rf a2)]) [0, 1, 2] dX2_shipAtRank_31 rfl (by decide) rfl rfl (zcB (j := 2) rfl (zcat_rf a2) rfl) ?_
        refine s_iconst (pc := 32) (v := 0) dX2_shipAtRank_32 (by decide) ?_
        refine s_ist (pc := 33) (L2 := [(3, va_rf r116), (0, va_rf a0), (1, .int a1), (2, va_rf a2)]) [0, 1, 2, 3] dX2_shipAtRank_33 (by decide) rfl rfl (zcB (j := 0) rfl (zcat_rf r116) rfl) ?_
        refine s_aload_n (pc := 35) 2 dX2_shipAtRank_35 rfl rfl ?_
        refine s_gR (pc := 36) dX2_shipAtRank_36 gf_X2_12 (fun r133 => ?_)
        refine zS_ite (fun ht => ?_) (fun _ => zS_none)
        refine s_callV (pc := 39) (np := 0) (as := []) (rest := []) dX2_shipAtRank_39 ht (q := (RJ2, TJ2, 12)) rfl (c_J2_values (by decide) r133 h117) rfl rfl q413 q414 q415 rfl (by decide) (zkR (fun r134 h135 => ?_)) zxo
        refine zS_ite (fun ht => ?_) (fun _ => zS_none)
        refine s_callF (pc := 42) (np := 0) (as := []) (rest := []) dX2_shipAtRank_42 ht (q := (RJ13, TJ13, 2)) rfl (c_J13_iterator (by decide) r134 h135) ⟨_, _, _, q615⟩ rfl rfl q436 (by decide +kernel) q613 q611 rfl (by decide) (zkR (fun r136 h137 => ?_)) zxo
        refine s_ast (pc := 47) (L2 := [(4, .int 0), (3, va_rf r116), (0, va_rf a0), (1, .int a1), (2, va_rf a2)]) [0, 1, 2, 3, 4] dX2_shipAtRank_47 (by decide) rfl rfl (zcB (j := 0) rfl rfl rfl) ?_
        exact s_sub (pc := 49) [3, 4, 5, 2, 1, 0] rfl (w_X2_shipAtRank_49 (f_X2_shipAtRank_13 n) ih zfuel a0 a1 a2 r116 0 r136 h137)
      refine zS_ite (fun ht => ?_) (fun _ => zS_none)
      refine s_callF (pc := 23) (np := 0) (as := []) (rest := []) dX2_shipAtRank_23 ht (q := (RJ22, TJ22, 5)) rfl (c_J22_next (by decide) a2 h7) ⟨_, _, _, q832⟩ rfl rfl q670 (by decide +kernel) q830 q828 rfl (by decide) (zkR (fun r116 h117 => ?_)) zxo
      refine s_cast (pc := 28) dX2_shipAtRank_28 q836 zcs_FloatingDock_Ship ?_
      refine s_ast_n (pc := 31) (L2 := [(0, va_rf a0), (1, .int a1), (2, va_rf a2)]) [0, 1, 2] dX2_shipAtRank_31 rfl (by decide) rfl rfl (zcB (j := 2) rfl (zcat_rf a2) rfl) ?_
      refine s_iconst (pc := 32) (v := 0) dX2_shipAtRank_32 (by decide) ?_
      refine s_ist (pc := 33) (L2 := [(3, va_rf r116), (0, va_rf a0), (1, .int a1), (2, va_rf a2)]) [0, 1, 2, 3] dX2_shipAtRank_33 (by decide) rfl rfl (zcB (j := 0) rfl (zcat_rf r116) rfl) ?_
      refine s_aload_n (pc := 35) 2 dX2_shipAtRank_35 rfl rfl ?_
      refine s_gR (pc := 36) dX2_shipAtRank_36 gf_X2_12 (fun r138 => ?_)
      refine zS_ite (fun ht => ?_) (fun _ => zS_none)
      refine s_callV (pc := 39) (np := 0) (as := []) (rest := []) dX2_shipAtRank_39 ht (q := (RJ2, TJ2, 12)) rfl (c_J2_values (by decide) r138 h117) rfl rfl q413 q414 q415 rfl (by decide) (zkR (fun r139 h140 => ?_)) zxo
      refine zS_ite (fun ht => ?_) (fun _ => zS_none)
      refine s_callF (pc := 42) (np := 0) (as := []) (rest := []) dX2_shipAtRank_42 ht (q := (RJ13, TJ13, 2)) rfl (c_J13_iterator (by decide) r139 h140) ⟨_, _, _, q615⟩ rfl rfl q436 (by decide +kernel) q613 q611 rfl (by decide) (zkR (fun r141 h142 => ?_)) zxo
      refine s_ast (pc := 47) (L2 := [(4, .int 0), (3, va_rf r116), (0, va_rf a0), (1, .int a1), (2, va_rf a2)]) [0, 1, 2, 3, 4] dX2_shipAtRank_47 (by decide) rfl rfl (zcB (j := 0) rfl rfl rfl) ?_
      exact s_sub (pc := 49) [3, 4, 5, 2, 1, 0] rfl (w_X2_shipAtRank_49 (f_X2_shipAtRank_13 n) ih zfuel a0 a1 a2 r116 0 r141 h142)
theorem w_X2_shipAtRank (v0 : Option Nat) (v1 : Int32) (h : zH) : zS D z yX2_shipAtRank cX2_shipAtRank 7 (some .int) [] 10 h 0 [(0, va_rf v0), (1, .int v1)] [] (f_X2_shipAtRank v0 v1 h) := by
  unfold f_X2_shipAtRank
  refine s_aload_n (pc := 0) 0 dX2_shipAtRank_0 rfl rfl ?_
  refine s_gR (pc := 1) dX2_shipAtRank_1 gf_X2_12 (fun r1 => ?_)
  refine zS_ite (fun ht => ?_) (fun _ => zS_none)
  refine s_callV (pc := 4) (np := 0) (as := []) (rest := []) dX2_shipAtRank_4 ht (q := (RJ2, TJ2, 12)) rfl (c_J2_values (by decide) r1 h) rfl rfl q413 q414 q415 rfl (by decide) (zkR (fun r2 h3 => ?_)) zxo
  refine zS_ite (fun ht => ?_) (fun _ => zS_none)
  refine s_callF (pc := 7) (np := 0) (as := []) (rest := []) dX2_shipAtRank_7 ht (q := (RJ13, TJ13, 2)) rfl (c_J13_iterator (by decide) r2 h3) ⟨_, _, _, q615⟩ rfl rfl q436 (by decide +kernel) q613 q611 rfl (by decide) (zkR (fun r4 h5 => ?_)) zxo
  refine s_ast_n (pc := 12) (L2 := [(0, va_rf v0), (1, .int v1)]) [0, 1] dX2_shipAtRank_12 rfl (by decide) rfl rfl (zcB (j := 1) rfl rfl rfl) ?_
  exact s_sub (pc := 13) [1, 2, 0] rfl (w_X2_shipAtRank_13 zfuel v0 v1 r4 h5)
theorem c_X2_shipAtRank {d0 : Nat} (hd0 : 10 < d0) (v0 : Option Nat) (v1 : Int32) (h : zH) : zCal D z d0 h yX2_shipAtRank [va_rf v0, .int v1] (f_X2_shipAtRank v0 v1 h) :=
  ⟨cX2_shipAtRank, 7, (some .int), [], 10, (show lv_args 0 [va_rf v0, .int v1] = [(0, va_rf v0), (1, .int v1)] by simp [lv_args, zcat_rf, zcat_i, zcat_l, zcat_f, zcat_d]) ▸ w_X2_shipAtRank v0 v1 h, (plainFor_of_name (by decide)), by simp [lg_sl, zcat_rf, zcat_i, zcat_l, zcat_f, zcat_d], q2848, q96, hd0, by decide, by decide⟩
theorem w_X1_shipAtRank (v0 : Option Nat) (v1 : Int32) (h : zH) : zS D z yX1_shipAtRank cX1_shipAtRank 2 (some .int) [] 11 h 0 [(0, va_rf v0), (1, .int v1)] [] (f_X1_shipAtRank v0 v1 h) := by
  unfold f_X1_shipAtRank
  refine s_aload_n (pc := 0) 0 dX1_shipAtRank_0 rfl rfl ?_
  refine s_gR (pc := 1) dX1_shipAtRank_1 gf_X1_30 (fun r1 => ?_)
  refine s_iload_n (pc := 4) 1 dX1_shipAtRank_4 rfl rfl ?_
  refine zS_ite (fun ht => ?_) (fun _ => zS_none)
  refine s_callV (pc := 5) (np := 1) (as := [.int v1]) (rest := []) dX1_shipAtRank_5 ht (q := (RX2, TX2, 10)) rfl (c_X2_shipAtRank (by decide) r1 v1 h) rfl rfl q2845 q2846 q2847 rfl (by decide) (zkI (fun x2 h3 => ?_)) zxo
  exact s_iret (pc := 8) dX1_shipAtRank_8 rfl
theorem c_X1_shipAtRank {d0 : Nat} (hd0 : 11 < d0) (v0 : Option Nat) (v1 : Int32) (h : zH) : zCal D z d0 h yX1_shipAtRank [va_rf v0, .int v1] (f_X1_shipAtRank v0 v1 h) :=
  ⟨cX1_shipAtRank, 2, (some .int), [], 11, (show lv_args 0 [va_rf v0, .int v1] = [(0, va_rf v0), (1, .int v1)] by simp [lv_args, zcat_rf, zcat_i, zcat_l, zcat_f, zcat_d]) ▸ w_X1_shipAtRank v0 v1 h, (plainFor_of_name (by decide)), by simp [lg_sl, zcat_rf, zcat_i, zcat_l, zcat_f, zcat_d], q2844, q95, hd0, by decide, by decide⟩
theorem w_X0_shipAtRank_12 (s0 : Option Nat) (h : zH) : zS D z yX0_shipAtRank cX0_shipAtRank 4 (some .int) [(0, 9, 12, 39)] 12 h 12 [] [va_rf s0] (f_X0_shipAtRank_12 s0 h) := by
  unfold f_X0_shipAtRank_12
  refine s_ast_n (pc := 12) (L2 := []) [] dX0_shipAtRank_12 rfl (by decide) rfl rfl (zcA rfl) ?_
  refine s_iconst (pc := 13) (v := 1) dX0_shipAtRank_13 (by decide) ?_
  exact s_iret (pc := 14) dX0_shipAtRank_14 rfl
theorem w_X0_shipAtRank (v0 : Option Nat) (v1 : Int32) (v2 : Option Nat) (h : zH) : zS D z yX0_shipAtRank cX0_shipAtRank 4 (some .int) [(0, 9, 12, 39)] 12 h 0 [(0, va_rf v0), (1, .int v1), (2, va_rf v2)] [] (f_X0_shipAtRank v0 v1 v2 h) := by
  unfold f_X0_shipAtRank
  refine s_aload_n (pc := 0) 2 dX0_shipAtRank_0 rfl rfl ?_
  refine s_iconst (pc := 1) (v := 0) dX0_shipAtRank_1 (by decide) ?_
  refine s_aload_n (pc := 2) 0 dX0_shipAtRank_2 rfl rfl ?_
  refine s_iload_n (pc := 3) 1 dX0_shipAtRank_3 rfl rfl ?_
  refine zS_ite (fun ht => ?_) (fun _ => zS_none)
  refine s_callV (pc := 4) (np := 1) (as := [.int v1]) (rest := [.int 0, va_rf v2]) dX0_shipAtRank_4 ht (q := (RX1, TX1, 11)) rfl (c_X1_shipAtRank (by decide) v0 v1 h) rfl rfl q2841 q2842 q2843 rfl (by simp [zcat_rf, zcat_i, zcat_l, zcat_f, zcat_d]) (zkI (fun x3 h4 => ?_)) (fun e2 h1 => zT_ite (fun hx => (zT_out (fun q hq => by rw [hx] at hq; cases hq; exact (zpn (by decide) q2521 (by decide +kernel) zp0)))) (fun _ => zT_ite (fun hx => (zT_out (fun q hq => by rw [hx] at hq; cases hq; exact (zpn (by decide) q2521 (by decide +kernel) zp0)))) (fun _ => zT_ite (fun hx => (zT_out (fun q hq => by rw [hx] at hq; cases hq; exact (zpn (by decide) q2521 (by decide +kernel) zp0)))) (fun _ => zT_ite (fun hx => (zT_out (fun q hq => by rw [hx] at hq; cases hq; exact (zpn (by decide) q2521 (by decide +kernel) zp0)))) (fun _ => zT_ite (fun hx => (zT_catch (q := (RJ29, TJ29, 0)) [] (0, 9, 12, 39) [] rfl (by rw [hx]; rfl) zp0 rfl (by decide) q2521 (Or.inl rfl) rfl (by exact s_sub (pc := 12) [] rfl (w_X0_shipAtRank_12 (some e2.2) h1)))) (fun _ => zT_ite (fun hx => (zT_out (fun q hq => by rw [hx] at hq; cases hq; exact (zpn (by decide) q2521 (by decide +kernel) zp0)))) (fun _ => zT_ite (fun hx => (zT_out (fun q hq => by rw [hx] at hq; cases hq; exact (zpn (by decide) q2521 (by decide +kernel) zp0)))) (fun _ => zT_ite (fun hx => (zT_out (fun q hq => by rw [hx] at hq; cases hq; exact (zpn (by decide) q2521 (by decide +kernel) zp0)))) (fun _ => zT_none)))))))))
  refine s_i2l (pc := 7) dX0_shipAtRank_7 ?_
  refine s_last (pc := 8) dX0_shipAtRank_8 (ztc rfl zt0) (fun h5 => ?_)
  refine s_goto (pc := 9) (tgt := 15) dX0_shipAtRank_9 (by decide) ?_
  refine s_iconst (pc := 15) (v := 0) dX0_shipAtRank_15 (by decide) ?_
  exact s_iret (pc := 16) dX0_shipAtRank_16 rfl
theorem c_X0_shipAtRank {d0 : Nat} (hd0 : 12 < d0) (v0 : Option Nat) (v1 : Int32) (v2 : Option Nat) (h : zH) : zCal D z d0 h yX0_shipAtRank [va_rf v0, .int v1, va_rf v2] (f_X0_shipAtRank v0 v1 v2 h) :=
  ⟨cX0_shipAtRank, 4, (some .int), [(0, 9, 12, 39)], 12, (show lv_args 0 [va_rf v0, .int v1, va_rf v2] = [(0, va_rf v0), (1, .int v1), (2, va_rf v2)] by simp [lv_args, zcat_rf, zcat_i, zcat_l, zcat_f, zcat_d]) ▸ w_X0_shipAtRank v0 v1 v2 h, (plainFor_of_name (by decide)), by simp [lg_sl, zcat_rf, zcat_i, zcat_l, zcat_f, zcat_d], q2840, q94, hd0, by decide, by decide⟩
theorem w_J33_canEncode (v0 : Int32) (h : zH) : zS D z yJ33_canEncode cJ33_canEncode 1 (some .boolean) [] 1 h 0 [(0, .int v0)] [] (f_J33_canEncode v0 h) := by
  unfold f_J33_canEncode
  refine s_iload_n (pc := 0) 0 dJ33_canEncode_0 rfl rfl ?_
  refine s_sipush (pc := 1) (v := 255) dJ33_canEncode_1 (by decide) ?_
  refine s_icmp_gt (pc := 4) (tgt := 11) dJ33_canEncode_4 (by decide) (fun _ => ?_) (fun _ => ?_)
  · refine s_iconst (pc := 11) (v := 0) dJ33_canEncode_11 (by decide) ?_
    exact s_nret (pc := 12) dJ33_canEncode_12 rfl
  · refine s_iconst (pc := 7) (v := 1) dJ33_canEncode_7 (by decide) ?_
    refine s_goto (pc := 8) (tgt := 12) dJ33_canEncode_8 (by decide) ?_
    exact s_nret (pc := 12) dJ33_canEncode_12 rfl
theorem c_J33_canEncode {d0 : Nat} (hd0 : 1 < d0) (v0 : Int32) (h : zH) : zCal D z d0 h yJ33_canEncode [.int v0] (f_J33_canEncode v0 h) :=
  ⟨cJ33_canEncode, 1, (some .boolean), [], 1, (show lv_args 0 [.int v0] = [(0, .int v0)] by simp [lv_args, zcat_rf, zcat_i, zcat_l, zcat_f, zcat_d]) ▸ w_J33_canEncode v0 h, (plainFor_of_name (by decide)), by simp [lg_sl, zcat_rf, zcat_i, zcat_l, zcat_f, zcat_d], q1915, q132, hd0, by decide, by decide⟩
theorem w_J7_append_3_56 (a0 : Option Nat) (a1 : Int32) (h : zH) : zS D z yJ7_append_3 cJ7_append_3 2 (some (.object "java/lang/AbstractStringBuilder")) [] 5 h 56 [(0, va_rf a0), (1, .int a1)] [] (f_J7_append_3_56 a0 a1 h) := by
  unfold f_J7_append_3_56
  refine s_aload_n (pc := 56) 0 dJ7_append_3_56 rfl rfl ?_
  refine s_gR (pc := 57) dJ7_append_3_57 gf_J7_15 (fun r14 => ?_)
  refine s_aload_n (pc := 60) 0 dJ7_append_3_60 rfl rfl ?_
  refine s_dup (pc := 61) dJ7_append_3_61 (zcat_rf _) ?_
  refine s_gI (pc := 62) dJ7_append_3_62 gf_J7_79 (fun x15 => ?_)
  refine s_dup_x1 (pc := 65) dJ7_append_3_65 rfl (zcat_rf _) ?_
  refine s_iconst (pc := 66) (v := 1) dJ7_append_3_66 (by decide) ?_
  refine s_iadd (pc := 67) dJ7_append_3_67 ?_
  refine s_putI (pc := 68) dJ7_append_3_68 pf_J7_79 (fun h16 => ?_)
  refine s_iload_n (pc := 71) 1 dJ7_append_3_71 rfl rfl ?_
  exact zS_none
theorem w_J7_append_3_45 (a0 : Option Nat) (a1 : Int32) (h : zH) : zS D z yJ7_append_3 cJ7_append_3 2 (some (.object "java/lang/AbstractStringBuilder")) [] 5 h 45 [(0, va_rf a0), (1, .int a1)] [] (f_J7_append_3_45 a0 a1 h) := by
  unfold f_J7_append_3_45
  refine s_aload_n (pc := 45) 0 dJ7_append_3_45 rfl rfl ?_
  refine zS_ite (fun ht => ?_) (fun _ => zS_none)
  refine s_callVU (pc := 46) (np := 0) (as := []) (rest := []) (owner := "java/lang/AbstractStringBuilder") dJ7_append_3_46 ht (q := (RJ8, TJ8, 4)) rfl (c_J7_isLatin1 (by decide) a0 h) ⟨_, _, _, q906⟩ rfl rfl q902 q904 (Or.inl ⟨_, _, _, q903, q906⟩) (by decide) q903 q905 rfl (by decide) (zkI (fun x11 h12 => ?_)) zxo
  refine s_if_eq (pc := 49) (tgt := 56) dJ7_append_3_49 (by decide) (fun _ => ?_) (fun _ => ?_)
  · exact s_sub (pc := 56) [0, 1] rfl (w_J7_append_3_56 a0 a1 h12)
  · refine s_aload_n (pc := 52) 0 dJ7_append_3_52 rfl rfl ?_
    exact zS_none
theorem w_J7_append_3 (v0 : Option Nat) (v1 : Int32) (h : zH) : zS D z yJ7_append_3 cJ7_append_3 2 (some (.object "java/lang/AbstractStringBuilder")) [] 5 h 0 [(0, va_rf v0), (1, .int v1)] [] (f_J7_append_3 v0 v1 h) := by
  unfold f_J7_append_3
  refine s_aload_n (pc := 0) 0 dJ7_append_3_0 rfl rfl ?_
  refine s_aload_n (pc := 1) 0 dJ7_append_3_1 rfl rfl ?_
  refine s_gI (pc := 2) dJ7_append_3_2 gf_J7_79 (fun x1 => ?_)
  refine s_iconst (pc := 5) (v := 1) dJ7_append_3_5 (by decide) ?_
  refine s_iadd (pc := 6) dJ7_append_3_6 ?_
  refine zS_ite (fun ht => ?_) (fun _ => zS_none)
  refine s_callVP (pc := 7) (np := 1) (as := [.int (x1 + 1)]) (rest := []) dJ7_append_3_7 ht (q := (RJ8, TJ8, 4)) rfl (c_J7_ensureCapacityInternal (by decide) v0 (x1 + 1) h) ⟨_, _, _, q872⟩ rfl rfl q869 q871 q870 q905 rfl rfl (by decide) (zkV (fun h2 => ?_)) zxo
  refine s_aload_n (pc := 10) 0 dJ7_append_3_10 rfl rfl ?_
  refine zS_ite (fun ht => ?_) (fun _ => zS_none)
  refine s_callVU (pc := 11) (np := 0) (as := []) (rest := []) (owner := "java/lang/AbstractStringBuilder") dJ7_append_3_11 ht (q := (RJ8, TJ8, 4)) rfl (c_J7_isLatin1 (by decide) v0 h2) ⟨_, _, _, q906⟩ rfl rfl q902 q904 (Or.inl ⟨_, _, _, q903, q906⟩) (by decide) q903 q905 rfl (by decide) (zkI (fun x3 h4 => ?_)) zxo
  refine s_if_eq (pc := 14) (tgt := 45) dJ7_append_3_14 (by decide) (fun _ => ?_) (fun _ => ?_)
  · exact s_sub (pc := 45) [0, 1] rfl (w_J7_append_3_45 v0 v1 h4)
  · refine s_iload_n (pc := 17) 1 dJ7_append_3_17 rfl rfl ?_
    refine s_callSS (pc := 18) (np := 1) (as := [.int v1]) (rest := []) dJ7_append_3_18 (c_J33_canEncode (by decide) v1 h4) rfl rfl q1913 q1914 rfl (by decide) (zkI (fun x5 h6 => ?_)) zxo
    refine s_if_eq (pc := 21) (tgt := 45) dJ7_append_3_21 (by decide) (fun _ => ?_) (fun _ => ?_)
    · exact s_sub (pc := 45) [0, 1] rfl (w_J7_append_3_45 v0 v1 h6)
    · refine s_aload_n (pc := 24) 0 dJ7_append_3_24 rfl rfl ?_
      refine s_gR (pc := 25) dJ7_append_3_25 gf_J7_15 (fun r7 => ?_)
      refine s_aload_n (pc := 28) 0 dJ7_append_3_28 rfl rfl ?_
      refine s_dup (pc := 29) dJ7_append_3_29 (zcat_rf _) ?_
      refine s_gI (pc := 30) dJ7_append_3_30 gf_J7_79 (fun x8 => ?_)
      refine s_dup_x1 (pc := 33) dJ7_append_3_33 rfl (zcat_rf _) ?_
      refine s_iconst (pc := 34) (v := 1) dJ7_append_3_34 (by decide) ?_
      refine s_iadd (pc := 35) dJ7_append_3_35 ?_
      refine s_putI (pc := 36) dJ7_append_3_36 pf_J7_79 (fun h9 => ?_)
      refine s_iload_n (pc := 39) 1 dJ7_append_3_39 rfl rfl ?_
      refine s_i2b (pc := 40) dJ7_append_3_40 ?_
      refine s_bast (pc := 41) dJ7_append_3_41 (ztc rfl zt0) (fun h10 => ?_)
      refine s_goto (pc := 42) (tgt := 75) dJ7_append_3_42 (by decide) ?_
      refine s_aload_n (pc := 75) 0 dJ7_append_3_75 rfl rfl ?_
      exact s_aret (pc := 76) dJ7_append_3_76 rfl (Or.inl ⟨_, rfl⟩)
theorem c_J7_append_3 {d0 : Nat} (hd0 : 5 < d0) (v0 : Option Nat) (v1 : Int32) (h : zH) : zCal D z d0 h yJ7_append_3 [va_rf v0, .int v1] (f_J7_append_3 v0 v1 h) :=
  ⟨cJ7_append_3, 2, (some (.object "java/lang/AbstractStringBuilder")), [], 5, (show lv_args 0 [va_rf v0, .int v1] = [(0, va_rf v0), (1, .int v1)] by simp [lv_args, zcat_rf, zcat_i, zcat_l, zcat_f, zcat_d]) ▸ w_J7_append_3 v0 v1 h, (plainFor_of_name (by decide)), by simp [lg_sl, zcat_rf, zcat_i, zcat_l, zcat_f, zcat_d], q1912, q104, hd0, by decide, by decide⟩
theorem w_J8_append_3 (v0 : Option Nat) (v1 : Int32) (h : zH) : zS D z yJ8_append_3 cJ8_append_3 2 (some (.object "java/lang/StringBuilder")) [] 6 h 0 [(0, va_rf v0), (1, .int v1)] [] (f_J8_append_3 v0 v1 h) := by
  unfold f_J8_append_3
  refine s_aload_n (pc := 0) 0 dJ8_append_3_0 rfl rfl ?_
  refine s_iload_n (pc := 1) 1 dJ8_append_3_1 rfl rfl ?_
  refine zS_ite (fun ht => ?_) (fun _ => zS_none)
  refine s_callSU (pc := 2) (np := 1) (as := [.int v1]) (rest := []) dJ8_append_3_2 ht (q := (RJ8, TJ8, 4)) rfl (c_J7_append_3 (by decide) v0 v1 h) ⟨_, _, _, q1912⟩ (by decide) rfl rfl q1910 q3764 q355 q1911 rfl (by decide) (zkR (fun r1 h2 => ?_)) zxo
  refine s_pop (pc := 5) dJ8_append_3_5 (zcat_rf _) ?_
  refine s_aload_n (pc := 6) 0 dJ8_append_3_6 rfl rfl ?_
  exact s_aret (pc := 7) dJ8_append_3_7 rfl (Or.inl ⟨_, rfl⟩)
theorem c_J8_append_3 {d0 : Nat} (hd0 : 6 < d0) (v0 : Option Nat) (v1 : Int32) (h : zH) : zCal D z d0 h yJ8_append_3 [va_rf v0, .int v1] (f_J8_append_3 v0 v1 h) :=
  ⟨cJ8_append_3, 2, (some (.object "java/lang/StringBuilder")), [], 6, (show lv_args 0 [va_rf v0, .int v1] = [(0, va_rf v0), (1, .int v1)] by simp [lv_args, zcat_rf, zcat_i, zcat_l, zcat_f, zcat_d]) ▸ w_J8_append_3 v0 v1 h, (plainFor_of_name (by decide)), by simp [lg_sl, zcat_rf, zcat_i, zcat_l, zcat_f, zcat_d], q1909, q105, hd0, by decide, by decide⟩
theorem w_X1_append_28 (a0 : Option Nat) (a1 : Int32) (s0 : Int32) (h : zH) : zS D z yX1_append cX1_append 2 (some .int) [] 9 h 28 [(0, va_rf a0), (1, .int a1)] [.int s0] (f_X1_append_28 a0 a1 s0 h) := by
  unfold f_X1_append_28
  refine s_callSS (pc := 28) (np := 1) (as := [.int s0]) (rest := []) dX1_append_28 (c_X1_checkState (by decide) s0 h) rfl rfl q2863 q2289 rfl (by decide) (zkV (fun h7 => ?_)) zxo
  refine s_aload_n (pc := 31) 0 dX1_append_31 rfl rfl ?_
  refine s_gR (pc := 32) dX1_append_32 gf_X1_44 (fun r8 => ?_)
  refine s_iload_n (pc := 35) 1 dX1_append_35 rfl rfl ?_
  refine zS_ite (fun ht => ?_) (fun _ => zS_none)
  refine s_callV (pc := 36) (np := 1) (as := [.int a1]) (rest := []) dX1_append_36 ht (q := (RJ8, TJ8, 4)) rfl (c_J8_append_3 (by decide) r8 a1 h7) rfl rfl q2864 q1907 q1908 rfl (by decide) (zkR (fun r9 h10 => ?_)) zxo
  refine s_pop (pc := 39) dX1_append_39 (zcat_rf _) ?_
  refine s_aload_n (pc := 40) 0 dX1_append_40 rfl rfl ?_
  refine s_gR (pc := 41) dX1_append_41 gf_X1_44 (fun r11 => ?_)
  refine zS_ite (fun ht => ?_) (fun _ => zS_none)
  refine s_callV (pc := 44) (np := 0) (as := []) (rest := []) dX1_append_44 ht (q := (RJ8, TJ8, 4)) rfl (c_J8_length (by decide) r11 h10) rfl rfl q2862 q1023 q3777 rfl (by decide) (zkI (fun x12 h13 => ?_)) zxo
  exact s_iret (pc := 47) dX1_append_47 rfl
theorem w_X1_append (v0 : Option Nat) (v1 : Int32) (h : zH) : zS D z yX1_append cX1_append 2 (some .int) [] 9 h 0 [(0, va_rf v0), (1, .int v1)] [] (f_X1_append v0 v1 h) := by
  unfold f_X1_append
  refine s_iload_n (pc := 0) 1 dX1_append_0 rfl rfl ?_
  refine s_bipush (pc := 1) (v := 32) dX1_append_1 (by decide) ?_
  refine s_bipush (pc := 3) (v := 126) dX1_append_3 (by decide) ?_
  refine s_callSS (pc := 5) (np := 3) (as := [.int v1, .int 32, .int 126]) (rest := []) dX1_append_5 (c_X1_isBetween (by decide) v1 32 126 h) rfl rfl q2548 q1518 rfl (by decide) (zkI (fun x1 h2 => ?_)) zxo
  refine s_callSS (pc := 8) (np := 1) (as := [.int x1]) (rest := []) dX1_append_8 (c_X1_checkArgument (by decide) x1 h2) rfl rfl q2652 q2280 rfl (by decide) (zkV (fun h3 => ?_)) zxo
  refine s_aload_n (pc := 11) 0 dX1_append_11 rfl rfl ?_
  refine s_gR (pc := 12) dX1_append_12 gf_X1_44 (fun r4 => ?_)
  refine zS_ite (fun ht => ?_) (fun _ => zS_none)
  refine s_callV (pc := 15) (np := 0) (as := []) (rest := []) dX1_append_15 ht (q := (RJ8, TJ8, 4)) rfl (c_J8_length (by decide) r4 h3) rfl rfl q2862 q1023 q3777 rfl (by decide) (zkI (fun x5 h6 => ?_)) zxo
  refine s_bipush (pc := 18) (v := 60) dX1_append_18 (by decide) ?_
  refine s_icmp_ge (pc := 20) (tgt := 27) dX1_append_20 (by decide) (fun _ => ?_) (fun _ => ?_)
  · refine s_iconst (pc := 27) (v := 0) dX1_append_27 (by decide) ?_
    exact s_sub (pc := 28) [0, 1] rfl (w_X1_append_28 v0 v1 0 h6)
  · refine s_iconst (pc := 23) (v := 1) dX1_append_23 (by decide) ?_
    refine s_goto (pc := 24) (tgt := 28) dX1_append_24 (by decide) ?_
    exact s_sub (pc := 28) [0, 1] rfl (w_X1_append_28 v0 v1 1 h6)
theorem c_X1_append {d0 : Nat} (hd0 : 9 < d0) (v0 : Option Nat) (v1 : Int32) (h : zH) : zCal D z d0 h yX1_append [va_rf v0, .int v1] (f_X1_append v0 v1 h) :=
  ⟨cX1_append, 2, (some .int), [], 9, (show lv_args 0 [va_rf v0, .int v1] = [(0, va_rf v0), (1, .int v1)] by simp [lv_args, zcat_rf, zcat_i, zcat_l, zcat_f, zcat_d]) ▸ w_X1_append v0 v1 h, (plainFor_of_name (by decide)), by simp [lg_sl, zcat_rf, zcat_i, zcat_l, zcat_f, zcat_d], q2861, q95, hd0, by decide, by decide⟩
theorem w_X0_append_12 (s0 : Option Nat) (h : zH) : zS D z yX0_append cX0_append 4 (some .int) [(0, 9, 12, 13), (0, 9, 15, 15)] 10 h 12 [] [va_rf s0] (f_X0_append_12 s0 h) := by
  unfold f_X0_append_12
  refine s_ast_n (pc := 12) (L2 := []) [] dX0_append_12 rfl (by decide) rfl rfl (zcA rfl) ?_
  refine s_iconst (pc := 13) (v := 1) dX0_append_13 (by decide) ?_
  exact s_iret (pc := 14) dX0_append_14 rfl
theorem w_X0_append_15 (s0 : Option Nat) (h : zH) : zS D z yX0_append cX0_append 4 (some .int) [(0, 9, 12, 13), (0, 9, 15, 15)] 10 h 15 [] [va_rf s0] (f_X0_append_15 s0 h) := by
  unfold f_X0_append_15
  refine s_ast_n (pc := 15) (L2 := []) [] dX0_append_15 rfl (by decide) rfl rfl (zcA rfl) ?_
  refine s_iconst (pc := 16) (v := 2) dX0_append_16 (by decide) ?_
  exact s_iret (pc := 17) dX0_append_17 rfl
theorem w_X0_append (v0 : Option Nat) (v1 : Int32) (v2 : Option Nat) (h : zH) : zS D z yX0_append cX0_append 4 (some .int) [(0, 9, 12, 13), (0, 9, 15, 15)] 10 h 0 [(0, va_rf v0), (1, .int v1), (2, va_rf v2)] [] (f_X0_append v0 v1 v2 h) := by
  unfold f_X0_append
  refine s_aload_n (pc := 0) 2 dX0_append_0 rfl rfl ?_
  refine s_iconst (pc := 1) (v := 0) dX0_append_1 (by decide) ?_
  refine s_aload_n (pc := 2) 0 dX0_append_2 rfl rfl ?_
  refine s_iload_n (pc := 3) 1 dX0_append_3 rfl rfl ?_
  refine zS_ite (fun ht => ?_) (fun _ => zS_none)
  refine s_callV (pc := 4) (np := 1) (as := [.int v1]) (rest := [.int 0, va_rf v2]) dX0_append_4 ht (q := (RX1, TX1, 11)) rfl (c_X1_append (by decide) v0 v1 h) rfl rfl q2858 q2859 q2860 rfl (by simp [zcat_rf, zcat_i, zcat_l, zcat_f, zcat_d]) (zkI (fun x3 h4 => ?_)) (fun e2 h1 => zT_ite (fun hx => (zT_catch (q := (RJ34, TJ34, 0)) [] (0, 9, 12, 13) [(0, 9, 15, 15)] rfl (by rw [hx]; rfl) zp0 rfl (by decide) q2266 (Or.inl rfl) rfl (by exact s_sub (pc := 12) [] rfl (w_X0_append_12 (some e2.2) h1)))) (fun _ => zT_ite (fun hx => (zT_catch (q := (RJ39, TJ39, 0)) [(0, 9, 12, 13)] (0, 9, 15, 15) [] rfl (by rw [hx]; rfl) (zpn (by decide) q2266 (by decide +kernel) zp0) rfl (by decide) q2267 (Or.inl rfl) rfl (by exact s_sub (pc := 15) [] rfl (w_X0_append_15 (some e2.2) h1)))) (fun _ => zT_ite (fun hx => (zT_out (fun q hq => by rw [hx] at hq; cases hq; exact (zpn (by decide) q2266 (by decide +kernel) (zpn (by decide) q2267 (by decide +kernel) zp0))))) (fun _ => zT_ite (fun hx => (zT_out (fun q hq => by rw [hx] at hq; cases hq; exact (zpn (by decide) q2266 (by decide +kernel) (zpn (by decide) q2267 (by decide +kernel) zp0))))) (fun _ => zT_ite (fun hx => (zT_out (fun q hq => by rw [hx] at hq; cases hq; exact (zpn (by decide) q2266 (by decide +kernel) (zpn (by decide) q2267 (by decide +kernel) zp0))))) (fun _ => zT_ite (fun hx => (zT_out (fun q hq => by rw [hx] at hq; cases hq; exact (zpn (by decide) q2266 (by decide +kernel) (zpn (by decide) q2267 (by decide +kernel) zp0))))) (fun _ => zT_ite (fun hx => (zT_out (fun q hq => by rw [hx] at hq; cases hq; exact (zpn (by decide) q2266 (by decide +kernel) (zpn (by decide) q2267 (by decide +kernel) zp0))))) (fun _ => zT_ite (fun hx => (zT_out (fun q hq => by rw [hx] at hq; cases hq; exact (zpn (by decide) q2266 (by decide +kernel) (zpn (by decide) q2267 (by decide +kernel) zp0))))) (fun _ => zT_none)))))))))
  refine s_i2l (pc := 7) dX0_append_7 ?_
  refine s_last (pc := 8) dX0_append_8 (ztc rfl zt0) (fun h5 => ?_)
  refine s_goto (pc := 9) (tgt := 18) dX0_append_9 (by decide) ?_
  refine s_iconst (pc := 18) (v := 0) dX0_append_18 (by decide) ?_
  exact s_iret (pc := 19) dX0_append_19 rfl
theorem c_X0_append {d0 : Nat} (hd0 : 10 < d0) (v0 : Option Nat) (v1 : Int32) (v2 : Option Nat) (h : zH) : zCal D z d0 h yX0_append [va_rf v0, .int v1, va_rf v2] (f_X0_append v0 v1 v2 h) :=
  ⟨cX0_append, 4, (some .int), [(0, 9, 12, 13), (0, 9, 15, 15)], 10, (show lv_args 0 [va_rf v0, .int v1, va_rf v2] = [(0, va_rf v0), (1, .int v1), (2, va_rf v2)] by simp [lv_args, zcat_rf, zcat_i, zcat_l, zcat_f, zcat_d]) ▸ w_X0_append v0 v1 v2 h, (plainFor_of_name (by decide)), by simp [lg_sl, zcat_rf, zcat_i, zcat_l, zcat_f, zcat_d], q2857, q94, hd0, by decide, by decide⟩
theorem w_X10_init (v0 : Option Nat) (v1 : Option Nat) (h : zH) : zS D z yX10_init cX10_init 2 none [] 1 h 0 [(0, va_rf v0), (1, va_rf v1)] [] (f_X10_init v0 v1 h) := by
  unfold f_X10_init
  refine s_aload_n (pc := 0) 0 dX10_init_0 rfl rfl ?_
  refine s_aload_n (pc := 1) 1 dX10_init_1 rfl rfl ?_
  refine s_putR (pc := 2) dX10_init_2 pf_X10_1 (fun h1 => ?_)
  refine s_aload_n (pc := 5) 0 dX10_init_5 rfl rfl ?_
  refine zS_ite (fun hr => ?_) (fun _ => zS_none)
  refine s_objinit (pc := 6) dX10_init_6 hr q2878 q164 q165 (by decide) (by decide) ?_
  exact s_vret (pc := 9) dX10_init_9 rfl
theorem c_X10_init {d0 : Nat} (hd0 : 1 < d0) (v0 : Option Nat) (v1 : Option Nat) (h : zH) : zCal D z d0 h yX10_init [va_rf v0, va_rf v1] (f_X10_init v0 v1 h) :=
  ⟨cX10_init, 2, none, [], 1, (show lv_args 0 [va_rf v0, va_rf v1] = [(0, va_rf v0), (1, va_rf v1)] by simp [lv_args, zcat_rf, zcat_i, zcat_l, zcat_f, zcat_d]) ▸ w_X10_init v0 v1 h, (plainFor_of_name (by decide)), by simp [lg_sl, zcat_rf, zcat_i, zcat_l, zcat_f, zcat_d], q2877, q153, hd0, by decide, by decide⟩
theorem w_X11_init (v0 : Option Nat) (h : zH) : zS D z yX11_init cX11_init 1 none [] 1 h 0 [(0, va_rf v0)] [] (f_X11_init v0 h) := by
  unfold f_X11_init
  refine s_aload_n (pc := 0) 0 dX11_init_0 rfl rfl ?_
  refine zS_ite (fun hr => ?_) (fun _ => zS_none)
  refine s_objinit (pc := 1) dX11_init_1 hr q2895 q164 q165 (by decide) (by decide) ?_
  refine s_aload_n (pc := 4) 0 dX11_init_4 rfl rfl ?_
  refine s_bipush (pc := 5) (v := 60) dX11_init_5 (by decide) ?_
  refine s_newq (pc := 7) (E := "FloatingDock$Operation") dX11_init_7 ⟨rfl, by decide⟩ q2896 q2897 (fun r1 h2 => ?_)
  refine s_putA (pc := 10) dX11_init_10 pf_X11_11 (fun h3 => ?_)
  exact s_vret (pc := 13) dX11_init_13 rfl
theorem c_X11_init {d0 : Nat} (hd0 : 1 < d0) (v0 : Option Nat) (h : zH) : zCal D z d0 h yX11_init [va_rf v0] (f_X11_init v0 h) :=
  ⟨cX11_init, 1, none, [], 1, (show lv_args 0 [va_rf v0] = [(0, va_rf v0)] by simp [lv_args, zcat_rf, zcat_i, zcat_l, zcat_f, zcat_d]) ▸ w_X11_init v0 h, (plainFor_of_name (by decide)), by simp [lg_sl, zcat_rf, zcat_i, zcat_l, zcat_f, zcat_d], q2894, q154, hd0, by decide, by decide⟩
theorem w_J9_checkIndex (v0 : Int32) (v1 : Int32) (h : zH) : zS D z yJ9_checkIndex cJ9_checkIndex 2 none [] 2 h 0 [(0, .int v0), (1, .int v1)] [] (f_J9_checkIndex v0 v1 h) := by
  unfold f_J9_checkIndex
  refine s_iload_n (pc := 0) 0 dJ9_checkIndex_0 rfl rfl ?_
  refine s_iload_n (pc := 1) 1 dJ9_checkIndex_1 rfl rfl ?_
  refine s_getsQ (pc := 2) (n := "SIOOBE_FORMATTER") (i := 6) dJ9_checkIndex_2 (List.mem_of_getElem? (i := 11) rfl) q919 ?_
  refine s_callSS (pc := 5) (np := 3) (as := [.int v0, .int v1, va_rf (if zG h 6 = 0 then none else some (zG h 6 - 1))]) (rest := []) dJ9_checkIndex_5 (c_J32_checkIndex (by decide) v0 v1 (if zG h 6 = 0 then none else some (zG h 6 - 1)) h) rfl rfl q1925 q1197 rfl (by decide) (zkI (fun x1 h2 => ?_)) zxo
  refine s_pop (pc := 8) dJ9_checkIndex_8 rfl ?_
  exact s_vret (pc := 9) dJ9_checkIndex_9 rfl
theorem c_J9_checkIndex {d0 : Nat} (hd0 : 2 < d0) (v0 : Int32) (v1 : Int32) (h : zH) : zCal D z d0 h yJ9_checkIndex [.int v0, .int v1] (f_J9_checkIndex v0 v1 h) :=
  ⟨cJ9_checkIndex, 2, none, [], 2, (show lv_args 0 [.int v0, .int v1] = [(0, .int v0), (1, .int v1)] by simp [lv_args, zcat_rf, zcat_i, zcat_l, zcat_f, zcat_d]) ▸ w_J9_checkIndex v0 v1 h, (plainFor_of_name (by decide)), by simp [lg_sl, zcat_rf, zcat_i, zcat_l, zcat_f, zcat_d], q1924, q106, hd0, by decide, by decide⟩
theorem w_J7_charAt (v0 : Option Nat) (v1 : Int32) (h : zH) : zS D z yJ7_charAt cJ7_charAt 5 (some .char) [] 3 h 0 [(0, va_rf v0), (1, .int v1)] [] (f_J7_charAt v0 v1 h) := by
  unfold f_J7_charAt
  refine s_aload_n (pc := 0) 0 dJ7_charAt_0 rfl rfl ?_
  refine s_gI (pc := 1) dJ7_charAt_1 gf_J7_22 (fun x1 => ?_)
  refine s_ist_n (pc := 4) (L2 := [(0, va_rf v0), (1, .int v1)]) [0, 1] dJ7_charAt_4 rfl (by decide) rfl rfl (zcB (j := 1) rfl rfl rfl) ?_
  refine s_aload_n (pc := 5) 1 dJ7_charAt_5 rfl rfl ?_
  refine s_gR (pc := 6) dJ7_charAt_6 gf_J7_15 (fun r2 => ?_)
  refine s_ast_n (pc := 9) (L2 := [(2, .int x1), (0, va_rf v0), (1, .int v1)]) [0, 1, 2] dJ7_charAt_9 rfl (by decide) rfl rfl (zcB (j := 0) rfl rfl rfl) ?_
  refine s_aload_n (pc := 10) 2 dJ7_charAt_10 rfl rfl ?_
  refine s_gI (pc := 11) dJ7_charAt_11 gf_J7_79 (fun x3 => ?_)
  refine s_aload_n (pc := 14) 0 dJ7_charAt_14 rfl rfl ?_
  refine s_alen (pc := 15) dJ7_charAt_15 zarrs_ok (fun x4 => ?_)
  refine s_iload_n (pc := 16) 1 dJ7_charAt_16 rfl rfl ?_
  refine s_ishr (pc := 17) dJ7_charAt_17 ?_
  refine s_callSS (pc := 18) (np := 2) (as := [.int x3, .int (x4 >>> (x1 &&& 31))]) (rest := []) dJ7_charAt_18 (c_J11_min (by decide) x3 (x4 >>> (x1 &&& 31)) h) rfl rfl q2941 q377 rfl (by decide) (zkI (fun x5 h6 => ?_)) zxo
  refine s_ist (pc := 21) (L2 := [(3, va_rf r2), (2, .int x1), (1, .int v1)]) [0, 1, 3] dJ7_charAt_21 (by decide) rfl rfl (zcB (j := 0) rfl (zcat_rf r2) rfl) ?_
  refine s_iload_n (pc := 23) 3 dJ7_charAt_23 rfl rfl ?_
  refine s_iload (pc := 24) 0 dJ7_charAt_24 rfl ?_
  refine s_callSS (pc := 26) (np := 2) (as := [.int v1, .int x5]) (rest := []) dJ7_charAt_26 (c_J9_checkIndex (by decide) v1 x5 h6) rfl rfl q2942 q1923 rfl (by decide) (zkV (fun h7 => ?_)) zxo
  refine s_iload_n (pc := 29) 2 dJ7_charAt_29 rfl rfl ?_
  refine s_if_ne (pc := 30) (tgt := 42) dJ7_charAt_30 (by decide) (fun _ => ?_) (fun _ => ?_)
  · refine s_aload_n (pc := 42) 1 dJ7_charAt_42 rfl rfl ?_
    refine s_iload_n (pc := 43) 3 dJ7_charAt_43 rfl rfl ?_
    exact zS_none
  · refine s_aload_n (pc := 33) 1 dJ7_charAt_33 rfl rfl ?_
    refine s_iload_n (pc := 34) 3 dJ7_charAt_34 rfl rfl ?_
    refine s_bald (pc := 35) dJ7_charAt_35 (ztc rfl zt0) (fun x10 => ?_)
    refine s_sipush (pc := 36) (v := 255) dJ7_charAt_36 (by decide) ?_
    refine s_iand (pc := 39) dJ7_charAt_39 ?_
    refine s_i2c (pc := 40) dJ7_charAt_40 ?_
    exact s_nret (pc := 41) dJ7_charAt_41 rfl
theorem c_J7_charAt {d0 : Nat} (hd0 : 3 < d0) (v0 : Option Nat) (v1 : Int32) (h : zH) : zCal D z d0 h yJ7_charAt [va_rf v0, .int v1] (f_J7_charAt v0 v1 h) :=
  ⟨cJ7_charAt, 5, (some .char), [], 3, (show lv_args 0 [va_rf v0, .int v1] = [(0, va_rf v0), (1, .int v1)] by simp [lv_args, zcat_rf, zcat_i, zcat_l, zcat_f, zcat_d]) ▸ w_J7_charAt v0 v1 h, (plainFor_of_name (by decide)), by simp [lg_sl, zcat_rf, zcat_i, zcat_l, zcat_f, zcat_d], q2940, q104, hd0, by decide, by decide⟩
theorem w_J8_charAt (v0 : Option Nat) (v1 : Int32) (h : zH) : zS D z yJ8_charAt cJ8_charAt 2 (some .char) [] 4 h 0 [(0, va_rf v0), (1, .int v1)] [] (f_J8_charAt v0 v1 h) := by
  unfold f_J8_charAt
  refine s_aload_n (pc := 0) 0 dJ8_charAt_0 rfl rfl ?_
  refine s_iload_n (pc := 1) 1 dJ8_charAt_1 rfl rfl ?_
  refine zS_ite (fun ht => ?_) (fun _ => zS_none)
  refine s_callSU (pc := 2) (np := 1) (as := [.int v1]) (rest := []) dJ8_charAt_2 ht (q := (RJ8, TJ8, 4)) rfl (c_J7_charAt (by decide) v0 v1 h) ⟨_, _, _, q2940⟩ (by decide) rfl rfl q2938 q3778 q355 q2939 rfl (by decide) (zkI (fun x1 h2 => ?_)) zxo
  exact s_nret (pc := 5) dJ8_charAt_5 rfl
theorem c_J8_charAt {d0 : Nat} (hd0 : 4 < d0) (v0 : Option Nat) (v1 : Int32) (h : zH) : zCal D z d0 h yJ8_charAt [va_rf v0, .int v1] (f_J8_charAt v0 v1 h) :=
  ⟨cJ8_charAt, 2, (some .char), [], 4, (show lv_args 0 [va_rf v0, .int v1] = [(0, va_rf v0), (1, .int v1)] by simp [lv_args, zcat_rf, zcat_i, zcat_l, zcat_f, zcat_d]) ▸ w_J8_charAt v0 v1 h, (plainFor_of_name (by decide)), by simp [lg_sl, zcat_rf, zcat_i, zcat_l, zcat_f, zcat_d], q2937, q105, hd0, by decide, by decide⟩
theorem w_J9_isLatin1 (v0 : Option Nat) (h : zH) : zS D z yJ9_isLatin1 cJ9_isLatin1 1 (some .boolean) [] 1 h 0 [(0, va_rf v0)] [] (f_J9_isLatin1 v0 h) := by
  unfold f_J9_isLatin1
  refine s_getsI (pc := 0) (n := "COMPACT_STRINGS") (v := 1) dJ9_isLatin1_0 (List.mem_of_getElem? (i := 7) rfl) q941 ?_
  refine s_if_eq (pc := 3) (tgt := 17) dJ9_isLatin1_3 (by decide) (fun _ => ?_) (fun _ => ?_)
  · refine s_iconst (pc := 17) (v := 0) dJ9_isLatin1_17 (by decide) ?_
    exact s_nret (pc := 18) dJ9_isLatin1_18 rfl
  · refine s_aload_n (pc := 6) 0 dJ9_isLatin1_6 rfl rfl ?_
    refine s_gI (pc := 7) dJ9_isLatin1_7 gf_J9_15 (fun x1 => ?_)
    refine s_if_ne (pc := 10) (tgt := 17) dJ9_isLatin1_10 (by decide) (fun _ => ?_) (fun _ => ?_)
    · refine s_iconst (pc := 17) (v := 0) dJ9_isLatin1_17 (by decide) ?_
      exact s_nret (pc := 18) dJ9_isLatin1_18 rfl
    · refine s_iconst (pc := 13) (v := 1) dJ9_isLatin1_13 (by decide) ?_
      refine s_goto (pc := 14) (tgt := 18) dJ9_isLatin1_14 (by decide) ?_
      exact s_nret (pc := 18) dJ9_isLatin1_18 rfl
theorem c_J9_isLatin1 {d0 : Nat} (hd0 : 1 < d0) (v0 : Option Nat) (h : zH) : zCal D z d0 h yJ9_isLatin1 [va_rf v0] (f_J9_isLatin1 v0 h) :=
  ⟨cJ9_isLatin1, 1, (some .boolean), [], 1, (show lv_args 0 [va_rf v0] = [(0, va_rf v0)] by simp [lv_args, zcat_rf, zcat_i, zcat_l, zcat_f, zcat_d]) ▸ w_J9_isLatin1 v0 h, (plainFor_of_name (by decide)), by simp [lg_sl, zcat_rf, zcat_i, zcat_l, zcat_f, zcat_d], q1590, q106, hd0, by decide, by decide⟩
theorem w_J33_charAt (v0 : Option Nat) (v1 : Int32) (h : zH) : zS D z yJ33_charAt cJ33_charAt 2 (some .char) [] 3 h 0 [(0, va_rf v0), (1, .int v1)] [] (f_J33_charAt v0 v1 h) := by
  unfold f_J33_charAt
  refine s_iload_n (pc := 0) 1 dJ33_charAt_0 rfl rfl ?_
  refine s_aload_n (pc := 1) 0 dJ33_charAt_1 rfl rfl ?_
  refine s_alen (pc := 2) dJ33_charAt_2 zarrs_ok (fun x1 => ?_)
  refine s_callSS (pc := 3) (np := 2) (as := [.int v1, .int x1]) (rest := []) dJ33_charAt_3 (c_J9_checkIndex (by decide) v1 x1 h) rfl rfl q2951 q1923 rfl (by decide) (zkV (fun h2 => ?_)) zxo
  refine s_aload_n (pc := 6) 0 dJ33_charAt_6 rfl rfl ?_
  refine s_iload_n (pc := 7) 1 dJ33_charAt_7 rfl rfl ?_
  refine s_bald (pc := 8) dJ33_charAt_8 (ztc rfl zt0) (fun x3 => ?_)
  refine s_sipush (pc := 9) (v := 255) dJ33_charAt_9 (by decide) ?_
  refine s_iand (pc := 12) dJ33_charAt_12 ?_
  refine s_i2c (pc := 13) dJ33_charAt_13 ?_
  exact s_nret (pc := 14) dJ33_charAt_14 rfl
theorem c_J33_charAt {d0 : Nat} (hd0 : 3 < d0) (v0 : Option Nat) (v1 : Int32) (h : zH) : zCal D z d0 h yJ33_charAt [va_rf v0, .int v1] (f_J33_charAt v0 v1 h) :=
  ⟨cJ33_charAt, 2, (some .char), [], 3, (show lv_args 0 [va_rf v0, .int v1] = [(0, va_rf v0), (1, .int v1)] by simp [lv_args, zcat_rf, zcat_i, zcat_l, zcat_f, zcat_d]) ▸ w_J33_charAt v0 v1 h, (plainFor_of_name (by decide)), by simp [lg_sl, zcat_rf, zcat_i, zcat_l, zcat_f, zcat_d], q2950, q132, hd0, by decide, by decide⟩
theorem w_J9_charAt (v0 : Option Nat) (v1 : Int32) (h : zH) : zS D z yJ9_charAt cJ9_charAt 2 (some .char) [] 4 h 0 [(0, va_rf v0), (1, .int v1)] [] (f_J9_charAt v0 v1 h) := by
  unfold f_J9_charAt
  refine s_aload_n (pc := 0) 0 dJ9_charAt_0 rfl rfl ?_
  refine zS_ite (fun ht => ?_) (fun _ => zS_none)
  refine s_callV (pc := 1) (np := 0) (as := []) (rest := []) dJ9_charAt_1 ht (q := (RJ9, TJ9, 4)) rfl (c_J9_isLatin1 (by decide) v0 h) rfl rfl q1587 q1588 q1589 rfl (by decide) (zkI (fun x1 h2 => ?_)) zxo
  refine s_if_eq (pc := 4) (tgt := 16) dJ9_charAt_4 (by decide) (fun _ => ?_) (fun _ => ?_)
  · refine s_aload_n (pc := 16) 0 dJ9_charAt_16 rfl rfl ?_
    refine s_gR (pc := 17) dJ9_charAt_17 gf_J9_9 (fun r3 => ?_)
    refine s_iload_n (pc := 20) 1 dJ9_charAt_20 rfl rfl ?_
    exact zS_none
  · refine s_aload_n (pc := 7) 0 dJ9_charAt_7 rfl rfl ?_
    refine s_gR (pc := 8) dJ9_charAt_8 gf_J9_9 (fun r6 => ?_)
    refine s_iload_n (pc := 11) 1 dJ9_charAt_11 rfl rfl ?_
    refine s_callSS (pc := 12) (np := 2) (as := [va_rf r6, .int v1]) (rest := []) dJ9_charAt_12 (c_J33_charAt (by decide) r6 v1 h2) rfl rfl q2948 q2949 rfl (by decide) (zkI (fun x7 h8 => ?_)) zxo
    exact s_nret (pc := 15) dJ9_charAt_15 rfl
theorem c_J9_charAt {d0 : Nat} (hd0 : 4 < d0) (v0 : Option Nat) (v1 : Int32) (h : zH) : zCal D z d0 h yJ9_charAt [va_rf v0, .int v1] (f_J9_charAt v0 v1 h) :=
  ⟨cJ9_charAt, 2, (some .char), [], 4, (show lv_args 0 [va_rf v0, .int v1] = [(0, va_rf v0), (1, .int v1)] by simp [lv_args, zcat_rf, zcat_i, zcat_l, zcat_f, zcat_d]) ▸ w_J9_charAt v0 v1 h, (plainFor_of_name (by decide)), by simp [lg_sl, zcat_rf, zcat_i, zcat_l, zcat_f, zcat_d], q2947, q106, hd0, by decide, by decide⟩
theorem w_X10_commonPrefix_2 : ∀ (n : Nat) (a0 : Option Nat) (a1 : Option Nat) (a2 : Int32) (h : zH), zS D z yX10_commonPrefix cX10_commonPrefix 3 (some .int) [] 5 h 2 [(0, va_rf a0), (1, va_rf a1), (2, .int a2)] [] (f_X10_commonPrefix_2 n a0 a1 a2 h) := by
  intro n
  induction n with
  | zero => intros; exact zS_none
  | succ n ih =>
    intro a0 a1 a2 h
    rw [f_X10_commonPrefix_2.eq_2]
    refine s_iload_n (pc := 2) 2 dX10_commonPrefix_2 rfl rfl ?_
    refine s_aload_n (pc := 3) 1 dX10_commonPrefix_3 rfl rfl ?_
    refine zS_ite (fun ht => ?_) (fun _ => zS_none)
    refine s_callV (pc := 4) (np := 0) (as := []) (rest := [.int a2]) dX10_commonPrefix_4 ht (q := (RJ9, TJ9, 4)) rfl (c_J9_length (by decide) a1 h) rfl rfl q2932 q934 q935 rfl (by simp [zcat_rf, zcat_i, zcat_l, zcat_f, zcat_d]) (zkI (fun x1 h2 => ?_)) zxo
    refine s_icmp_ge (pc := 7) (tgt := 59) dX10_commonPrefix_7 (by decide) (fun _ => ?_) (fun _ => ?_)
    · refine s_iload_n (pc := 59) 2 dX10_commonPrefix_59 rfl rfl ?_
      exact s_iret (pc := 60) dX10_commonPrefix_60 rfl
    · refine s_aload_n (pc := 10) 0 dX10_commonPrefix_10 rfl rfl ?_
      refine s_gI (pc := 11) dX10_commonPrefix_11 gf_X10_13 (fun x3 => ?_)
      refine s_iload_n (pc := 14) 2 dX10_commonPrefix_14 rfl rfl ?_
      refine s_iadd (pc := 15) dX10_commonPrefix_15 ?_
      refine s_aload_n (pc := 16) 0 dX10_commonPrefix_16 rfl rfl ?_
      refine s_gR (pc := 17) dX10_commonPrefix_17 gf_X10_1 (fun r4 => ?_)
      refine s_gR (pc := 20) dX10_commonPrefix_20 gf_X10_17 (fun r5 => ?_)
      refine zS_ite (fun ht => ?_) (fun _ => zS_none)
      refine s_callV (pc := 23) (np := 0) (as := []) (rest := [.int (x3 + a2)]) dX10_commonPrefix_23 ht (q := (RJ8, TJ8, 4)) rfl (c_J8_length (by decide) r5 h2) rfl rfl q2933 q1023 q3777 rfl (by simp [zcat_rf, zcat_i, zcat_l, zcat_f, zcat_d]) (zkI (fun x6 h7 => ?_)) zxo
      refine s_icmp_ge (pc := 26) (tgt := 59) dX10_commonPrefix_26 (by decide) (fun _ => ?_) (fun _ => ?_)
      · refine s_iload_n (pc := 59) 2 dX10_commonPrefix_59 rfl rfl ?_
        exact s_iret (pc := 60) dX10_commonPrefix_60 rfl
      · refine s_aload_n (pc := 29) 0 dX10_commonPrefix_29 rfl rfl ?_
        refine s_gR (pc := 30) dX10_commonPrefix_30 gf_X10_1 (fun r8 => ?_)
        refine s_gR (pc := 33) dX10_commonPrefix_33 gf_X10_17 (fun r9 => ?_)
        refine s_aload_n (pc := 36) 0 dX10_commonPrefix_36 rfl rfl ?_
        refine s_gI (pc := 37) dX10_commonPrefix_37 gf_X10_13 (fun x10 => ?_)
        refine s_iload_n (pc := 40) 2 dX10_commonPrefix_40 rfl rfl ?_
        refine s_iadd (pc := 41) dX10_commonPrefix_41 ?_
        refine zS_ite (fun ht => ?_) (fun _ => zS_none)
        refine s_callV (pc := 42) (np := 1) (as := [.int (x10 + a2)]) (rest := []) dX10_commonPrefix_42 ht (q := (RJ8, TJ8, 4)) rfl (c_J8_charAt (by decide) r9 (x10 + a2) h7) rfl rfl q2934 q2935 q2936 rfl (by decide) (zkI (fun x11 h12 => ?_)) zxo
        refine s_aload_n (pc := 45) 1 dX10_commonPrefix_45 rfl rfl ?_
        refine s_iload_n (pc := 46) 2 dX10_commonPrefix_46 rfl rfl ?_
        refine zS_ite (fun ht => ?_) (fun _ => zS_none)
        refine s_callV (pc := 47) (np := 1) (as := [.int a2]) (rest := [.int x11]) dX10_commonPrefix_47 ht (q := (RJ9, TJ9, 4)) rfl (c_J9_charAt (by decide) a1 a2 h12) rfl rfl q2944 q2945 q2946 rfl (by simp [zcat_rf, zcat_i, zcat_l, zcat_f, zcat_d]) (zkI (fun x13 h14 => ?_)) zxo
        refine s_icmp_ne (pc := 50) (tgt := 59) dX10_commonPrefix_50 (by decide) (fun _ => ?_) (fun _ => ?_)
        · refine s_iload_n (pc := 59) 2 dX10_commonPrefix_59 rfl rfl ?_
          exact s_iret (pc := 60) dX10_commonPrefix_60 rfl
        · refine s_inc (pc := 53) (v := 1) (L2 := [(0, va_rf a0), (1, va_rf a1)]) 2 [0, 1] dX10_commonPrefix_53 rfl (by decide) (by decide) rfl rfl (zcB (j := 1) rfl (zcat_rf a1) rfl) (fun x15 => ?_)
          refine s_goto (pc := 56) (tgt := 2) dX10_commonPrefix_56 (by decide) ?_
          exact s_sub (pc := 2) [1, 2, 0] rfl (ih a0 a1 x15 h14)
theorem w_X10_commonPrefix (v0 : Option Nat) (v1 : Option Nat) (h : zH) : zS D z yX10_commonPrefix cX10_commonPrefix 3 (some .int) [] 5 h 0 [(0, va_rf v0), (1, va_rf v1)] [] (f_X10_commonPrefix v0 v1 h) := by
  unfold f_X10_commonPrefix
  refine s_iconst (pc := 0) (v := 0) dX10_commonPrefix_0 (by decide) ?_
  refine s_ist_n (pc := 1) (L2 := [(0, va_rf v0), (1, va_rf v1)]) [0, 1] dX10_commonPrefix_1 rfl (by decide) rfl rfl (zcB (j := 1) rfl (zcat_rf v1) rfl) ?_
  exact s_sub (pc := 2) [1, 2, 0] rfl (w_X10_commonPrefix_2 zfuel v0 v1 0 h)
theorem c_X10_commonPrefix {d0 : Nat} (hd0 : 5 < d0) (v0 : Option Nat) (v1 : Option Nat) (h : zH) : zCal D z d0 h yX10_commonPrefix [va_rf v0, va_rf v1] (f_X10_commonPrefix v0 v1 h) :=
  ⟨cX10_commonPrefix, 3, (some .int), [], 5, (show lv_args 0 [va_rf v0, va_rf v1] = [(0, va_rf v0), (1, va_rf v1)] by simp [lv_args, zcat_rf, zcat_i, zcat_l, zcat_f, zcat_d]) ▸ w_X10_commonPrefix v0 v1 h, (plainFor_of_name (by decide)), by simp [lg_sl, zcat_rf, zcat_i, zcat_l, zcat_f, zcat_d], q2931, q153, hd0, by decide, by decide⟩
theorem w_X12_init (v0 : Option Nat) (v1 : Int32) (h : zH) : zS D z yX12_init cX12_init 2 none [] 3 h 0 [(0, va_rf v0), (1, .int v1)] [] (f_X12_init v0 v1 h) := by
  unfold f_X12_init
  refine s_aload_n (pc := 0) 0 dX12_init_0 rfl rfl ?_
  refine s_null (pc := 1) dX12_init_1 ?_
  refine s_null (pc := 2) dX12_init_2 ?_
  refine s_iconst (pc := 3) (v := 0) dX12_init_3 (by decide) ?_
  refine s_iconst (pc := 4) (v := 0) dX12_init_4 (by decide) ?_
  refine zS_ite (fun hr => ?_) (fun _ => zS_none)
  refine s_callC (pc := 5) (np := 4) (as := [va_rf none, va_rf none, .int 0, .int 0]) (rest := []) dX12_init_5 hr (c_J26_init_3 (by decide) v0 none none 0 0 h) ⟨_, _, q2465⟩ rfl rfl rfl q2968 q2464 rfl (by decide) (zkV (fun h1 => ?_)) zxo
  refine s_aload_n (pc := 8) 0 dX12_init_8 rfl rfl ?_
  refine s_iload_n (pc := 9) 1 dX12_init_9 rfl rfl ?_
  refine s_putI (pc := 10) dX12_init_10 pf_X12_7 (fun h2 => ?_)
  exact s_vret (pc := 13) dX12_init_13 rfl
theorem c_X12_init {d0 : Nat} (hd0 : 3 < d0) (v0 : Option Nat) (v1 : Int32) (h : zH) : zCal D z d0 h yX12_init [va_rf v0, .int v1] (f_X12_init v0 v1 h) :=
  ⟨cX12_init, 2, none, [], 3, (show lv_args 0 [va_rf v0, .int v1] = [(0, va_rf v0), (1, .int v1)] by simp [lv_args, zcat_rf, zcat_i, zcat_l, zcat_f, zcat_d]) ▸ w_X12_init v0 v1 h, (plainFor_of_name (by decide)), by simp [lg_sl, zcat_rf, zcat_i, zcat_l, zcat_f, zcat_d], q2967, q155, hd0, by decide, by decide⟩
theorem w_X10_keyword_69 (a0 : Option Nat) (a2 : Int32) (h : zH) : zS D z yX10_keyword cX10_keyword 8 (some (.object "java/lang/String")) [] 6 h 69 [(0, va_rf a0), (2, .int a2)] [] (f_X10_keyword_69 a0 a2 h) := by
  unfold f_X10_keyword_69
  refine s_new (pc := 69) dX10_keyword_69 nf_X10_33 (fun r12 h13 => ?_)
  refine s_dup (pc := 72) dX10_keyword_72 (zcat_rf _) ?_
  refine s_aload_n (pc := 73) 0 dX10_keyword_73 rfl rfl ?_
  refine s_gI (pc := 74) dX10_keyword_74 gf_X10_13 (fun x14 => ?_)
  refine s_iload_n (pc := 77) 1 dX10_keyword_77 rfl rfl ?_
  refine s_iadd (pc := 78) dX10_keyword_78 ?_
  refine zS_ite (fun hr => ?_) (fun _ => zS_none)
  refine s_callC (pc := 79) (np := 1) (as := [.int (x14 + a2)]) (rest := [va_rf r12]) dX10_keyword_79 hr (c_X12_init (by decide) r12 (x14 + a2) h13) ⟨_, _, q2967⟩ rfl rfl rfl q2965 q2966 rfl (by simp [zcat_rf, zcat_i, zcat_l, zcat_f, zcat_d]) (zkV (fun h15 => ?_)) zxo
  exact s_athrow (pc := 82) dX10_keyword_82 rfl (fun x => zxo x _)
theorem w_X10_keyword_11 : ∀ (n : Nat) (a0 : Option Nat) (a2 : Int32) (a3 : Option Nat) (a4 : Int32) (a5 : Int32) (h : zH), zS D z yX10_keyword cX10_keyword 8 (some (.object "java/lang/String")) [] 6 h 11 [(0, va_rf a0), (2, .int a2), (3, va_rf a3), (4, .int a4), (5, .int a5)] [] (f_X10_keyword_11 n a0 a2 a3 a4 a5 h) := by
  intro n
  induction n with
  | zero => intros; exact zS_none
  | succ n ih =>
    intro a0 a2 a3 a4 a5 h
    rw [f_X10_keyword_11.eq_2]
    refine s_iload (pc := 11) 4 dX10_keyword_11 rfl ?_
    refine s_iload (pc := 13) 3 dX10_keyword_13 rfl ?_
    refine s_icmp_ge (pc := 15) (tgt := 69) dX10_keyword_15 (by decide) (fun _ => ?_) (fun _ => ?_)
    · exact s_sub (pc := 69) [0, 1] rfl (w_X10_keyword_69 a0 a2 h)
    · refine s_aload_n (pc := 18) 2 dX10_keyword_18 rfl rfl ?_
      refine s_iload (pc := 19) 4 dX10_keyword_19 rfl ?_
      refine s_aald (pc := 21) dX10_keyword_21 zrefs_ok (fun r2 => ?_)
      refine s_ast (pc := 22) (L2 := [(0, va_rf a0), (2, .int a2), (3, va_rf a3), (4, .int a4), (5, .int a5)]) [0, 1, 2, 3, 4] dX10_keyword_22 (by decide) rfl rfl (zcB (j := 4) rfl rfl rfl) ?_
      refine s_aload_n (pc := 24) 1 dX10_keyword_24 rfl rfl ?_
      refine s_aload (pc := 25) 0 dX10_keyword_25 rfl ?_
      refine zS_ite (fun ht => ?_) (fun _ => zS_none)
      refine s_callV (pc := 27) (np := 1) (as := [va_rf r2]) (rest := []) dX10_keyword_27 ht (q := (RX10, TX10, 2)) rfl (c_X10_commonPrefix (by decide) a0 r2 h) rfl rfl q2928 q2930 qs30 rfl (by decide) (zkI (fun x3 h4 => ?_)) zxo
      refine s_ist (pc := 30) (L2 := [(6, va_rf r2), (0, va_rf a0), (2, .int a2), (3, va_rf a3), (4, .int a4), (5, .int a5)]) [0, 1, 2, 3, 4, 5] dX10_keyword_30 (by decide) rfl rfl (zcB (j := 0) rfl (zcat_rf r2) rfl) ?_
      refine s_iload (pc := 32) 0 dX10_keyword_32 rfl ?_
      refine s_aload (pc := 34) 1 dX10_keyword_34 rfl ?_
      refine zS_ite (fun ht => ?_) (fun _ => zS_none)
      refine s_callV (pc := 36) (np := 0) (as := []) (rest := [.int x3]) dX10_keyword_36 ht (q := (RJ9, TJ9, 4)) rfl (c_J9_length (by decide) r2 h4) rfl rfl q2932 q934 q935 rfl (by simp [zcat_rf, zcat_i, zcat_l, zcat_f, zcat_d]) (zkI (fun x5 h6 => ?_)) zxo
      refine s_icmp_ne (pc := 39) (tgt := 56) dX10_keyword_39 (by decide) (fun _ => ?_) (fun _ => ?_)
      · refine s_iload_n (pc := 56) 3 dX10_keyword_56 rfl rfl ?_
        refine s_iload (pc := 57) 0 dX10_keyword_57 rfl ?_
        refine s_callSS (pc := 59) (np := 2) (as := [.int a2, .int x3]) (rest := []) dX10_keyword_59 (c_J11_max (by decide) a2 x3 h6) rfl rfl q2955 q881 rfl (by decide) (zkI (fun x7 h8 => ?_)) zxo
        refine s_ist_n (pc := 62) (L2 := [(0, va_rf a0), (3, va_rf a3), (4, .int a4), (5, .int a5)]) [2, 4, 5, 6] dX10_keyword_62 rfl (by decide) rfl rfl (zcA rfl) ?_
        refine s_inc (pc := 63) (v := 1) (L2 := [(2, .int x7), (0, va_rf a0), (3, va_rf a3), (4, .int a4)]) 4 [0, 1, 2, 3] dX10_keyword_63 rfl (by decide) (by decide) rfl rfl (zcB (j := 3) rfl rfl rfl) (fun x9 => ?_)
        refine s_goto (pc := 66) (tgt := 11) dX10_keyword_66 (by decide) ?_
        exact s_sub (pc := 11) [2, 1, 3, 4, 0] rfl (ih a0 x7 a3 a4 x9 h8)
      · refine s_aload_n (pc := 42) 2 dX10_keyword_42 rfl rfl ?_
        refine s_dup (pc := 43) dX10_keyword_43 (zcat_rf _) ?_
        refine s_gI (pc := 44) dX10_keyword_44 gf_X10_13 (fun x10 => ?_)
        refine s_iload (pc := 47) 0 dX10_keyword_47 rfl ?_
        refine s_iadd (pc := 49) dX10_keyword_49 ?_
        refine s_putI (pc := 50) dX10_keyword_50 pf_X10_13 (fun h11 => ?_)
        refine s_aload (pc := 53) 1 dX10_keyword_53 rfl ?_
        exact s_aret (pc := 55) dX10_keyword_55 rfl (Or.inl ⟨_, rfl⟩)
theorem w_X10_keyword (v0 : Option Nat) (v1 : Option Nat) (h : zH) : zS D z yX10_keyword cX10_keyword 8 (some (.object "java/lang/String")) [] 6 h 0 [(0, va_rf v0), (1, va_rf v1)] [] (f_X10_keyword v0 v1 h) := by
  unfold f_X10_keyword
  refine s_iconst (pc := 0) (v := 0) dX10_keyword_0 (by decide) ?_
  refine s_ist_n (pc := 1) (L2 := [(0, va_rf v0), (1, va_rf v1)]) [0, 1] dX10_keyword_1 rfl (by decide) rfl rfl (zcB (j := 1) rfl (zcat_rf v1) rfl) ?_
  refine s_aload_n (pc := 2) 2 dX10_keyword_2 rfl rfl ?_
  refine s_ast_n (pc := 3) (L2 := [(2, .int 0), (0, va_rf v0)]) [0, 1] dX10_keyword_3 rfl (by decide) rfl rfl (zcB (j := 0) rfl rfl rfl) ?_
  refine s_aload_n (pc := 4) 0 dX10_keyword_4 rfl rfl ?_
  refine s_alen (pc := 5) dX10_keyword_5 zarrs_ok (fun x1 => ?_)
  refine s_ist (pc := 6) (L2 := [(3, va_rf v1), (2, .int 0), (0, va_rf v0)]) [0, 1, 2] dX10_keyword_6 (by decide) rfl rfl (zcB (j := 0) rfl (zcat_rf v1) rfl) ?_
  refine s_iconst (pc := 8) (v := 0) dX10_keyword_8 (by decide) ?_
  refine s_ist (pc := 9) (L2 := [(4, .int x1), (3, va_rf v1), (2, .int 0), (0, va_rf v0)]) [0, 1, 2, 3] dX10_keyword_9 (by decide) rfl rfl (zcB (j := 0) rfl rfl rfl) ?_
  exact s_sub (pc := 11) [4, 3, 2, 1, 0] rfl (w_X10_keyword_11 zfuel v0 0 v1 x1 0 h)
theorem c_X10_keyword {d0 : Nat} (hd0 : 6 < d0) (v0 : Option Nat) (v1 : Option Nat) (h : zH) : zCal D z d0 h yX10_keyword [va_rf v0, va_rf v1] (f_X10_keyword v0 v1 h) :=
  ⟨cX10_keyword, 8, (some (.object "java/lang/String")), [], 6, (show lv_args 0 [va_rf v0, va_rf v1] = [(0, va_rf v0), (1, va_rf v1)] by simp [lv_args, zcat_rf, zcat_i, zcat_l, zcat_f, zcat_d]) ▸ w_X10_keyword v0 v1 h, (plainFor_of_name (by decide)), by simp [lg_sl, zcat_rf, zcat_i, zcat_l, zcat_f, zcat_d], q2927, q153, hd0, by decide, by decide⟩
theorem w_J30_signedHashCode_8 : ∀ (n : Nat) (a0 : Int32) (a1 : Option Nat) (a4 : Int32) (a5 : Int32) (h : zH), zS D z yJ30_signedHashCode cJ30_signedHashCode 6 (some .int) [] 1 h 8 [(0, .int a0), (1, va_rf a1), (4, .int a4), (5, .int a5)] [] (f_J30_signedHashCode_8 n a0 a1 a4 a5 h) := by
  intro n
  induction n with
  | zero => intros; exact zS_none
  | succ n ih =>
    intro a0 a1 a4 a5 h
    rw [f_J30_signedHashCode_8.eq_2]
    refine s_iload (pc := 8) 3 dJ30_signedHashCode_8 rfl ?_
    refine s_iload (pc := 10) 2 dJ30_signedHashCode_10 rfl ?_
    refine s_icmp_ge (pc := 12) (tgt := 35) dJ30_signedHashCode_12 (by decide) (fun _ => ?_) (fun _ => ?_)
    · refine s_iload_n (pc := 35) 0 dJ30_signedHashCode_35 rfl rfl ?_
      exact s_iret (pc := 36) dJ30_signedHashCode_36 rfl
    · refine s_bipush (pc := 15) (v := 31) dJ30_signedHashCode_15 (by decide) ?_
      refine s_iload_n (pc := 17) 0 dJ30_signedHashCode_17 rfl rfl ?_
      refine s_imul (pc := 18) dJ30_signedHashCode_18 ?_
      refine s_aload_n (pc := 19) 1 dJ30_signedHashCode_19 rfl rfl ?_
      refine s_iload (pc := 20) 3 dJ30_signedHashCode_20 rfl ?_
      refine s_bald (pc := 22) dJ30_signedHashCode_22 (ztc rfl zt0) (fun x2 => ?_)
      refine s_sipush (pc := 23) (v := 255) dJ30_signedHashCode_23 (by decide) ?_
      refine s_iand (pc := 26) dJ30_signedHashCode_26 ?_
      refine s_iadd (pc := 27) dJ30_signedHashCode_27 ?_
      refine s_nm (pc := 28) Value.int (fun x3 => ?_)
      refine s_ist_n (pc := 28) (L2 := [(1, va_rf a1), (4, .int a4), (5, .int a5)]) [1, 2, 3] dJ30_signedHashCode_28 rfl (by decide) rfl rfl (zcA rfl) ?_
      refine s_inc (pc := 29) (v := 1) (L2 := [(0, .int x3), (1, va_rf a1), (4, .int a4)]) 3 [0, 1, 2] dJ30_signedHashCode_29 rfl (by decide) (by decide) rfl rfl (zcB (j := 2) rfl rfl rfl) (fun x4 => ?_)
      refine s_goto (pc := 32) (tgt := 8) dJ30_signedHashCode_32 (by decide) ?_
      exact s_sub (pc := 8) [1, 2, 3, 0] rfl (ih x3 a1 a4 x4 h)
theorem w_J30_signedHashCode (v0 : Int32) (v1 : Option Nat) (v2 : Int32) (v3 : Int32) (h : zH) : zS D z yJ30_signedHashCode cJ30_signedHashCode 6 (some .int) [] 1 h 0 [(0, .int v0), (1, va_rf v1), (2, .int v2), (3, .int v3)] [] (f_J30_signedHashCode v0 v1 v2 v3 h) := by
  unfold f_J30_signedHashCode
  refine s_iload_n (pc := 0) 2 dJ30_signedHashCode_0 rfl rfl ?_
  refine s_iload_n (pc := 1) 3 dJ30_signedHashCode_1 rfl rfl ?_
  refine s_iadd (pc := 2) dJ30_signedHashCode_2 ?_
  refine s_nm (pc := 3) Value.int (fun x1 => ?_)
  refine s_ist (pc := 3) (L2 := [(0, .int v0), (1, va_rf v1), (2, .int v2)]) [0, 1, 2] dJ30_signedHashCode_3 (by decide) rfl rfl (zcA rfl) ?_
  refine s_iload_n (pc := 5) 3 dJ30_signedHashCode_5 rfl rfl ?_
  refine s_ist (pc := 6) (L2 := [(4, .int x1), (0, .int v0), (1, va_rf v1)]) [0, 1, 2] dJ30_signedHashCode_6 (by decide) rfl rfl (zcB (j := 0) rfl rfl rfl) ?_
  exact s_sub (pc := 8) [2, 3, 1, 0] rfl (w_J30_signedHashCode_8 zfuel v0 v1 x1 v2 h)
theorem c_J30_signedHashCode {d0 : Nat} (hd0 : 1 < d0) (v0 : Int32) (v1 : Option Nat) (v2 : Int32) (v3 : Int32) (h : zH) : zCal D z d0 h yJ30_signedHashCode [.int v0, va_rf v1, .int v2, .int v3] (f_J30_signedHashCode v0 v1 v2 v3 h) :=
  ⟨cJ30_signedHashCode, 6, (some .int), [], 1, (show lv_args 0 [.int v0, va_rf v1, .int v2, .int v3] = [(0, .int v0), (1, va_rf v1), (2, .int v2), (3, .int v3)] by simp [lv_args, zcat_rf, zcat_i, zcat_l, zcat_f, zcat_d]) ▸ w_J30_signedHashCode v0 v1 v2 v3 h, (plainFor_of_name (by decide)), by simp [lg_sl, zcat_rf, zcat_i, zcat_l, zcat_f, zcat_d], q1600, q128, hd0, by decide, by decide⟩
theorem w_J30_utf16hashCode_8 : ∀ (n : Nat) (a0 : Int32) (a1 : Option Nat) (a4 : Int32) (a5 : Int32) (h : zH), zS D z yJ30_utf16hashCode cJ30_utf16hashCode 6 (some .int) [] 1 h 8 [(0, .int a0), (1, va_rf a1), (4, .int a4), (5, .int a5)] [] (f_J30_utf16hashCode_8 n a0 a1 a4 a5 h) := by
  intro n
  induction n with
  | zero => intros; exact zS_none
  | succ n ih =>
    intro a0 a1 a4 a5 h
    rw [f_J30_utf16hashCode_8.eq_2]
    refine s_iload (pc := 8) 3 dJ30_utf16hashCode_8 rfl ?_
    refine s_iload (pc := 10) 2 dJ30_utf16hashCode_10 rfl ?_
    refine s_icmp_ge (pc := 12) (tgt := 38) dJ30_utf16hashCode_12 (by decide) (fun _ => ?_) (fun _ => ?_)
    · refine s_iload_n (pc := 38) 0 dJ30_utf16hashCode_38 rfl rfl ?_
      exact s_iret (pc := 39) dJ30_utf16hashCode_39 rfl
    · refine s_bipush (pc := 15) (v := 31) dJ30_utf16hashCode_15 (by decide) ?_
      refine s_iload_n (pc := 17) 0 dJ30_utf16hashCode_17 rfl rfl ?_
      refine s_imul (pc := 18) dJ30_utf16hashCode_18 ?_
      exact zS_none
theorem w_J30_utf16hashCode (v0 : Int32) (v1 : Option Nat) (v2 : Int32) (v3 : Int32) (h : zH) : zS D z yJ30_utf16hashCode cJ30_utf16hashCode 6 (some .int) [] 1 h 0 [(0, .int v0), (1, va_rf v1), (2, .int v2), (3, .int v3)] [] (f_J30_utf16hashCode v0 v1 v2 v3 h) := by
  unfold f_J30_utf16hashCode
  refine s_iload_n (pc := 0) 2 dJ30_utf16hashCode_0 rfl rfl ?_
  refine s_iload_n (pc := 1) 3 dJ30_utf16hashCode_1 rfl rfl ?_
  refine s_iadd (pc := 2) dJ30_utf16hashCode_2 ?_
  refine s_nm (pc := 3) Value.int (fun x1 => ?_)
  refine s_ist (pc := 3) (L2 := [(0, .int v0), (1, va_rf v1), (2, .int v2)]) [0, 1, 2] dJ30_utf16hashCode_3 (by decide) rfl rfl (zcA rfl) ?_
  refine s_iload_n (pc := 5) 3 dJ30_utf16hashCode_5 rfl rfl ?_
  refine s_ist (pc := 6) (L2 := [(4, .int x1), (0, .int v0), (1, va_rf v1)]) [0, 1, 2] dJ30_utf16hashCode_6 (by decide) rfl rfl (zcB (j := 0) rfl rfl rfl) ?_
  exact s_sub (pc := 8) [2, 3, 1, 0] rfl (w_J30_utf16hashCode_8 zfuel v0 v1 x1 v2 h)
theorem c_J30_utf16hashCode {d0 : Nat} (hd0 : 1 < d0) (v0 : Int32) (v1 : Option Nat) (v2 : Int32) (v3 : Int32) (h : zH) : zCal D z d0 h yJ30_utf16hashCode [.int v0, va_rf v1, .int v2, .int v3] (f_J30_utf16hashCode v0 v1 v2 v3 h) :=
  ⟨cJ30_utf16hashCode, 6, (some .int), [], 1, (show lv_args 0 [.int v0, va_rf v1, .int v2, .int v3] = [(0, .int v0), (1, va_rf v1), (2, .int v2), (3, .int v3)] by simp [lv_args, zcat_rf, zcat_i, zcat_l, zcat_f, zcat_d]) ▸ w_J30_utf16hashCode v0 v1 v2 v3 h, (plainFor_of_name (by decide)), by simp [lg_sl, zcat_rf, zcat_i, zcat_l, zcat_f, zcat_d], q1603, q128, hd0, by decide, by decide⟩
theorem w_J30_hashCode_2_8 : ∀ (n : Nat) (a0 : Int32) (a1 : Option Nat) (a4 : Int32) (a5 : Int32) (h : zH), zS D z yJ30_hashCode_2 cJ30_hashCode_2 6 (some .int) [] 1 h 8 [(0, .int a0), (1, va_rf a1), (4, .int a4), (5, .int a5)] [] (f_J30_hashCode_2_8 n a0 a1 a4 a5 h) := by
  intro n
  induction n with
  | zero => intros; exact zS_none
  | succ n ih =>
    intro a0 a1 a4 a5 h
    rw [f_J30_hashCode_2_8.eq_2]
    refine s_iload (pc := 8) 3 dJ30_hashCode_2_8 rfl ?_
    refine s_iload (pc := 10) 2 dJ30_hashCode_2_10 rfl ?_
    refine s_icmp_ge (pc := 12) (tgt := 31) dJ30_hashCode_2_12 (by decide) (fun _ => ?_) (fun _ => ?_)
    · refine s_iload_n (pc := 31) 0 dJ30_hashCode_2_31 rfl rfl ?_
      exact s_iret (pc := 32) dJ30_hashCode_2_32 rfl
    · refine s_bipush (pc := 15) (v := 31) dJ30_hashCode_2_15 (by decide) ?_
      refine s_iload_n (pc := 17) 0 dJ30_hashCode_2_17 rfl rfl ?_
      refine s_imul (pc := 18) dJ30_hashCode_2_18 ?_
      refine s_aload_n (pc := 19) 1 dJ30_hashCode_2_19 rfl rfl ?_
      refine s_iload (pc := 20) 3 dJ30_hashCode_2_20 rfl ?_
      refine s_bald (pc := 22) dJ30_hashCode_2_22 (ztc rfl zt0) (fun x2 => ?_)
      refine s_iadd (pc := 23) dJ30_hashCode_2_23 ?_
      refine s_nm (pc := 24) Value.int (fun x3 => ?_)
      refine s_ist_n (pc := 24) (L2 := [(1, va_rf a1), (4, .int a4), (5, .int a5)]) [1, 2, 3] dJ30_hashCode_2_24 rfl (by decide) rfl rfl (zcA rfl) ?_
      refine s_inc (pc := 25) (v := 1) (L2 := [(0, .int x3), (1, va_rf a1), (4, .int a4)]) 3 [0, 1, 2] dJ30_hashCode_2_25 rfl (by decide) (by decide) rfl rfl (zcB (j := 2) rfl rfl rfl) (fun x4 => ?_)
      refine s_goto (pc := 28) (tgt := 8) dJ30_hashCode_2_28 (by decide) ?_
      exact s_sub (pc := 8) [1, 2, 3, 0] rfl (ih x3 a1 a4 x4 h)
theorem w_J30_hashCode_2 (v0 : Int32) (v1 : Option Nat) (v2 : Int32) (v3 : Int32) (h : zH) : zS D z yJ30_hashCode_2 cJ30_hashCode_2 6 (some .int) [] 1 h 0 [(0, .int v0), (1, va_rf v1), (2, .int v2), (3, .int v3)] [] (f_J30_hashCode_2 v0 v1 v2 v3 h) := by
  unfold f_J30_hashCode_2
  refine s_iload_n (pc := 0) 2 dJ30_hashCode_2_0 rfl rfl ?_
  refine s_iload_n (pc := 1) 3 dJ30_hashCode_2_1 rfl rfl ?_
  refine s_iadd (pc := 2) dJ30_hashCode_2_2 ?_
  refine s_nm (pc := 3) Value.int (fun x1 => ?_)
  refine s_ist (pc := 3) (L2 := [(0, .int v0), (1, va_rf v1), (2, .int v2)]) [0, 1, 2] dJ30_hashCode_2_3 (by decide) rfl rfl (zcA rfl) ?_
  refine s_iload_n (pc := 5) 3 dJ30_hashCode_2_5 rfl rfl ?_
  refine s_ist (pc := 6) (L2 := [(4, .int x1), (0, .int v0), (1, va_rf v1)]) [0, 1, 2] dJ30_hashCode_2_6 (by decide) rfl rfl (zcB (j := 0) rfl rfl rfl) ?_
  exact s_sub (pc := 8) [2, 3, 1, 0] rfl (w_J30_hashCode_2_8 zfuel v0 v1 x1 v2 h)
theorem c_J30_hashCode_2 {d0 : Nat} (hd0 : 1 < d0) (v0 : Int32) (v1 : Option Nat) (v2 : Int32) (v3 : Int32) (h : zH) : zCal D z d0 h yJ30_hashCode_2 [.int v0, va_rf v1, .int v2, .int v3] (f_J30_hashCode_2 v0 v1 v2 v3 h) :=
  ⟨cJ30_hashCode_2, 6, (some .int), [], 1, (show lv_args 0 [.int v0, va_rf v1, .int v2, .int v3] = [(0, .int v0), (1, va_rf v1), (2, .int v2), (3, .int v3)] by simp [lv_args, zcat_rf, zcat_i, zcat_l, zcat_f, zcat_d]) ▸ w_J30_hashCode_2 v0 v1 v2 v3 h, (plainFor_of_name (by decide)), by simp [lg_sl, zcat_rf, zcat_i, zcat_l, zcat_f, zcat_d], q1623, q128, hd0, by decide, by decide⟩
theorem w_J30_hashCode_3_8 : ∀ (n : Nat) (a0 : Int32) (a1 : Option Nat) (a4 : Int32) (a5 : Int32) (h : zH), zS D z yJ30_hashCode_3 cJ30_hashCode_3 6 (some .int) [] 1 h 8 [(0, .int a0), (1, va_rf a1), (4, .int a4), (5, .int a5)] [] (f_J30_hashCode_3_8 n a0 a1 a4 a5 h) := by
  intro n
  induction n with
  | zero => intros; exact zS_none
  | succ n ih =>
    intro a0 a1 a4 a5 h
    rw [f_J30_hashCode_3_8.eq_2]
    refine s_iload (pc := 8) 3 dJ30_hashCode_3_8 rfl ?_
    refine s_iload (pc := 10) 2 dJ30_hashCode_3_10 rfl ?_
    refine s_icmp_ge (pc := 12) (tgt := 31) dJ30_hashCode_3_12 (by decide) (fun _ => ?_) (fun _ => ?_)
    · refine s_iload_n (pc := 31) 0 dJ30_hashCode_3_31 rfl rfl ?_
      exact s_iret (pc := 32) dJ30_hashCode_3_32 rfl
    · refine s_bipush (pc := 15) (v := 31) dJ30_hashCode_3_15 (by decide) ?_
      refine s_iload_n (pc := 17) 0 dJ30_hashCode_3_17 rfl rfl ?_
      refine s_imul (pc := 18) dJ30_hashCode_3_18 ?_
      refine s_aload_n (pc := 19) 1 dJ30_hashCode_3_19 rfl rfl ?_
      refine s_iload (pc := 20) 3 dJ30_hashCode_3_20 rfl ?_
      exact zS_none
theorem w_J30_hashCode_3 (v0 : Int32) (v1 : Option Nat) (v2 : Int32) (v3 : Int32) (h : zH) : zS D z yJ30_hashCode_3 cJ30_hashCode_3 6 (some .int) [] 1 h 0 [(0, .int v0), (1, va_rf v1), (2, .int v2), (3, .int v3)] [] (f_J30_hashCode_3 v0 v1 v2 v3 h) := by
  unfold f_J30_hashCode_3
  refine s_iload_n (pc := 0) 2 dJ30_hashCode_3_0 rfl rfl ?_
  refine s_iload_n (pc := 1) 3 dJ30_hashCode_3_1 rfl rfl ?_
  refine s_iadd (pc := 2) dJ30_hashCode_3_2 ?_
  refine s_nm (pc := 3) Value.int (fun x1 => ?_)
  refine s_ist (pc := 3) (L2 := [(0, .int v0), (1, va_rf v1), (2, .int v2)]) [0, 1, 2] dJ30_hashCode_3_3 (by decide) rfl rfl (zcA rfl) ?_
  refine s_iload_n (pc := 5) 3 dJ30_hashCode_3_5 rfl rfl ?_
  refine s_ist (pc := 6) (L2 := [(4, .int x1), (0, .int v0), (1, va_rf v1)]) [0, 1, 2] dJ30_hashCode_3_6 (by decide) rfl rfl (zcB (j := 0) rfl rfl rfl) ?_
  exact s_sub (pc := 8) [2, 3, 1, 0] rfl (w_J30_hashCode_3_8 zfuel v0 v1 x1 v2 h)
theorem c_J30_hashCode_3 {d0 : Nat} (hd0 : 1 < d0) (v0 : Int32) (v1 : Option Nat) (v2 : Int32) (v3 : Int32) (h : zH) : zCal D z d0 h yJ30_hashCode_3 [.int v0, va_rf v1, .int v2, .int v3] (f_J30_hashCode_3 v0 v1 v2 v3 h) :=
  ⟨cJ30_hashCode_3, 6, (some .int), [], 1, (show lv_args 0 [.int v0, va_rf v1, .int v2, .int v3] = [(0, .int v0), (1, va_rf v1), (2, .int v2), (3, .int v3)] by simp [lv_args, zcat_rf, zcat_i, zcat_l, zcat_f, zcat_d]) ▸ w_J30_hashCode_3 v0 v1 v2 v3 h, (plainFor_of_name (by decide)), by simp [lg_sl, zcat_rf, zcat_i, zcat_l, zcat_f, zcat_d], q1627, q128, hd0, by decide, by decide⟩
theorem w_J30_hashCode_4_8 : ∀ (n : Nat) (a0 : Int32) (a1 : Option Nat) (a4 : Int32) (a5 : Int32) (h : zH), zS D z yJ30_hashCode_4 cJ30_hashCode_4 6 (some .int) [] 1 h 8 [(0, .int a0), (1, va_rf a1), (4, .int a4), (5, .int a5)] [] (f_J30_hashCode_4_8 n a0 a1 a4 a5 h) := by
  intro n
  induction n with
  | zero => intros; exact zS_none
  | succ n ih =>
    intro a0 a1 a4 a5 h
    rw [f_J30_hashCode_4_8.eq_2]
    refine s_iload (pc := 8) 3 dJ30_hashCode_4_8 rfl ?_
    refine s_iload (pc := 10) 2 dJ30_hashCode_4_10 rfl ?_
    refine s_icmp_ge (pc := 12) (tgt := 31) dJ30_hashCode_4_12 (by decide) (fun _ => ?_) (fun _ => ?_)
    · refine s_iload_n (pc := 31) 0 dJ30_hashCode_4_31 rfl rfl ?_
      exact s_iret (pc := 32) dJ30_hashCode_4_32 rfl
    · refine s_bipush (pc := 15) (v := 31) dJ30_hashCode_4_15 (by decide) ?_
      refine s_iload_n (pc := 17) 0 dJ30_hashCode_4_17 rfl rfl ?_
      refine s_imul (pc := 18) dJ30_hashCode_4_18 ?_
      refine s_aload_n (pc := 19) 1 dJ30_hashCode_4_19 rfl rfl ?_
      refine s_iload (pc := 20) 3 dJ30_hashCode_4_20 rfl ?_
      refine s_iald (pc := 22) dJ30_hashCode_4_22 (ztc rfl zt0) (fun x2 => ?_)
      refine s_iadd (pc := 23) dJ30_hashCode_4_23 ?_
      refine s_nm (pc := 24) Value.int (fun x3 => ?_)
      refine s_ist_n (pc := 24) (L2 := [(1, va_rf a1), (4, .int a4), (5, .int a5)]) [1, 2, 3] dJ30_hashCode_4_24 rfl (by decide) rfl rfl (zcA rfl) ?_
      refine s_inc (pc := 25) (v := 1) (L2 := [(0, .int x3), (1, va_rf a1), (4, .int a4)]) 3 [0, 1, 2] dJ30_hashCode_4_25 rfl (by decide) (by decide) rfl rfl (zcB (j := 2) rfl rfl rfl) (fun x4 => ?_)
      refine s_goto (pc := 28) (tgt := 8) dJ30_hashCode_4_28 (by decide) ?_
      exact s_sub (pc := 8) [1, 2, 3, 0] rfl (ih x3 a1 a4 x4 h)
theorem w_J30_hashCode_4 (v0 : Int32) (v1 : Option Nat) (v2 : Int32) (v3 : Int32) (h : zH) : zS D z yJ30_hashCode_4 cJ30_hashCode_4 6 (some .int) [] 1 h 0 [(0, .int v0), (1, va_rf v1), (2, .int v2), (3, .int v3)] [] (f_J30_hashCode_4 v0 v1 v2 v3 h) := by
  unfold f_J30_hashCode_4
  refine s_iload_n (pc := 0) 2 dJ30_hashCode_4_0 rfl rfl ?_
  refine s_iload_n (pc := 1) 3 dJ30_hashCode_4_1 rfl rfl ?_
  refine s_iadd (pc := 2) dJ30_hashCode_4_2 ?_
  refine s_nm (pc := 3) Value.int (fun x1 => ?_)
  refine s_ist (pc := 3) (L2 := [(0, .int v0), (1, va_rf v1), (2, .int v2)]) [0, 1, 2] dJ30_hashCode_4_3 (by decide) rfl rfl (zcA rfl) ?_
  refine s_iload_n (pc := 5) 3 dJ30_hashCode_4_5 rfl rfl ?_
  refine s_ist (pc := 6) (L2 := [(4, .int x1), (0, .int v0), (1, va_rf v1)]) [0, 1, 2] dJ30_hashCode_4_6 (by decide) rfl rfl (zcB (j := 0) rfl rfl rfl) ?_
  exact s_sub (pc := 8) [2, 3, 1, 0] rfl (w_J30_hashCode_4_8 zfuel v0 v1 x1 v2 h)
theorem c_J30_hashCode_4 {d0 : Nat} (hd0 : 1 < d0) (v0 : Int32) (v1 : Option Nat) (v2 : Int32) (v3 : Int32) (h : zH) : zCal D z d0 h yJ30_hashCode_4 [.int v0, va_rf v1, .int v2, .int v3] (f_J30_hashCode_4 v0 v1 v2 v3 h) :=
  ⟨cJ30_hashCode_4, 6, (some .int), [], 1, (show lv_args 0 [.int v0, va_rf v1, .int v2, .int v3] = [(0, .int v0), (1, va_rf v1), (2, .int v2), (3, .int v3)] by simp [lv_args, zcat_rf, zcat_i, zcat_l, zcat_f, zcat_d]) ▸ w_J30_hashCode_4 v0 v1 v2 v3 h, (plainFor_of_name (by decide)), by simp [lg_sl, zcat_rf, zcat_i, zcat_l, zcat_f, zcat_d], q1631, q128, hd0, by decide, by decide⟩
theorem w_J33_hashCode (v0 : Option Nat) (h : zH) : zS D z yJ33_hashCode cJ33_hashCode 1 (some .int) [] 1 h 0 [(0, va_rf v0)] [] (f_J33_hashCode v0 h) := by
  unfold f_J33_hashCode
  refine s_aload_n (pc := 0) 0 dJ33_hashCode_0 rfl rfl ?_
  refine s_alen (pc := 1) dJ33_hashCode_1 zarrs_ok (fun x1 => ?_)
  refine zS_ite (fun hx => ?_) (fun hx0 => ?_)
  · refine s_look (pc := 2) (tgt := 28) (off := 26) dJ33_hashCode_2 (by decide) (by rw [hx]; decide) (by decide) ?_
    refine s_iconst (pc := 28) (v := 0) dJ33_hashCode_28 (by decide) ?_
    refine s_goto (pc := 29) (tgt := 51) dJ33_hashCode_29 (by decide) ?_
    exact s_iret (pc := 51) dJ33_hashCode_51 rfl
  refine zS_ite (fun hx => ?_) (fun hx1 => ?_)
  · refine s_look (pc := 2) (tgt := 32) (off := 30) dJ33_hashCode_2 (by decide) (by rw [hx]; decide) (by decide) ?_
    refine s_aload_n (pc := 32) 0 dJ33_hashCode_32 rfl rfl ?_
    refine s_iconst (pc := 33) (v := 0) dJ33_hashCode_33 (by decide) ?_
    refine s_bald (pc := 34) dJ33_hashCode_34 (ztc rfl zt0) (fun x2 => ?_)
    refine s_sipush (pc := 35) (v := 255) dJ33_hashCode_35 (by decide) ?_
    refine s_iand (pc := 38) dJ33_hashCode_38 ?_
    refine s_goto (pc := 39) (tgt := 51) dJ33_hashCode_39 (by decide) ?_
    exact s_iret (pc := 51) dJ33_hashCode_51 rfl
  refine s_look (pc := 2) (tgt := 42) (off := 40) dJ33_hashCode_2 (by decide) ((lv_osw hx0 (by decide)).trans ((lv_osw hx1 (by decide)).trans (rfl))) (by decide) ?_
  refine s_aload_n (pc := 42) 0 dJ33_hashCode_42 rfl rfl ?_
  refine s_iconst (pc := 43) (v := 0) dJ33_hashCode_43 (by decide) ?_
  refine s_aload_n (pc := 44) 0 dJ33_hashCode_44 rfl rfl ?_
  refine s_alen (pc := 45) dJ33_hashCode_45 zarrs_ok (fun x3 => ?_)
  refine s_iconst (pc := 46) (v := 0) dJ33_hashCode_46 (by decide) ?_
  refine s_iconst (pc := 47) (v := 4) dJ33_hashCode_47 (by decide) ?_
  exact zS_none
theorem c_J33_hashCode {d0 : Nat} (hd0 : 1 < d0) (v0 : Option Nat) (h : zH) : zCal D z d0 h yJ33_hashCode [va_rf v0] (f_J33_hashCode v0 h) :=
  ⟨cJ33_hashCode, 1, (some .int), [], 1, (show lv_args 0 [va_rf v0] = [(0, va_rf v0)] by simp [lv_args, zcat_rf, zcat_i, zcat_l, zcat_f, zcat_d]) ▸ w_J33_hashCode v0 h, (plainFor_of_name (by decide)), by simp [lg_sl, zcat_rf, zcat_i, zcat_l, zcat_f, zcat_d], q1593, q132, hd0, by decide, by decide⟩
theorem w_J9_hashCode_40 (a0 : Option Nat) (s0 : Int32) (h : zH) : zS D z yJ9_hashCode cJ9_hashCode 2 (some .int) [] 2 h 40 [(0, va_rf a0)] [.int s0] (f_J9_hashCode_40 a0 s0 h) := by
  unfold f_J9_hashCode_40
  refine s_ist_n (pc := 40) (L2 := [(0, va_rf a0)]) [0] dJ9_hashCode_40 rfl (by decide) rfl rfl (zcB (j := 0) rfl (zcat_rf a0) rfl) ?_
  refine s_iload_n (pc := 41) 0 dJ9_hashCode_41 rfl rfl ?_
  refine s_if_ne (pc := 42) (tgt := 53) dJ9_hashCode_42 (by decide) (fun _ => ?_) (fun _ => ?_)
  · refine s_aload_n (pc := 53) 1 dJ9_hashCode_53 rfl rfl ?_
    refine s_iload_n (pc := 54) 0 dJ9_hashCode_54 rfl rfl ?_
    refine s_putI (pc := 55) dJ9_hashCode_55 pf_J9_19 (fun h11 => ?_)
    refine s_iload_n (pc := 58) 0 dJ9_hashCode_58 rfl rfl ?_
    exact s_iret (pc := 59) dJ9_hashCode_59 rfl
  · refine s_aload_n (pc := 45) 1 dJ9_hashCode_45 rfl rfl ?_
    refine s_iconst (pc := 46) (v := 1) dJ9_hashCode_46 (by decide) ?_
    refine s_putN (pc := 47) dJ9_hashCode_47 pf_J9_23 (fun h12 => ?_)
    refine s_goto (pc := 50) (tgt := 58) dJ9_hashCode_50 (by decide) ?_
    refine s_iload_n (pc := 58) 0 dJ9_hashCode_58 rfl rfl ?_
    exact s_iret (pc := 59) dJ9_hashCode_59 rfl
theorem w_J9_hashCode (v0 : Option Nat) (h : zH) : zS D z yJ9_hashCode cJ9_hashCode 2 (some .int) [] 2 h 0 [(0, va_rf v0)] [] (f_J9_hashCode v0 h) := by
  unfold f_J9_hashCode
  refine s_aload_n (pc := 0) 0 dJ9_hashCode_0 rfl rfl ?_
  refine s_gI (pc := 1) dJ9_hashCode_1 gf_J9_19 (fun x1 => ?_)
  refine s_ist_n (pc := 4) (L2 := [(0, va_rf v0)]) [0] dJ9_hashCode_4 rfl (by decide) rfl rfl (zcB (j := 0) rfl (zcat_rf v0) rfl) ?_
  refine s_iload_n (pc := 5) 0 dJ9_hashCode_5 rfl rfl ?_
  refine s_if_ne (pc := 6) (tgt := 58) dJ9_hashCode_6 (by decide) (fun _ => ?_) (fun _ => ?_)
  · refine s_iload_n (pc := 58) 0 dJ9_hashCode_58 rfl rfl ?_
    exact s_iret (pc := 59) dJ9_hashCode_59 rfl
  · refine s_aload_n (pc := 9) 1 dJ9_hashCode_9 rfl rfl ?_
    refine s_gI (pc := 10) dJ9_hashCode_10 gf_J9_23 (fun x2 => ?_)
    refine s_if_ne (pc := 13) (tgt := 58) dJ9_hashCode_13 (by decide) (fun _ => ?_) (fun _ => ?_)
    · refine s_iload_n (pc := 58) 0 dJ9_hashCode_58 rfl rfl ?_
      exact s_iret (pc := 59) dJ9_hashCode_59 rfl
    · refine s_aload_n (pc := 16) 1 dJ9_hashCode_16 rfl rfl ?_
      refine zS_ite (fun ht => ?_) (fun _ => zS_none)
      refine s_callV (pc := 17) (np := 0) (as := []) (rest := []) dJ9_hashCode_17 ht (q := (RJ9, TJ9, 4)) rfl (c_J9_isLatin1 (by decide) v0 h) rfl rfl q1587 q1588 q1589 rfl (by decide) (zkI (fun x3 h4 => ?_)) zxo
      refine s_if_eq (pc := 20) (tgt := 33) dJ9_hashCode_20 (by decide) (fun _ => ?_) (fun _ => ?_)
      · refine s_aload_n (pc := 33) 1 dJ9_hashCode_33 rfl rfl ?_
        refine s_gR (pc := 34) dJ9_hashCode_34 gf_J9_9 (fun r5 => ?_)
        exact zS_none
      · refine s_aload_n (pc := 23) 1 dJ9_hashCode_23 rfl rfl ?_
        refine s_gR (pc := 24) dJ9_hashCode_24 gf_J9_9 (fun r8 => ?_)
        refine s_callSS (pc := 27) (np := 1) (as := [va_rf r8]) (rest := []) dJ9_hashCode_27 (c_J33_hashCode (by decide) r8 h4) rfl rfl q1591 q1592 rfl (by decide) (zkI (fun x9 h10 => ?_)) zxo
        refine s_goto (pc := 30) (tgt := 40) dJ9_hashCode_30 (by decide) ?_
        exact s_sub (pc := 40) [1] rfl (w_J9_hashCode_40 v0 x9 h10)
theorem c_J9_hashCode {d0 : Nat} (hd0 : 2 < d0) (v0 : Option Nat) (h : zH) : zCal D z d0 h yJ9_hashCode [va_rf v0] (f_J9_hashCode v0 h) :=
  ⟨cJ9_hashCode, 2, (some .int), [], 2, (show lv_args 0 [va_rf v0] = [(0, va_rf v0)] by simp [lv_args, zcat_rf, zcat_i, zcat_l, zcat_f, zcat_d]) ▸ w_J9_hashCode v0 h, (plainFor_of_name (by decide)), by simp [lg_sl, zcat_rf, zcat_i, zcat_l, zcat_f, zcat_d], q1586, q106, hd0, by decide, by decide⟩
theorem w_J33_equals_9 : ∀ (n : Nat) (a0 : Option Nat) (a1 : Option Nat) (a2 : Int32) (h : zH), zS D z yJ33_equals cJ33_equals 3 (some .boolean) [] 1 h 9 [(0, va_rf a0), (1, va_rf a1), (2, .int a2)] [] (f_J33_equals_9 n a0 a1 a2 h) := by
  intro n
  induction n with
  | zero => intros; exact zS_none
  | succ n ih =>
    intro a0 a1 a2 h
    rw [f_J33_equals_9.eq_2]
    refine s_iload_n (pc := 9) 2 dJ33_equals_9 rfl rfl ?_
    refine s_aload_n (pc := 10) 0 dJ33_equals_10 rfl rfl ?_
    refine s_alen (pc := 11) dJ33_equals_11 zarrs_ok (fun x3 => ?_)
    refine s_icmp_ge (pc := 12) (tgt := 32) dJ33_equals_12 (by decide) (fun _ => ?_) (fun _ => ?_)
    · refine s_iconst (pc := 32) (v := 1) dJ33_equals_32 (by decide) ?_
      exact s_nret (pc := 33) dJ33_equals_33 rfl
    · refine s_aload_n (pc := 15) 0 dJ33_equals_15 rfl rfl ?_
      refine s_iload_n (pc := 16) 2 dJ33_equals_16 rfl rfl ?_
      refine s_bald (pc := 17) dJ33_equals_17 (ztc rfl zt0) (fun x4 => ?_)
      refine s_aload_n (pc := 18) 1 dJ33_equals_18 rfl rfl ?_
      refine s_iload_n (pc := 19) 2 dJ33_equals_19 rfl rfl ?_
      refine s_bald (pc := 20) dJ33_equals_20 (ztc rfl zt0) (fun x5 => ?_)
      refine s_icmp_eq (pc := 21) (tgt := 26) dJ33_equals_21 (by decide) (fun _ => ?_) (fun _ => ?_)
      · refine s_inc (pc := 26) (v := 1) (L2 := [(0, va_rf a0), (1, va_rf a1)]) 2 [0, 1] dJ33_equals_26 rfl (by decide) (by decide) rfl rfl (zcB (j := 1) rfl (zcat_rf a1) rfl) (fun x6 => ?_)
        refine s_goto (pc := 29) (tgt := 9) dJ33_equals_29 (by decide) ?_
        exact s_sub (pc := 9) [1, 2, 0] rfl (ih a0 a1 x6 h)
      · refine s_iconst (pc := 24) (v := 0) dJ33_equals_24 (by decide) ?_
        exact s_nret (pc := 25) dJ33_equals_25 rfl
theorem w_J33_equals (v0 : Option Nat) (v1 : Option Nat) (h : zH) : zS D z yJ33_equals cJ33_equals 3 (some .boolean) [] 1 h 0 [(0, va_rf v0), (1, va_rf v1)] [] (f_J33_equals v0 v1 h) := by
  unfold f_J33_equals
  refine s_aload_n (pc := 0) 0 dJ33_equals_0 rfl rfl ?_
  refine s_alen (pc := 1) dJ33_equals_1 zarrs_ok (fun x1 => ?_)
  refine s_aload_n (pc := 2) 1 dJ33_equals_2 rfl rfl ?_
  refine s_alen (pc := 3) dJ33_equals_3 zarrs_ok (fun x2 => ?_)
  refine s_icmp_ne (pc := 4) (tgt := 34) dJ33_equals_4 (by decide) (fun _ => ?_) (fun _ => ?_)
  · refine s_iconst (pc := 34) (v := 0) dJ33_equals_34 (by decide) ?_
    exact s_nret (pc := 35) dJ33_equals_35 rfl
  · refine s_iconst (pc := 7) (v := 0) dJ33_equals_7 (by decide) ?_
    refine s_ist_n (pc := 8) (L2 := [(0, va_rf v0), (1, va_rf v1)]) [0, 1] dJ33_equals_8 rfl (by decide) rfl rfl (zcB (j := 1) rfl (zcat_rf v1) rfl) ?_
    exact s_sub (pc := 9) [1, 2, 0] rfl (w_J33_equals_9 zfuel v0 v1 0 h)
theorem c_J33_equals {d0 : Nat} (hd0 : 1 < d0) (v0 : Option Nat) (v1 : Option Nat) (h : zH) : zCal D z d0 h yJ33_equals [va_rf v0, va_rf v1] (f_J33_equals v0 v1 h) :=
  ⟨cJ33_equals, 3, (some .boolean), [], 1, (show lv_args 0 [va_rf v0, va_rf v1] = [(0, va_rf v0), (1, va_rf v1)] by simp [lv_args, zcat_rf, zcat_i, zcat_l, zcat_f, zcat_d]) ▸ w_J33_equals v0 v1 h, (plainFor_of_name (by decide)), by simp [lg_sl, zcat_rf, zcat_i, zcat_l, zcat_f, zcat_d], q1687, q132, hd0, by decide, by decide⟩
theorem w_J9_equals_36 (a0 : Option Nat) (a2 : Option Nat) (h : zH) : zS D z yJ9_equals cJ9_equals 3 (some .boolean) [] 2 h 36 [(0, va_rf a0), (2, va_rf a2)] [] (f_J9_equals_36 a0 a2 h) := by
  unfold f_J9_equals_36
  refine s_aload_n (pc := 36) 0 dJ9_equals_36 rfl rfl ?_
  refine s_gR (pc := 37) dJ9_equals_37 gf_J9_9 (fun r4 => ?_)
  refine s_aload_n (pc := 40) 1 dJ9_equals_40 rfl rfl ?_
  refine s_gR (pc := 41) dJ9_equals_41 gf_J9_9 (fun r5 => ?_)
  refine s_callSS (pc := 44) (np := 2) (as := [va_rf r4, va_rf r5]) (rest := []) dJ9_equals_44 (c_J33_equals (by decide) r4 r5 h) rfl rfl q1685 q1686 rfl (by decide) (zkI (fun x6 h7 => ?_)) zxo
  refine s_if_eq (pc := 47) (tgt := 54) dJ9_equals_47 (by decide) (fun _ => ?_) (fun _ => ?_)
  · refine s_iconst (pc := 54) (v := 0) dJ9_equals_54 (by decide) ?_
    exact s_nret (pc := 55) dJ9_equals_55 rfl
  · refine s_iconst (pc := 50) (v := 1) dJ9_equals_50 (by decide) ?_
    refine s_goto (pc := 51) (tgt := 55) dJ9_equals_51 (by decide) ?_
    exact s_nret (pc := 55) dJ9_equals_55 rfl
theorem w_J9_equals (v0 : Option Nat) (v1 : Option Nat) (h : zH) : zS D z yJ9_equals cJ9_equals 3 (some .boolean) [] 2 h 0 [(0, va_rf v0), (1, va_rf v1)] [] (f_J9_equals v0 v1 h) := by
  unfold f_J9_equals
  refine s_aload_n (pc := 0) 0 dJ9_equals_0 rfl rfl ?_
  refine s_aload_n (pc := 1) 1 dJ9_equals_1 rfl rfl ?_
  refine s_acmp_ne (pc := 2) (tgt := 7) dJ9_equals_2 (by decide) (fun _ => ?_) (fun _ => ?_)
  · refine s_aload_n (pc := 7) 1 dJ9_equals_7 rfl rfl ?_
    refine s_inst (pc := 8) dJ9_equals_8 q1684 (ztc ⟨_, rfl, Or.inl rfl⟩ (zt0)) (zt0) (fun x1 => ?_)
    refine s_if_eq (pc := 11) (tgt := 54) dJ9_equals_11 (by decide) (fun _ => ?_) (fun _ => ?_)
    · refine s_iconst (pc := 54) (v := 0) dJ9_equals_54 (by decide) ?_
      exact s_nret (pc := 55) dJ9_equals_55 rfl
    · refine s_aload_n (pc := 14) 1 dJ9_equals_14 rfl rfl ?_
      refine s_cast (pc := 15) dJ9_equals_15 q1684 zcs_java_lang_String ?_
      refine s_ast_n (pc := 18) (L2 := [(0, va_rf v0)]) [0] dJ9_equals_18 rfl (by decide) rfl rfl (zcA rfl) ?_
      refine s_getsI (pc := 19) (n := "COMPACT_STRINGS") (v := 1) dJ9_equals_19 (List.mem_of_getElem? (i := 7) rfl) q941 ?_
      refine s_if_eq (pc := 22) (tgt := 36) dJ9_equals_22 (by decide) (fun _ => ?_) (fun _ => ?_)
      · exact s_sub (pc := 36) [1, 0] rfl (w_J9_equals_36 v0 v1 h)
      · refine s_aload_n (pc := 25) 1 dJ9_equals_25 rfl rfl ?_
        refine s_gI (pc := 26) dJ9_equals_26 gf_J9_15 (fun x2 => ?_)
        refine s_aload_n (pc := 29) 0 dJ9_equals_29 rfl rfl ?_
        refine s_gI (pc := 30) dJ9_equals_30 gf_J9_15 (fun x3 => ?_)
        refine s_icmp_ne (pc := 33) (tgt := 54) dJ9_equals_33 (by decide) (fun _ => ?_) (fun _ => ?_)
        · refine s_iconst (pc := 54) (v := 0) dJ9_equals_54 (by decide) ?_
          exact s_nret (pc := 55) dJ9_equals_55 rfl
        · exact s_sub (pc := 36) [1, 0] rfl (w_J9_equals_36 v0 v1 h)
  · refine s_iconst (pc := 5) (v := 1) dJ9_equals_5 (by decide) ?_
    exact s_nret (pc := 6) dJ9_equals_6 rfl
theorem c_J9_equals {d0 : Nat} (hd0 : 2 < d0) (v0 : Option Nat) (v1 : Option Nat) (h : zH) : zCal D z d0 h yJ9_equals [va_rf v0, va_rf v1] (f_J9_equals v0 v1 h) :=
  ⟨cJ9_equals, 3, (some .boolean), [], 2, (show lv_args 0 [va_rf v0, va_rf v1] = [(0, va_rf v0), (1, va_rf v1)] by simp [lv_args, zcat_rf, zcat_i, zcat_l, zcat_f, zcat_d]) ▸ w_J9_equals v0 v1 h, (plainFor_of_name (by decide)), by simp [lg_sl, zcat_rf, zcat_i, zcat_l, zcat_f, zcat_d], q1683, q106, hd0, by decide, by decide⟩
theorem w_X10_current (v0 : Option Nat) (h : zH) : zS D z yX10_current cX10_current 1 (some .int) [] 5 h 0 [(0, va_rf v0)] [] (f_X10_current v0 h) := by
  unfold f_X10_current
  refine s_aload_n (pc := 0) 0 dX10_current_0 rfl rfl ?_
  refine s_gI (pc := 1) dX10_current_1 gf_X10_13 (fun x1 => ?_)
  refine s_aload_n (pc := 4) 0 dX10_current_4 rfl rfl ?_
  refine s_gR (pc := 5) dX10_current_5 gf_X10_1 (fun r2 => ?_)
  refine s_gR (pc := 8) dX10_current_8 gf_X10_17 (fun r3 => ?_)
  refine zS_ite (fun ht => ?_) (fun _ => zS_none)
  refine s_callV (pc := 11) (np := 0) (as := []) (rest := [.int x1]) dX10_current_11 ht (q := (RJ8, TJ8, 4)) rfl (c_J8_length (by decide) r3 h) rfl rfl q2933 q1023 q3777 rfl (by simp [zcat_rf, zcat_i, zcat_l, zcat_f, zcat_d]) (zkI (fun x4 h5 => ?_)) zxo
  refine s_icmp_ge (pc := 14) (tgt := 34) dX10_current_14 (by decide) (fun _ => ?_) (fun _ => ?_)
  · refine s_iconst (pc := 34) (v := -1) dX10_current_34 (by decide) ?_
    exact s_iret (pc := 35) dX10_current_35 rfl
  · refine s_aload_n (pc := 17) 0 dX10_current_17 rfl rfl ?_
    refine s_gR (pc := 18) dX10_current_18 gf_X10_1 (fun r6 => ?_)
    refine s_gR (pc := 21) dX10_current_21 gf_X10_17 (fun r7 => ?_)
    refine s_aload_n (pc := 24) 0 dX10_current_24 rfl rfl ?_
    refine s_gI (pc := 25) dX10_current_25 gf_X10_13 (fun x8 => ?_)
    refine zS_ite (fun ht => ?_) (fun _ => zS_none)
    refine s_callV (pc := 28) (np := 1) (as := [.int x8]) (rest := []) dX10_current_28 ht (q := (RJ8, TJ8, 4)) rfl (c_J8_charAt (by decide) r7 x8 h5) rfl rfl q2934 q2935 q2936 rfl (by decide) (zkI (fun x9 h10 => ?_)) zxo
    refine s_goto (pc := 31) (tgt := 35) dX10_current_31 (by decide) ?_
    exact s_iret (pc := 35) dX10_current_35 rfl
theorem c_X10_current {d0 : Nat} (hd0 : 5 < d0) (v0 : Option Nat) (h : zH) : zCal D z d0 h yX10_current [va_rf v0] (f_X10_current v0 h) :=
  ⟨cX10_current, 1, (some .int), [], 5, (show lv_args 0 [va_rf v0] = [(0, va_rf v0)] by simp [lv_args, zcat_rf, zcat_i, zcat_l, zcat_f, zcat_d]) ▸ w_X10_current v0 h, (plainFor_of_name (by decide)), by simp [lg_sl, zcat_rf, zcat_i, zcat_l, zcat_f, zcat_d], q2988, q153, hd0, by decide, by decide⟩
theorem w_X10_require (v0 : Option Nat) (v1 : Int32) (h : zH) : zS D z yX10_require cX10_require 2 none [] 4 h 0 [(0, va_rf v0), (1, .int v1)] [] (f_X10_require v0 v1 h) := by
  unfold f_X10_require
  refine s_iload_n (pc := 0) 1 dX10_require_0 rfl rfl ?_
  refine s_if_ne (pc := 1) (tgt := 16) dX10_require_1 (by decide) (fun _ => ?_) (fun _ => ?_)
  · exact s_vret (pc := 16) dX10_require_16 rfl
  · refine s_new (pc := 4) dX10_require_4 nf_X10_33 (fun r1 h2 => ?_)
    refine s_dup (pc := 7) dX10_require_7 (zcat_rf _) ?_
    refine s_aload_n (pc := 8) 0 dX10_require_8 rfl rfl ?_
    refine s_gI (pc := 9) dX10_require_9 gf_X10_13 (fun x3 => ?_)
    refine zS_ite (fun hr => ?_) (fun _ => zS_none)
    refine s_callC (pc := 12) (np := 1) (as := [.int x3]) (rest := [va_rf r1]) dX10_require_12 hr (c_X12_init (by decide) r1 x3 h2) ⟨_, _, q2967⟩ rfl rfl rfl q2965 q2966 rfl (by simp [zcat_rf, zcat_i, zcat_l, zcat_f, zcat_d]) (zkV (fun h4 => ?_)) zxo
    exact s_athrow (pc := 15) dX10_require_15 rfl (fun x => zxo x _)
theorem c_X10_require {d0 : Nat} (hd0 : 4 < d0) (v0 : Option Nat) (v1 : Int32) (h : zH) : zCal D z d0 h yX10_require [va_rf v0, .int v1] (f_X10_require v0 v1 h) :=
  ⟨cX10_require, 2, none, [], 4, (show lv_args 0 [va_rf v0, .int v1] = [(0, va_rf v0), (1, .int v1)] by simp [lv_args, zcat_rf, zcat_i, zcat_l, zcat_f, zcat_d]) ▸ w_X10_require v0 v1 h, (plainFor_of_name (by decide)), by simp [lg_sl, zcat_rf, zcat_i, zcat_l, zcat_f, zcat_d], q2993, q153, hd0, by decide, by decide⟩
theorem w_X10_number_19 : ∀ (n : Nat) (a0 : Option Nat) (a1 : Int32) (a2 : Int32) (h : zH), zS D z yX10_number cX10_number 3 (some .int) [] 6 h 19 [(0, va_rf a0), (1, .int a1), (2, .int a2)] [] (f_X10_number_19 n a0 a1 a2 h) := by
  intro n
  induction n with
  | zero => intros; exact zS_none
  | succ n ih =>
    intro a0 a1 a2 h
    rw [f_X10_number_19.eq_2]
    refine s_iload_n (pc := 19) 2 dX10_number_19 rfl rfl ?_
    refine s_iconst (pc := 20) (v := 3) dX10_number_20 (by decide) ?_
    refine s_icmp_ge (pc := 21) (tgt := 67) dX10_number_21 (by decide) (fun _ => ?_) (fun _ => ?_)
    · refine s_iload_n (pc := 67) 1 dX10_number_67 rfl rfl ?_
      exact s_iret (pc := 68) dX10_number_68 rfl
    · refine s_aload_n (pc := 24) 0 dX10_number_24 rfl rfl ?_
      refine zS_ite (fun ht => ?_) (fun _ => zS_none)
      refine s_callV (pc := 25) (np := 0) (as := []) (rest := []) dX10_number_25 ht (q := (RX10, TX10, 2)) rfl (c_X10_current (by decide) a0 h) rfl rfl q2985 q2987 qs33 rfl (by decide) (zkI (fun x6 h7 => ?_)) zxo
      refine s_bipush (pc := 28) (v := 48) dX10_number_28 (by decide) ?_
      refine s_bipush (pc := 30) (v := 57) dX10_number_30 (by decide) ?_
      refine s_callSN (pc := 32) (np := 3) (as := [.int x6, .int 48, .int 57]) (rest := []) dX10_number_32 (c_X1_isBetween (by decide) x6 48 57 h7) ⟨_, _, _, q1519⟩ rfl rfl q2989 q1518 rfl (by decide) (zkI (fun x8 h9 => ?_)) zxo
      refine s_if_eq (pc := 35) (tgt := 67) dX10_number_35 (by decide) (fun _ => ?_) (fun _ => ?_)
      · refine s_iload_n (pc := 67) 1 dX10_number_67 rfl rfl ?_
        exact s_iret (pc := 68) dX10_number_68 rfl
      · refine s_bipush (pc := 38) (v := 10) dX10_number_38 (by decide) ?_
        refine s_iload_n (pc := 40) 1 dX10_number_40 rfl rfl ?_
        refine s_imul (pc := 41) dX10_number_41 ?_
        refine s_aload_n (pc := 42) 0 dX10_number_42 rfl rfl ?_
        refine zS_ite (fun ht => ?_) (fun _ => zS_none)
        refine s_callV (pc := 43) (np := 0) (as := []) (rest := [.int ((10 : Int32) * a1)]) dX10_number_43 ht (q := (RX10, TX10, 2)) rfl (c_X10_current (by decide) a0 h9) rfl rfl q2985 q2987 qs33 rfl (by simp [zcat_rf, zcat_i, zcat_l, zcat_f, zcat_d]) (zkI (fun x10 h11 => ?_)) zxo
        refine s_iadd (pc := 46) dX10_number_46 ?_
        refine s_bipush (pc := 47) (v := 48) dX10_number_47 (by decide) ?_
        refine s_isub (pc := 49) dX10_number_49 ?_
        refine s_nm (pc := 50) Value.int (fun x12 => ?_)
        refine s_ist_n (pc := 50) (L2 := [(0, va_rf a0), (2, .int a2)]) [0, 2] dX10_number_50 rfl (by decide) rfl rfl (zcB (j := 0) rfl (zcat_rf a0) rfl) ?_
        refine s_aload_n (pc := 51) 1 dX10_number_51 rfl rfl ?_
        refine s_dup (pc := 52) dX10_number_52 (zcat_rf _) ?_
        refine s_gI (pc := 53) dX10_number_53 gf_X10_13 (fun x13 => ?_)
        refine s_iconst (pc := 56) (v := 1) dX10_number_56 (by decide) ?_
        refine s_iadd (pc := 57) dX10_number_57 ?_
        refine s_putI (pc := 58) dX10_number_58 pf_X10_13 (fun h14 => ?_)
        refine s_inc (pc := 61) (v := 1) (L2 := [(1, .int x12), (0, va_rf a0)]) 2 [0, 1] dX10_number_61 rfl (by decide) (by decide) rfl rfl (zcB (j := 0) rfl rfl rfl) (fun x15 => ?_)
        refine s_goto (pc := 64) (tgt := 19) dX10_number_64 (by decide) ?_
        exact s_sub (pc := 19) [2, 1, 0] rfl (ih a0 x12 x15 h14)
theorem w_X10_number (v0 : Option Nat) (h : zH) : zS D z yX10_number cX10_number 3 (some .int) [] 6 h 0 [(0, va_rf v0)] [] (f_X10_number v0 h) := by
  unfold f_X10_number
  refine s_aload_n (pc := 0) 0 dX10_number_0 rfl rfl ?_
  refine s_aload_n (pc := 1) 0 dX10_number_1 rfl rfl ?_
  refine zS_ite (fun ht => ?_) (fun _ => zS_none)
  refine s_callV (pc := 2) (np := 0) (as := []) (rest := [va_rf v0]) dX10_number_2 ht (q := (RX10, TX10, 2)) rfl (c_X10_current (by decide) v0 h) rfl rfl q2985 q2987 qs33 rfl (by simp [zcat_rf, zcat_i, zcat_l, zcat_f, zcat_d]) (zkI (fun x1 h2 => ?_)) zxo
  refine s_bipush (pc := 5) (v := 48) dX10_number_5 (by decide) ?_
  refine s_bipush (pc := 7) (v := 57) dX10_number_7 (by decide) ?_
  refine s_callSN (pc := 9) (np := 3) (as := [.int x1, .int 48, .int 57]) (rest := [va_rf v0]) dX10_number_9 (c_X1_isBetween (by decide) x1 48 57 h2) ⟨_, _, _, q1519⟩ rfl rfl q2989 q1518 rfl (by simp [zcat_rf, zcat_i, zcat_l, zcat_f, zcat_d]) (zkI (fun x3 h4 => ?_)) zxo
  refine zS_ite (fun ht => ?_) (fun _ => zS_none)
  refine s_callV (pc := 12) (np := 1) (as := [.int x3]) (rest := []) dX10_number_12 ht (q := (RX10, TX10, 2)) rfl (c_X10_require (by decide) v0 x3 h4) rfl rfl q2990 q2992 qs34 rfl (by decide) (zkV (fun h5 => ?_)) zxo
  refine s_iconst (pc := 15) (v := 0) dX10_number_15 (by decide) ?_
  refine s_ist_n (pc := 16) (L2 := [(0, va_rf v0)]) [0] dX10_number_16 rfl (by decide) rfl rfl (zcB (j := 0) rfl (zcat_rf v0) rfl) ?_
  refine s_iconst (pc := 17) (v := 0) dX10_number_17 (by decide) ?_
  refine s_ist_n (pc := 18) (L2 := [(1, .int 0), (0, va_rf v0)]) [0, 1] dX10_number_18 rfl (by decide) rfl rfl (zcB (j := 0) rfl rfl rfl) ?_
  exact s_sub (pc := 19) [2, 1, 0] rfl (w_X10_number_19 zfuel v0 0 0 h5)
theorem c_X10_number {d0 : Nat} (hd0 : 6 < d0) (v0 : Option Nat) (h : zH) : zCal D z d0 h yX10_number [va_rf v0] (f_X10_number v0 h) :=
  ⟨cX10_number, 3, (some .int), [], 6, (show lv_args 0 [va_rf v0] = [(0, va_rf v0)] by simp [lv_args, zcat_rf, zcat_i, zcat_l, zcat_f, zcat_d]) ▸ w_X10_number v0 h, (plainFor_of_name (by decide)), by simp [lg_sl, zcat_rf, zcat_i, zcat_l, zcat_f, zcat_d], q2984, q153, hd0, by decide, by decide⟩
theorem w_X10_accept_13 (a0 : Option Nat) (s0 : Int32) (h : zH) : zS D z yX10_accept cX10_accept 3 (some .boolean) [] 6 h 13 [(0, va_rf a0)] [.int s0] (f_X10_accept_13 a0 s0 h) := by
  unfold f_X10_accept_13
  refine s_ist_n (pc := 13) (L2 := [(0, va_rf a0)]) [0] dX10_accept_13 rfl (by decide) rfl rfl (zcA rfl) ?_
  refine s_aload_n (pc := 14) 1 dX10_accept_14 rfl rfl ?_
  refine s_dup (pc := 15) dX10_accept_15 (zcat_rf _) ?_
  refine s_gI (pc := 16) dX10_accept_16 gf_X10_13 (fun x3 => ?_)
  refine s_iload_n (pc := 19) 0 dX10_accept_19 rfl rfl ?_
  refine s_if_eq (pc := 20) (tgt := 27) dX10_accept_20 (by decide) (fun _ => ?_) (fun _ => ?_)
  · refine s_iconst (pc := 27) (v := 0) dX10_accept_27 (by decide) ?_
    refine s_iadd (pc := 28) dX10_accept_28 ?_
    refine s_putI (pc := 29) dX10_accept_29 pf_X10_13 (fun h4 => ?_)
    refine s_iload_n (pc := 32) 0 dX10_accept_32 rfl rfl ?_
    exact s_nret (pc := 33) dX10_accept_33 rfl
  · refine s_iconst (pc := 23) (v := 1) dX10_accept_23 (by decide) ?_
    refine s_goto (pc := 24) (tgt := 28) dX10_accept_24 (by decide) ?_
    refine s_iadd (pc := 28) dX10_accept_28 ?_
    refine s_putI (pc := 29) dX10_accept_29 pf_X10_13 (fun h5 => ?_)
    refine s_iload_n (pc := 32) 0 dX10_accept_32 rfl rfl ?_
    exact s_nret (pc := 33) dX10_accept_33 rfl
theorem w_X10_accept (v0 : Option Nat) (v1 : Int32) (h : zH) : zS D z yX10_accept cX10_accept 3 (some .boolean) [] 6 h 0 [(0, va_rf v0), (1, .int v1)] [] (f_X10_accept v0 v1 h) := by
  unfold f_X10_accept
  refine s_aload_n (pc := 0) 0 dX10_accept_0 rfl rfl ?_
  refine zS_ite (fun ht => ?_) (fun _ => zS_none)
  refine s_callV (pc := 1) (np := 0) (as := []) (rest := []) dX10_accept_1 ht (q := (RX10, TX10, 2)) rfl (c_X10_current (by decide) v0 h) rfl rfl q2985 q2987 qs33 rfl (by decide) (zkI (fun x1 h2 => ?_)) zxo
  refine s_iload_n (pc := 4) 1 dX10_accept_4 rfl rfl ?_
  refine s_icmp_ne (pc := 5) (tgt := 12) dX10_accept_5 (by decide) (fun _ => ?_) (fun _ => ?_)
  · refine s_iconst (pc := 12) (v := 0) dX10_accept_12 (by decide) ?_
    exact s_sub (pc := 13) [0] rfl (w_X10_accept_13 v0 0 h2)
  · refine s_iconst (pc := 8) (v := 1) dX10_accept_8 (by decide) ?_
    refine s_goto (pc := 9) (tgt := 13) dX10_accept_9 (by decide) ?_
    exact s_sub (pc := 13) [0] rfl (w_X10_accept_13 v0 1 h2)
theorem c_X10_accept {d0 : Nat} (hd0 : 6 < d0) (v0 : Option Nat) (v1 : Int32) (h : zH) : zCal D z d0 h yX10_accept [va_rf v0, .int v1] (f_X10_accept v0 v1 h) :=
  ⟨cX10_accept, 3, (some .boolean), [], 6, (show lv_args 0 [va_rf v0, .int v1] = [(0, va_rf v0), (1, .int v1)] by simp [lv_args, zcat_rf, zcat_i, zcat_l, zcat_f, zcat_d]) ▸ w_X10_accept v0 v1 h, (plainFor_of_name (by decide)), by simp [lg_sl, zcat_rf, zcat_i, zcat_l, zcat_f, zcat_d], q3001, q153, hd0, by decide, by decide⟩
end WW6
