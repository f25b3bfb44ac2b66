set_option maxRecDepth 100000
theorem gf_X10_1 : zFg RX10 1 [9] 1 := ⟨_, _, _, .inl q2880, ztc ⟨_, rfl, by decide, rfl, rfl, .inl rfl, in_X10⟩ (zt0)⟩
theorem gf_X10_174 : zFg RX10 174 [0] 0 := ⟨_, _, _, .inr ⟨_, q1382⟩, ztc ⟨_, rfl, by decide, rfl, rfl, .inl rfl, in_X1⟩ (zt0)⟩
theorem gf_J6_3 : zFg RJ6 3 [15] 0 := ⟨_, _, _, .inl q312, ztc ⟨_, rfl, by decide, rfl, rfl, .inl rfl, in_J6⟩ (zt0)⟩
theorem gf_J6_20 : zFg RJ6 20 [15] 2 := ⟨_, _, _, .inl q316, ztc ⟨_, rfl, by decide, rfl, rfl, .inl rfl, in_J6⟩ (zt0)⟩
theorem zcs_java_lang_Object : zcs "java/lang/Object" [0, 1, 2, 3, 4, 5, 6, 7, 8, 9, 10, 11, 12, 13, 14, 15, 16, 17, 18, 19, 20, 21, 22, 23, 24, 25, 26, 27, 28, 29, 30, 31, 32, 33, 34, 35] := ztc (Or.inl ⟨_, rfl, Or.inr q3797⟩) (ztc (Or.inl ⟨_, rfl, Or.inr q3798⟩) (ztc (Or.inl ⟨_, rfl, Or.inr q3817⟩) (ztc (Or.inl ⟨_, rfl, Or.inr q3818⟩) (ztc (Or.inl ⟨_, rfl, Or.inr q3819⟩) (ztc (Or.inl ⟨_, rfl, Or.inr q3822⟩) (ztc (Or.inl ⟨_, rfl, Or.inr q3828⟩) (ztc (Or.inl ⟨_, rfl, Or.inr q3830⟩) (ztc (Or.inl ⟨_, rfl, Or.inr q3831⟩) (ztc (Or.inl ⟨_, rfl, Or.inr q3832⟩) (ztc (Or.inl ⟨_, rfl, Or.inr q3833⟩) (ztc (Or.inl ⟨_, rfl, Or.inr q3834⟩) (ztc (Or.inl ⟨_, rfl, Or.inr q3801⟩) (ztc (Or.inl ⟨_, rfl, Or.inr q3799⟩) (ztc (Or.inl ⟨_, rfl, Or.inr q3800⟩) (ztc (Or.inl ⟨_, rfl, Or.inr q3802⟩) (ztc (Or.inl ⟨_, rfl, Or.inr q3803⟩) (ztc (Or.inl ⟨_, rfl, Or.inr q3796⟩) (ztc (Or.inl ⟨_, rfl, Or.inr q3804⟩) (ztc (Or.inl ⟨_, rfl, Or.inr q3805⟩) (ztc (Or.inl ⟨_, rfl, Or.inr q3816⟩) (ztc (Or.inl ⟨_, rfl, Or.inr q3809⟩) (ztc (Or.inl ⟨_, rfl, Or.inr q3807⟩) (ztc (Or.inl ⟨_, rfl, Or.inr q3808⟩) (ztc (Or.inl ⟨_, rfl, Or.inr q3810⟩) (ztc (Or.inl ⟨_, rfl, Or.inr q3811⟩) (ztc (Or.inl ⟨_, rfl, Or.inr q3821⟩) (ztc (Or.inl ⟨_, rfl, Or.inr q3815⟩) (ztc (Or.inl ⟨_, rfl, Or.inr q3794⟩) (ztc (Or.inl ⟨_, rfl, Or.inr q3824⟩) (ztc (Or.inl ⟨_, rfl, Or.inr q3812⟩) (ztc (Or.inl ⟨_, rfl, Or.inr q3813⟩) (ztc (Or.inl ⟨_, rfl, Or.inr q3814⟩) (ztc (Or.inl ⟨_, rfl, Or.inr q3820⟩) (ztc (Or.inl ⟨_, rfl, Or.inr q3827⟩) (ztc (Or.inl ⟨_, rfl, Or.inr q3836⟩) (zt0))))))))))))))))))))))))))))))))))))
theorem gf_J6_24 : zFg RJ6 24 [15] 1 := ⟨_, _, _, .inl q315, ztc ⟨_, rfl, by decide, rfl, rfl, .inl rfl, in_J6⟩ (zt0)⟩
theorem pf_J6_20 {nm : String} : zFp RJ6 20 [15] 2 nm (.int) := ⟨_, _, _, .inl q316, by decide +kernel, ztc ⟨_, tyJ6, rfl, by decide, rfl, rfl, .inl rfl, in_J6, tyJ6_ok, nmJ6, .inl rfl⟩ (zt0)⟩
theorem pf_J6_24 {nm : String} : zFp RJ6 24 [15] 1 nm (.int) := ⟨_, _, _, .inl q315, by decide +kernel, ztc ⟨_, tyJ6, rfl, by decide, rfl, rfl, .inl rfl, in_J6, tyJ6_ok, nmJ6, .inl rfl⟩ (zt0)⟩
theorem xf_J6_97_99 : zFx RJ6 97 99 30 := ⟨RJ28, ["java/lang/RuntimeException", "java/lang/Exception"], TJ28, rfl, by decide +kernel, by decide +kernel, q2355, q126, by decide, lw_in _ [123, 729, 738, 749, 752, 754, 730, 731, 164, 165, 732, 737, 750, 767, 719, 768, 721, 769, 723, 733, 735, 725, 756, 757, 758, 759, 759, 760, 761, 762, 762, 763, 764, 730, 2356, 708, 716, 717, 718, 720, 722, 724, 728, 727, 726] (by decide +kernel) (by decide +kernel), zin_tbl _ [710, 712, 714, 709] (by decide +kernel) (by decide +kernel), List.all_eq_true.mp (by decide +kernel)⟩
theorem gf_X1_37 : zFg RX1 37 [0] 5 := ⟨_, _, _, .inl q1387, ztc ⟨_, rfl, by decide, rfl, rfl, .inl rfl, in_X1⟩ (zt0)⟩
theorem gf_X1_30 : zFg RX1 30 [0] 3 := ⟨_, _, _, .inl q1385, ztc ⟨_, rfl, by decide, rfl, rfl, .inl rfl, in_X1⟩ (zt0)⟩
theorem zcs_FloatingDock_Yard : zcs "FloatingDock$Yard" [1] := ztc (Or.inl ⟨_, rfl, Or.inl rfl⟩) (zt0)
theorem pf_X1_30 {nm : String} : zFp RX1 30 [0] 3 nm (.object "FloatingDock$Yard") := ⟨_, _, _, .inl q1385, by decide +kernel, ztc ⟨_, tyX1, rfl, by decide, rfl, rfl, .inl rfl, in_X1, tyX1_ok, nmX1, .inl rfl⟩ (zt0)⟩
theorem nf_X1_27 : zFn RX1 27 1 [.null, .null, .int 0, .int 0, .int 0, .int 0, .int 0, .int 0, .int 0, .int 0] := ⟨_, tyX2, rfl, q172, q173, q96, in_X2, tyX2_ok, rfl⟩
theorem gf_X1_116 : zFg RX1 116 [6] 6 := ⟨_, _, _, .inr ⟨_, q2470⟩, ztc ⟨_, rfl, by decide, rfl, rfl, .inl rfl, in_X7⟩ (zt0)⟩
theorem pf_X1_119 {nm : String} : zFp RX1 119 [0] 10 nm (.int) := ⟨_, _, _, .inl q1393, by decide +kernel, ztc ⟨_, tyX1, rfl, by decide, rfl, rfl, .inl rfl, in_X1, tyX1_ok, nmX1, .inl rfl⟩ (zt0)⟩
theorem xf_X1_83_85 : zFx RX1 83 85 31 := ⟨RJ29, ["java/lang/RuntimeException", "java/lang/Exception"], TJ29, rfl, by decide +kernel, by decide +kernel, q2549, q127, by decide, lw_in _ [123, 729, 738, 749, 752, 754, 730, 731, 164, 165, 732, 737, 750, 767, 719, 768, 721, 769, 723, 733, 735, 725, 2551, 2552, 2553, 759, 759, 760, 761, 762, 762, 763, 764, 730, 2550, 847, 849, 746, 850, 851, 852, 853, 728, 727, 854] (by decide +kernel) (by decide +kernel), zin_tbl _ [710, 712, 714, 848] (by decide +kernel) (by decide +kernel), List.all_eq_true.mp (by decide +kernel)⟩
theorem gf_X2_148 : zFg RX2 148 [2] 0 := ⟨_, _, _, .inr ⟨_, q1295⟩, ztc ⟨_, rfl, by decide, rfl, rfl, .inl rfl, in_X3⟩ (zt0)⟩
theorem gf_X1_175 : zFg RX1 175 [5] 3 := ⟨_, _, _, .inr ⟨_, q2013⟩, ztc ⟨_, rfl, by decide, rfl, rfl, .inl rfl, in_X6⟩ (zt0)⟩
theorem gf_X1_178 : zFg RX1 178 [5] 4 := ⟨_, _, _, .inr ⟨_, q2016⟩, ztc ⟨_, rfl, by decide, rfl, rfl, .inl rfl, in_X6⟩ (zt0)⟩
theorem gf_X1_181 : zFg RX1 181 [5] 6 := ⟨_, _, _, .inr ⟨_, q2022⟩, ztc ⟨_, rfl, by decide, rfl, rfl, .inl rfl, in_X6⟩ (zt0)⟩
theorem gf_X1_184 : zFg RX1 184 [1] 3 := ⟨_, _, _, .inr ⟨_, q272⟩, ztc ⟨_, rfl, by decide, rfl, rfl, .inl rfl, in_X2⟩ (zt0)⟩
theorem gf_X1_119 : zFg RX1 119 [0] 10 := ⟨_, _, _, .inl q1393, ztc ⟨_, rfl, by decide, rfl, rfl, .inl rfl, in_X1⟩ (zt0)⟩
section WW3
variable {D : va_G} {z : Nat}
theorem w_X2_shipAtPosition_13 : ∀ (n : Nat) (a1 : Int32) (a2 : Option Nat) (h : zH), zS D z yX2_shipAtPosition cX2_shipAtPosition 4 (some (.object "FloatingDock$Ship")) [] 10 h 13 [(1, .int a1), (2, va_rf a2)] [] (f_X2_shipAtPosition_13 n a1 a2 h) := by
  intro n
  induction n with
  | zero => intros; exact zS_none
  | succ n ih =>
    intro a1 a2 h
    rw [f_X2_shipAtPosition_13.eq_2]
    refine s_aload_n (pc := 13) 1 dX2_shipAtPosition_13 rfl rfl ?_
    refine zS_ite (fun ht => ?_) (fun _ => ?_)
    · refine s_callF (pc := 14) (np := 0) (as := []) (rest := []) dX2_shipAtPosition_14 ht (q := (RX9, TX9, 2)) rfl (c_X9_hasNext (by decide) a2 h) ⟨_, _, _, q637⟩ rfl rfl q629 (by decide +kernel) q635 q633 rfl (by decide) (zkI (fun x6 h7 => ?_)) zxo
      refine s_if_eq (pc := 19) (tgt := 45) dX2_shipAtPosition_19 (by decide) (fun _ => ?_) (fun _ => ?_)
      · refine s_null (pc := 45) dX2_shipAtPosition_45 ?_
        exact s_aret (pc := 46) dX2_shipAtPosition_46 rfl (Or.inl ⟨_, rfl⟩)
      · refine s_aload_n (pc := 22) 1 dX2_shipAtPosition_22 rfl rfl ?_
        refine zS_ite (fun ht => ?_) (fun _ => ?_)
        · refine s_callF (pc := 23) (np := 0) (as := []) (rest := []) dX2_shipAtPosition_23 ht (q := (RX9, TX9, 2)) rfl (c_X9_next (by decide) a2 h7) ⟨_, _, _, q677⟩ rfl rfl q670 (by decide +kernel) q675 q673 rfl (by decide) (zkR (fun r8 h9 => ?_)) zxo
          refine s_cast (pc := 28) dX2_shipAtPosition_28 q836 zcs_FloatingDock_Ship ?_
          refine s_ast_n (pc := 31) (L2 := [(1, .int a1), (2, va_rf a2)]) [0, 1] dX2_shipAtPosition_31 rfl (by decide) rfl rfl (zcB (j := 1) rfl (zcat_rf a2) rfl) ?_
          refine s_aload_n (pc := 32) 0 dX2_shipAtPosition_32 rfl rfl ?_
          refine s_iload_n (pc := 33) 1 dX2_shipAtPosition_33 rfl rfl ?_
          refine zS_ite (fun ht => ?_) (fun _ => zS_none)
          refine s_callV (pc := 34) (np := 1) (as := [.int a1]) (rest := []) dX2_shipAtPosition_34 ht (q := (RX6, TX6, 9)) rfl (c_X6_isAt (by decide) r8 a1 h9) rfl rfl q1508 q1509 q1510 rfl (by decide) (zkI (fun x10 h11 => ?_)) zxo
          refine s_if_eq (pc := 37) (tgt := 42) dX2_shipAtPosition_37 (by decide) (fun _ => ?_) (fun _ => ?_)
          · refine s_goto (pc := 42) (tgt := 13) dX2_shipAtPosition_42 (by decide) ?_
            exact s_sub (pc := 13) [1, 2] rfl (ih a1 a2 h11)
          · refine s_aload_n (pc := 40) 0 dX2_shipAtPosition_40 rfl rfl ?_
            exact s_aret (pc := 41) dX2_shipAtPosition_41 rfl (Or.inl ⟨_, rfl⟩)
        refine zS_ite (fun ht => ?_) (fun _ => ?_)
        · refine s_callF (pc := 23) (np := 0) (as := []) (rest := []) dX2_shipAtPosition_23 ht (q := (RJ15, TJ15, 4)) rfl (c_J15_next (by decide) a2 h7) ⟨_, _, _, q788⟩ rfl rfl q670 (by decide +kernel) q786 q784 rfl (by decide) (zkR (fun r8 h9 => ?_)) zxo
          refine s_cast (pc := 28) dX2_shipAtPosition_28 q836 zcs_FloatingDock_Ship ?_
          refine s_ast_n (pc := 31) (L2 := [(1, .int a1), (2, va_rf a2)]) [0, 1] dX2_shipAtPosition_31 rfl (by decide) rfl rfl (zcB (j := 1) rfl (zcat_rf a2) rfl) ?_
          refine s_aload_n (pc := 32) 0 dX2_shipAtPosition_32 rfl rfl ?_
          refine s_iload_n (pc := 33) 1 dX2_shipAtPosition_33 rfl rfl ?_
          refine zS_ite (fun ht => ?_) (fun _ => zS_none)
          refine s_callV (pc := 34) (np := 1) (as := [.int a1]) (rest := []) dX2_shipAtPosition_34 ht (q := (RX6, TX6, 9)) rfl (c_X6_isAt (by decide) r8 a1 h9) rfl rfl q1508 q1509 q1510 rfl (by decide) (zkI (fun x12 h13 => ?_)) zxo
          refine s_if_eq (pc := 37) (tgt := 42) dX2_shipAtPosition_37 (by decide) (fun _ => ?_) (fun _ => ?_)
          · refine s_goto (pc := 42) (tgt := 13) dX2_shipAtPosition_42 (by decide) ?_
            exact s_sub (pc := 13) [1, 2] rfl (ih a1 a2 h13)
          · refine s_aload_n (pc := 40) 0 dX2_shipAtPosition_40 rfl rfl ?_
            exact s_aret (pc := 41) dX2_shipAtPosition_41 rfl (Or.inl ⟨_, rfl⟩)
        refine zS_ite (fun ht => ?_) (fun _ => ?_)
        · refine s_callF (pc := 23) (np := 0) (as := []) (rest := []) dX2_shipAtPosition_23 ht (q := (RJ17, TJ17, 5)) rfl (c_J17_next (by decide) a2 h7) ⟨_, _, _, q799⟩ rfl rfl q670 (by decide +kernel) q797 q795 rfl (by decide) (zkR (fun r8 h9 => ?_)) zxo
          refine s_cast (pc := 28) dX2_shipAtPosition_28 q836 zcs_FloatingDock_Ship ?_
          refine s_ast_n (pc := 31) (L2 := [(1, .int a1), (2, va_rf a2)]) [0, 1] dX2_shipAtPosition_31 rfl (by decide) rfl rfl (zcB (j := 1) rfl (zcat_rf a2) rfl) ?_
          refine s_aload_n (pc := 32) 0 dX2_shipAtPosition_32 rfl rfl ?_
          refine s_iload_n (pc := 33) 1 dX2_shipAtPosition_33 rfl rfl ?_
          refine zS_ite (fun ht => ?_) (fun _ => zS_none)
          refine s_callV (pc := 34) (np := 1) (as := [.int a1]) (rest := []) dX2_shipAtPosition_34 ht (q := (RX6, TX6, 9)) rfl (c_X6_isAt (by decide) r8 a1 h9) rfl rfl q1508 q1509 q1510 rfl (by decide) (zkI (fun x14 h15 => ?_)) zxo
          refine s_if_eq (pc := 37) (tgt := 42) dX2_shipAtPosition_37 (by decide) (fun _ => ?_) (fun _ => ?_)
          · refine s_goto (pc := 42) (tgt := 13) dX2_shipAtPosition_42 (by decide) ?_
            exact s_sub (pc := 13) [1, 2] rfl (ih a1 a2 h15)
          · refine s_aload_n (pc := 40) 0 dX2_shipAtPosition_40 rfl rfl ?_
            exact s_aret (pc := 41) dX2_shipAtPosition_41 rfl (Or.inl ⟨_, rfl⟩)
        refine zS_ite (fun ht => ?_) (fun _ => ?_)
        · refine s_callF (pc := 23) (np := 0) (as := []) (rest := []) dX2_shipAtPosition_23 ht (q := (RJ21, TJ21, 5)) rfl (c_J21_next (by decide) a2 h7) ⟨_, _, _, q812⟩ rfl rfl q670 (by decide +kernel) q810 q808 rfl (by decide) (zkR (fun r8 h9 => ?_)) zxo
          refine s_cast (pc := 28) dX2_shipAtPosition_28 q836 zcs_FloatingDock_Ship ?_
          refine s_ast_n (pc := 31) (L2 := [(1, .int a1), (2, va_rf a2)]) [0, 1] dX2_shipAtPosition_31 rfl (by decide) rfl rfl (zcB (j := 1) rfl (zcat_rf a2) rfl) ?_
          refine s_aload_n (pc := 32) 0 dX2_shipAtPosition_32 rfl rfl ?_
          refine s_iload_n (pc := 33) 1 dX2_shipAtPosition_33 rfl rfl ?_
          refine zS_ite (fun ht => ?_) (fun _ => zS_none)
          refine s_callV (pc := 34) (np := 1) (as := [.int a1]) (rest := []) dX2_shipAtPosition_34 ht (q := (RX6, TX6, 9)) rfl (c_X6_isAt (by decide) r8 a1 h9) rfl rfl q1508 q1509 q1510 rfl (by decide) (zkI (fun x16 h17 => ?_)) zxo
          refine s_if_eq (pc := 37) (tgt := 42) dX2_shipAtPosition_37 (by decide) (fun _ => ?_) (fun _ => ?_)
          · refine s_goto (pc := 42) (tgt := 13) dX2_shipAtPosition_42 (by decide) ?_
            exact s_sub (pc := 13) [1, 2] rfl (ih a1 a2 h17)
          · refine s_aload_n (pc := 40) 0 dX2_shipAtPosition_40 rfl rfl ?_
            exact s_aret (pc := 41) dX2_shipAtPosition_41 rfl (Or.inl ⟨_, rfl⟩)
        refine zS_ite (fun ht => ?_) (fun _ => zS_none)
        refine s_callF (pc := 23) (np := 0) (as := []) (rest := []) dX2_shipAtPosition_23 ht (q := (RJ22, TJ22, 5)) rfl (c_J22_next (by decide) a2 h7) ⟨_, _, _, q832⟩ rfl rfl q670 (by decide +kernel) q830 q828 rfl (by decide) (zkR (fun r8 h9 => ?_)) zxo
        refine s_cast (pc := 28) dX2_shipAtPosition_28 q836 zcs_FloatingDock_Ship ?_
        refine s_ast_n (pc := 31) (L2 := [(1, .int a1), (2, va_rf a2)]) [0, 1] dX2_shipAtPosition_31 rfl (by decide) rfl rfl (zcB (j := 1) rfl (zcat_rf a2) rfl) ?_
        refine s_aload_n (pc := 32) 0 dX2_shipAtPosition_32 rfl rfl ?_
        refine s_iload_n (pc := 33) 1 dX2_shipAtPosition_33 rfl rfl ?_
        refine zS_ite (fun ht => ?_) (fun _ => zS_none)
        refine s_callV (pc := 34) (np := 1) (as := [.int a1]) (rest := []) dX2_shipAtPosition_34 ht (q := (RX6, TX6, 9)) rfl (c_X6_isAt (by decide) r8 a1 h9) rfl rfl q1508 q1509 q1510 rfl (by decide) (zkI (fun x18 h19 => ?_)) zxo
        refine s_if_eq (pc := 37) (tgt := 42) dX2_shipAtPosition_37 (by decide) (fun _ => ?_) (fun _ => ?_)
        · refine s_goto (pc := 42) (tgt := 13) dX2_shipAtPosition_42 (by decide) ?_
          exact s_sub (pc := 13) [1, 2] rfl (ih a1 a2 h19)
        · refine s_aload_n (pc := 40) 0 dX2_shipAtPosition_40 rfl rfl ?_
          exact s_aret (pc := 41) dX2_shipAtPosition_41 rfl (Or.inl ⟨_, rfl⟩)
    refine zS_ite (fun ht => ?_) (fun _ => ?_)
    · refine s_callF (pc := 14) (np := 0) (as := []) (rest := []) dX2_shipAtPosition_14 ht (q := (RJ15, TJ15, 4)) rfl (c_J15_hasNext (by decide) a2 h) ⟨_, _, _, q653⟩ rfl rfl q629 (by decide +kernel) q651 q649 rfl (by decide) (zkI (fun x6 h7 => ?_)) zxo
      refine s_if_eq (pc := 19) (tgt := 45) dX2_shipAtPosition_19 (by decide) (fun _ => ?_) (fun _ => ?_)
      · refine s_null (pc := 45) dX2_shipAtPosition_45 ?_
        exact s_aret (pc := 46) dX2_shipAtPosition_46 rfl (Or.inl ⟨_, rfl⟩)
      · refine s_aload_n (pc := 22) 1 dX2_shipAtPosition_22 rfl rfl ?_
        refine zS_ite (fun ht => ?_) (fun _ => ?_)
        · refine s_callF (pc := 23) (np := 0) (as := []) (rest := []) dX2_shipAtPosition_23 ht (q := (RX9, TX9, 2)) rfl (c_X9_next (by decide) a2 h7) ⟨_, _, _, q677⟩ rfl rfl q670 (by decide +kernel) q675 q673 rfl (by decide) (zkR (fun r20 h21 => ?_)) zxo
          refine s_cast (pc := 28) dX2_shipAtPosition_28 q836 zcs_FloatingDock_Ship ?_
          refine s_ast_n (pc := 31) (L2 := [(1, .int a1), (2, va_rf a2)]) [0, 1] dX2_shipAtPosition_31 rfl (by decide) rfl rfl (zcB (j := 1) rfl (zcat_rf a2) rfl) ?_
          refine s_aload_n (pc := 32) 0 dX2_shipAtPosition_32 rfl rfl ?_
          refine s_iload_n (pc := 33) 1 dX2_shipAtPosition_33 rfl rfl ?_
          refine zS_ite (fun ht => ?_) (fun _ => zS_none)
          refine s_callV (pc := 34) (np := 1) (as := [.int a1]) (rest := []) dX2_shipAtPosition_34 ht (q := (RX6, TX6, 9)) rfl (c_X6_isAt (by decide) r20 a1 h21) rfl rfl q1508 q1509 q1510 rfl (by decide) (zkI (fun x22 h23 => ?_)) zxo
          refine s_if_eq (pc := 37) (tgt := 42) dX2_shipAtPosition_37 (by decide) (fun _ => ?_) (fun _ => ?_)
          · refine s_goto (pc := 42) (tgt := 13) dX2_shipAtPosition_42 (by decide) ?_
            exact s_sub (pc := 13) [1, 2] rfl (ih a1 a2 h23)
          · refine s_aload_n (pc := 40) 0 dX2_shipAtPosition_40 rfl rfl ?_
            exact s_aret (pc := 41) dX2_shipAtPosition_41 rfl (Or.inl ⟨_, rfl⟩)
        refine zS_ite (fun ht => ?_) (fun _ => ?_)
        · refine s_callF (pc := 23) (np := 0) (as := []) (rest := []) dX2_shipAtPosition_23 ht (q := (RJ15, TJ15, 4)) rfl (c_J15_next (by decide) a2 h7) ⟨_, _, _, q788⟩ rfl rfl q670 (by decide +kernel) q786 q784 rfl (by decide) (zkR (fun r20 h21 => ?_)) zxo
          refine s_cast (pc := 28) dX2_shipAtPosition_28 q836 zcs_FloatingDock_Ship ?_
          refine s_ast_n (pc := 31) (L2 := [(1, .int a1), (2, va_rf a2)]) [0, 1] dX2_shipAtPosition_31 rfl (by decide) rfl rfl (zcB (j := 1) rfl (zcat_rf a2) rfl) ?_
          refine s_aload_n (pc := 32) 0 dX2_shipAtPosition_32 rfl rfl ?_
          refine s_iload_n (pc := 33) 1 dX2_shipAtPosition_33 rfl rfl ?_
          refine zS_ite (fun ht => ?_) (fun _ => zS_none)
          refine s_callV (pc := 34) (np := 1) (as := [.int a1]) (rest := []) dX2_shipAtPosition_34 ht (q := (RX6, TX6, 9)) rfl (c_X6_isAt (by decide) r20 a1 h21) rfl rfl q1508 q1509 q1510 rfl (by decide) (zkI (fun x24 h25 => ?_)) zxo
          refine s_if_eq (pc := 37) (tgt := 42) dX2_shipAtPosition_37 (by decide) (fun _ => ?_) (fun _ => ?_)
          · refine s_goto (pc := 42) (tgt := 13) dX2_shipAtPosition_42 (by decide) ?_
            exact s_sub (pc := 13) [1, 2] rfl (ih a1 a2 h25)
          · refine s_aload_n (pc := 40) 0 dX2_shipAtPosition_40 rfl rfl ?_
            exact s_aret (pc := 41) dX2_shipAtPosition_41 rfl (Or.inl ⟨_, rfl⟩)
        refine zS_ite (fun ht => ?_) (fun _ => ?_)
        · refine s_callF (pc := 23) (np := 0) (as := []) (rest := []) dX2_shipAtPosition_23 ht (q := (RJ17, TJ17, 5)) rfl (c_J17_next (by decide) a2 h7) ⟨_, _, _, q799⟩ rfl rfl q670 (by decide +kernel) q797 q795 rfl (by decide) (zkR (fun r20 h21 => ?_)) zxo
          refine s_cast (pc := 28) dX2_shipAtPosition_28 q836 zcs_FloatingDock_Ship ?_
          refine s_ast_n (pc := 31) (L2 := [(1, .int a1), (2, va_rf a2)]) [0, 1] dX2_shipAtPosition_31 rfl (by decide) rfl rfl (zcB (j := 1) rfl (zcat_rf a2) rfl) ?_
          refine s_aload_n (pc := 32) 0 dX2_shipAtPosition_32 rfl rfl ?_
          refine s_iload_n (pc := 33) 1 dX2_shipAtPosition_33 rfl rfl ?_
          refine zS_ite (fun ht => ?_) (fun _ => zS_none)
          refine s_callV (pc := 34) (np := 1) (as := [.int a1]) (rest := []) dX2_shipAtPosition_34 ht (q := (RX6, TX6, 9)) rfl (c_X6_isAt (by decide) r20 a1 h21) rfl rfl q1508 q1509 q1510 rfl (by decide) (zkI (fun x26 h27 => ?_)) zxo
          refine s_if_eq (pc := 37) (tgt := 42) dX2_shipAtPosition_37 (by decide) (fun _ => ?_) (fun _ => ?_)
          · refine s_goto (pc := 42) (tgt := 13) dX2_shipAtPosition_42 (by decide) ?_
            exact s_sub (pc := 13) [1, 2] rfl (ih a1 a2 h27)
          · refine s_aload_n (pc := 40) 0 dX2_shipAtPosition_40 rfl rfl ?_
            exact s_aret (pc := 41) dX2_shipAtPosition_41 rfl (Or.inl ⟨_, rfl⟩)
        refine zS_ite (fun ht => ?_) (fun _ => ?_)
        · refine s_callF (pc := 23) (np := 0) (as := []) (rest := []) dX2_shipAtPosition_23 ht (q := (RJ21, TJ21, 5)) rfl (c_J21_next (by decide) a2 h7) ⟨_, _, _, q812⟩ rfl rfl q670 (by decide +kernel) q810 q808 rfl (by decide) (zkR (fun r20 h21 => ?_)) zxo
          refine s_cast (pc := 28) dX2_shipAtPosition_28 q836 zcs_FloatingDock_Ship ?_
          refine s_ast_n (pc := 31) (L2 := [(1, .int a1), (2, va_rf a2)]) [0, 1] dX2_shipAtPosition_31 rfl (by decide) rfl rfl (zcB (j := 1) rfl (zcat_rf a2) rfl) ?_
          refine s_aload_n (pc := 32) 0 dX2_shipAtPosition_32 rfl rfl ?_
          refine s_iload_n (pc := 33) 1 dX2_shipAtPosition_33 rfl rfl ?_
          refine zS_ite (fun ht => ?_) (fun _ => zS_none)
          refine s_callV (pc := 34) (np := 1) (as := [.int a1]) (rest := []) dX2_shipAtPosition_34 ht (q := (RX6, TX6, 9)) rfl (c_X6_isAt (by decide) r20 a1 h21) rfl rfl q1508 q1509 q1510 rfl (by decide) (zkI (fun x28 h29 => ?_)) zxo
          refine s_if_eq (pc := 37) (tgt := 42) dX2_shipAtPosition_37 (by decide) (fun _ => ?_) (fun _ => ?_)
          · refine s_goto (pc := 42) (tgt := 13) dX2_shipAtPosition_42 (by decide) ?_
            exact s_sub (pc := 13) [1, 2] rfl (ih a1 a2 h29)
          · refine s_aload_n (pc := 40) 0 dX2_shipAtPosition_40 rfl rfl ?_
            exact s_aret (pc := 41) dX2_shipAtPosition_41 rfl (Or.inl ⟨_, rfl⟩)
        refine zS_ite (fun ht => ?_) (fun _ => zS_none)
        refine s_callF (pc := 23) (np := 0) (as := []) (rest := []) dX2_shipAtPosition_23 ht (q := (RJ22, TJ22, 5)) rfl (c_J22_next (by decide) a2 h7) ⟨_, _, _, q832⟩ rfl rfl q670 (by decide +kernel) q830 q828 rfl (by decide) (zkR (fun r20 h21 => ?_)) zxo
        refine s_cast (pc := 28) dX2_shipAtPosition_28 q836 zcs_FloatingDock_Ship ?_
        refine s_ast_n (pc := 31) (L2 := [(1, .int a1), (2, va_rf a2)]) [0, 1] dX2_shipAtPosition_31 rfl (by decide) rfl rfl (zcB (j := 1) rfl (zcat_rf a2) rfl) ?_
        refine s_aload_n (pc := 32) 0 dX2_shipAtPosition_32 rfl rfl ?_
        refine s_iload_n (pc := 33) 1 dX2_shipAtPosition_33 rfl rfl ?_
        refine zS_ite (fun ht => ?_) (fun _ => zS_none)
        refine s_callV (pc := 34) (np := 1) (as := [.int a1]) (rest := []) dX2_shipAtPosition_34 ht (q := (RX6, TX6, 9)) rfl (c_X6_isAt (by decide) r20 a1 h21) rfl rfl q1508 q1509 q1510 rfl (by decide) (zkI (fun x30 h31 => ?_)) zxo
        refine s_if_eq (pc := 37) (tgt := 42) dX2_shipAtPosition_37 (by decide) (fun _ => ?_) (fun _ => ?_)
        · refine s_goto (pc := 42) (tgt := 13) dX2_shipAtPosition_42 (by decide) ?_
          exact s_sub (pc := 13) [1, 2] rfl (ih a1 a2 h31)
        · refine s_aload_n (pc := 40) 0 dX2_shipAtPosition_40 rfl rfl ?_
          exact s_aret (pc := 41) dX2_shipAtPosition_41 rfl (Or.inl ⟨_, rfl⟩)
    refine zS_ite (fun ht => ?_) (fun _ => ?_)
    · refine s_callF (pc := 14) (np := 0) (as := []) (rest := []) dX2_shipAtPosition_14 ht (q := (RJ17, TJ17, 5)) rfl (c_J16_hasNext (by decide) a2 h) ⟨_, _, _, q659⟩ rfl rfl q629 (by decide +kernel) q657 q655 rfl (by decide) (zkI (fun x6 h7 => ?_)) zxo
      refine s_if_eq (pc := 19) (tgt := 45) dX2_shipAtPosition_19 (by decide) (fun _ => ?_) (fun _ => ?_)
      · refine s_null (pc := 45) dX2_shipAtPosition_45 ?_
        exact s_aret (pc := 46) dX2_shipAtPosition_46 rfl (Or.inl ⟨_, rfl⟩)
      · refine s_aload_n (pc := 22) 1 dX2_shipAtPosition_22 rfl rfl ?_
        refine zS_ite (fun ht => ?_) (fun _ => ?_)
        · refine s_callF (pc := 23) (np := 0) (as := []) (rest := []) dX2_shipAtPosition_23 ht (q := (RX9, TX9, 2)) rfl (c_X9_next (by decide) a2 h7) ⟨_, _, _, q677⟩ rfl rfl q670 (by decide +kernel) q675 q673 rfl (by decide) (zkR (fun r32 h33 => ?_)) zxo
          refine s_cast (pc := 28) dX2_shipAtPosition_28 q836 zcs_FloatingDock_Ship ?_
          refine s_ast_n (pc := 31) (L2 := [(1, .int a1), (2, va_rf a2)]) [0, 1] dX2_shipAtPosition_31 rfl (by decide) rfl rfl (zcB (j := 1) rfl (zcat_rf a2) rfl) ?_
          refine s_aload_n (pc := 32) 0 dX2_shipAtPosition_32 rfl rfl ?_
          refine s_iload_n (pc := 33) 1 dX2_shipAtPosition_33 rfl rfl ?_
          refine zS_ite (fun ht => ?_) (fun _ => zS_none)
          refine s_callV (pc := 34) (np := 1) (as := [.int a1]) (rest := []) dX2_shipAtPosition_34 ht (q := (RX6, TX6, 9)) rfl (c_X6_isAt (by decide) r32 a1 h33) rfl rfl q1508 q1509 q1510 rfl (by decide) (zkI (fun x34 h35 => ?_)) zxo
          refine s_if_eq (pc := 37) (tgt := 42) dX2_shipAtPosition_37 (by decide) (fun _ => ?_) (fun _ => ?_)
          · refine s_goto (pc := 42) (tgt := 13) dX2_shipAtPosition_42 (by decide) ?_
            exact s_sub (pc := 13) [1, 2] rfl (ih a1 a2 h35)
          · refine s_aload_n (pc := 40) 0 dX2_shipAtPosition_40 rfl rfl ?_
            exact s_aret (pc := 41) dX2_shipAtPosition_41 rfl (Or.inl ⟨_, rfl⟩)
        refine zS_ite (fun ht => ?_) (fun _ => ?_)
        · refine s_callF (pc := 23) (np := 0) (as := []) (rest := []) dX2_shipAtPosition_23 ht (q := (RJ15, TJ15, 4)) rfl (c_J15_next (by decide) a2 h7) ⟨_, _, _, q788⟩ rfl rfl q670 (by decide +kernel) q786 q784 rfl (by decide) (zkR (fun r32 h33 => ?_)) zxo
          refine s_cast (pc := 28) dX2_shipAtPosition_28 q836 zcs_FloatingDock_Ship ?_
          refine s_ast_n (pc := 31) (L2 := [(1, .int a1), (2, va_rf a2)]) [0, 1] dX2_shipAtPosition_31 rfl (by decide) rfl rfl (zcB (j := 1) rfl (zcat_rf a2) rfl) ?_
          refine s_aload_n (pc := 32) 0 dX2_shipAtPosition_32 rfl rfl ?_
          refine s_iload_n (pc := 33) 1 dX2_shipAtPosition_33 rfl rfl ?_
          refine zS_ite (fun ht => ?_) (fun _ => zS_none)
          refine s_callV (pc := 34) (np := 1) (as := [.int a1]) (rest := []) dX2_shipAtPosition_34 ht (q := (RX6, TX6, 9)) rfl (c_X6_isAt (by decide) r32 a1 h33) rfl rfl q1508 q1509 q1510 rfl (by decide) (zkI (fun x36 h37 => ?_)) zxo
          refine s_if_eq (pc := 37) (tgt := 42) dX2_shipAtPosition_37 (by decide) (fun _ => ?_) (fun _ => ?_)
          · refine s_goto (pc := 42) (tgt := 13) dX2_shipAtPosition_42 (by decide) ?_
            exact s_sub (pc := 13) [1, 2] rfl (ih a1 a2 h37)
          · refine s_aload_n (pc := 40) 0 dX2_shipAtPosition_40 rfl rfl ?_
            exact s_aret (pc := 41) dX2_shipAtPosition_41 rfl (Or.inl ⟨_, rfl⟩)
        refine zS_ite (fun ht => ?_) (fun _ => ?_)
        · refine s_callF (pc := 23) (np := 0) (as := []) (rest := []) dX2_shipAtPosition_23 ht (q := (RJ17, TJ17, 5)) rfl (c_J17_next (by decide) a2 h7) ⟨_, _, _, q799⟩ rfl rfl q670 (by decide +kernel) q797 q795 rfl (by decide) (zkR (fun r32 h33 => ?_)) zxo
          refine s_cast (pc := 28) dX2_shipAtPosition_28 q836 zcs_FloatingDock_Ship ?_
          refine s_ast_n (pc := 31) (L2 := [(1, .int a1), (2, va_rf a2)]) [0, 1] dX2_shipAtPosition_31 rfl (by decide) rfl rfl (zcB (j := 1) rfl (zcat_rf a2) rfl) ?_
          refine s_aload_n (pc := 32) 0 dX2_shipAtPosition_32 rfl rfl ?_
          refine s_iload_n (pc := 33) 1 dX2_shipAtPosition_33 rfl rfl ?_
          refine zS_ite (fun ht => ?_) (fun _ => zS_none)
          refine s_callV (pc := 34) (np := 1) (as := [.int a1]) (rest := []) dX2_shipAtPosition_34 ht (q := (RX6, TX6, 9)) rfl (c_X6_isAt (by decide) r32 a1 h33) rfl rfl q1508 q1509 q1510 rfl (by decide) (zkI (fun x38 h39 => ?_)) zxo
          refine s_if_eq (pc := 37) (tgt := 42) dX2_shipAtPosition_37 (by decide) (fun _ => ?_) (fun _ => ?_)
          · refine s_goto (pc := 42) (tgt := 13) dX2_shipAtPosition_42 (by decide) ?_
            exact s_sub (pc := 13) [1, 2] rfl (ih a1 a2 h39)
          · refine s_aload_n (pc := 40) 0 dX2_shipAtPosition_40 rfl rfl ?_
            exact s_aret (pc := 41) dX2_shipAtPosition_41 rfl (Or.inl ⟨_, rfl⟩)
        refine zS_ite (fun ht => ?_) (fun _ => ?_)
        · refine s_callF (pc := 23) (np := 0) (as := []) (rest := []) dX2_shipAtPosition_23 ht (q := (RJ21, TJ21, 5)) rfl (c_J21_next (by decide) a2 h7) ⟨_, _, _, q812⟩ rfl rfl q670 (by decide +kernel) q810 q808 rfl (by decide) (zkR (fun r32 h33 => ?_)) zxo
          refine s_cast (pc := 28) dX2_shipAtPosition_28 q836 zcs_FloatingDock_Ship ?_
          refine s_ast_n (pc := 31) (L2 := [(1, .int a1), (2, va_rf a2)]) [0, 1] dX2_shipAtPosition_31 rfl (by decide) rfl rfl (zcB (j := 1) rfl (zcat_rf a2) rfl) ?_
          refine s_aload_n (pc := 32) 0 dX2_shipAtPosition_32 rfl rfl ?_
          refine s_iload_n (pc := 33) 1 dX2_shipAtPosition_33 rfl rfl ?_
          refine zS_ite (fun ht => ?_) (fun _ => zS_none)
          refine s_callV (pc := 34) (np := 1) (as := [.int a1]) (rest := []) dX2_shipAtPosition_34 ht (q := (RX6, TX6, 9)) rfl (c_X6_isAt (by decide) r32 a1 h33) rfl rfl q1508 q1509 q1510 rfl (by decide) (zkI (fun x40 h41 => ?_)) zxo
          refine s_if_eq (pc := 37) (tgt := 42) dX2_shipAtPosition_37 (by decide) (fun _ => ?_) (fun _ => ?_)
          · refine s_goto (pc := 42) (tgt := 13) dX2_shipAtPosition_42 (by decide) ?_
            exact s_sub (pc := 13) [1, 2] rfl (ih a1 a2 h41)
          · refine s_aload_n (pc := 40) 0 dX2_shipAtPosition_40 rfl rfl ?_
            exact s_aret (pc := 41) dX2_shipAtPosition_41 rfl (Or.inl ⟨_, rfl⟩)
        refine zS_ite (fun ht => ?_) (fun _ => zS_none)
        refine s_callF (pc := 23) (np := 0) (as := []) (rest := []) dX2_shipAtPosition_23 ht (q := (RJ22, TJ22, 5)) rfl (c_J22_next (by decide) a2 h7) ⟨_, _, _, q832⟩ rfl rfl q670 (by decide +kernel) q830 q828 rfl (by decide) (zkR (fun r32 h33 => ?_)) zxo
        refine s_cast (pc := 28) dX2_shipAtPosition_28 q836 zcs_FloatingDock_Ship ?_
        refine s_ast_n (pc := 31) (L2 := [(1, .int a1), (2, va_rf a2)]) [0, 1] dX2_shipAtPosition_31 rfl (by decide) rfl rfl (zcB (j := 1) rfl (zcat_rf a2) rfl) ?_
        refine s_aload_n (pc := 32) 0 dX2_shipAtPosition_32 rfl rfl ?_
        refine s_iload_n (pc := 33) 1 dX2_shipAtPosition_33 rfl rfl ?_
        refine zS_ite (fun ht => ?_) (fun _ => zS_none)
        refine s_callV (pc := 34) (np := 1) (as := [.int a1]) (rest := []) dX2_shipAtPosition_34 ht (q := (RX6, TX6, 9)) rfl (c_X6_isAt (by decide) r32 a1 h33) rfl rfl q1508 q1509 q1510 rfl (by decide) (zkI (fun x42 h43 => ?_)) zxo
        refine s_if_eq (pc := 37) (tgt := 42) dX2_shipAtPosition_37 (by decide) (fun _ => ?_) (fun _ => ?_)
        · refine s_goto (pc := 42) (tgt := 13) dX2_shipAtPosition_42 (by decide) ?_
          exact s_sub (pc := 13) [1, 2] rfl (ih a1 a2 h43)
        · refine s_aload_n (pc := 40) 0 dX2_shipAtPosition_40 rfl rfl ?_
          exact s_aret (pc := 41) dX2_shipAtPosition_41 rfl (Or.inl ⟨_, rfl⟩)
    refine zS_ite (fun ht => ?_) (fun _ => ?_)
    · refine s_callF (pc := 14) (np := 0) (as := []) (rest := []) dX2_shipAtPosition_14 ht (q := (RJ21, TJ21, 5)) rfl (c_J20_hasNext (by decide) a2 h) ⟨_, _, _, q665⟩ rfl rfl q629 (by decide +kernel) q663 q661 rfl (by decide) (zkI (fun x6 h7 => ?_)) zxo
      refine s_if_eq (pc := 19) (tgt := 45) dX2_shipAtPosition_19 (by decide) (fun _ => ?_) (fun _ => ?_)
      · refine s_null (pc := 45) dX2_shipAtPosition_45 ?_
        exact s_aret (pc := 46) dX2_shipAtPosition_46 rfl (Or.inl ⟨_, rfl⟩)
      · refine s_aload_n (pc := 22) 1 dX2_shipAtPosition_22 rfl rfl ?_
        refine zS_ite (fun ht => ?_) (fun _ => ?_)
        · refine s_callF (pc := 23) (np := 0) (as := []) (rest := []) dX2_shipAtPosition_23 ht (q := (RX9, TX9, 2)) rfl (c_X9_next (by decide) a2 h7) ⟨_, _, _, q677⟩ rfl rfl q670 (by decide +kernel) q675 q673 rfl (by decide) (zkR (fun r44 h45 => ?_)) zxo
          refine s_cast (pc := 28) dX2_shipAtPosition_28 q836 zcs_FloatingDock_Ship ?_
          refine s_ast_n (pc := 31) (L2 := [(1, .int a1), (2, va_rf a2)]) [0, 1] dX2_shipAtPosition_31 rfl (by decide) rfl rfl (zcB (j := 1) rfl (zcat_rf a2) rfl) ?_
          refine s_aload_n (pc := 32) 0 dX2_shipAtPosition_32 rfl rfl ?_
          refine s_iload_n (pc := 33) 1 dX2_shipAtPosition_33 rfl rfl ?_
          refine zS_ite (fun ht => ?_) (fun _ => zS_none)
          refine s_callV (pc := 34) (np := 1) (as := [.int a1]) (rest := []) dX2_shipAtPosition_34 ht (q := (RX6, TX6, 9)) rfl (c_X6_isAt (by decide) r44 a1 h45) rfl rfl q1508 q1509 q1510 rfl (by decide) (zkI (fun x46 h47 => ?_)) zxo
          refine s_if_eq (pc := 37) (tgt := 42) dX2_shipAtPosition_37 (by decide) (fun _ => ?_) (fun _ => ?_)
          · refine s_goto (pc := 42) (tgt := 13) dX2_shipAtPosition_42 (by decide) ?_
            exact s_sub (pc := 13) [1, 2] rfl (ih a1 a2 h47)
          · refine s_aload_n (pc := 40) 0 dX2_shipAtPosition_40 rfl rfl ?_
            exact s_aret (pc := 41) dX2_shipAtPosition_41 rfl (Or.inl ⟨_, rfl⟩)
        refine zS_ite (fun ht => ?_) (fun _ => ?_)
        · refine s_callF (pc := 23) (np := 0) (as := []) (rest := []) dX2_shipAtPosition_23 ht (q := (RJ15, TJ15, 4)) rfl (c_J15_next (by decide) a2 h7) ⟨_, _, _, q788⟩ rfl rfl q670 (by decide +kernel) q786 q784 rfl (by decide) (zkR (fun r44 h45 => ?_)) zxo
          refine s_cast (pc := 28) dX2_shipAtPosition_28 q836 zcs_FloatingDock_Ship ?_
          refine s_ast_n (pc := 31) (L2 := [(1, .int a1), (2, va_rf a2)]) [0, 1] dX2_shipAtPosition_31 rfl (by decide) rfl rfl (zcB (j := 1) rfl (zcat_rf a2) rfl) ?_
          refine s_aload_n (pc := 32) 0 dX2_shipAtPosition_32 rfl rfl ?_
          refine s_iload_n (pc := 33) 1 dX2_shipAtPosition_33 rfl rfl ?_
          refine zS_ite (fun ht => ?_) (fun _ => zS_none)
          refine s_callV (pc := 34) (np := 1) (as := [.int a1]) (rest := []) dX2_shipAtPosition_34 ht (q := (RX6, TX6, 9)) rfl (c_X6_isAt (by decide) r44 a1 h45) rfl rfl q1508 q1509 q1510 rfl (by decide) (zkI (fun x48 h49 => ?_)) zxo
          refine s_if_eq (pc := 37) (tgt := 42) dX2_shipAtPosition_37 (by decide) (fun _ => ?_) (fun _ => ?_)
          · refine s_goto (pc := 42) (tgt := 13) dX2_shipAtPosition_42 (by decide) ?_
            exact s_sub (pc := 13) [1, 2] rfl (ih a1 a2 h49)
          · refine s_aload_n (pc := 40) 0 dX2_shipAtPosition_40 rfl rfl ?_
            exact s_aret (pc := 41) dX2_shipAtPosition_41 rfl (Or.inl ⟨_, rfl⟩)
        refine zS_ite (fun ht => ?_) (fun _ => ?_)
        · refine s_callF (pc := 23) (np := 0) (as := []) (rest := []) dX2_shipAtPosition_23 ht (q := (RJ17, TJ17, 5)) rfl (c_J17_next (by decide) a2 h7) ⟨_, _, _, q799⟩ rfl rfl q670 (by decide +kernel) q797 q795 rfl (by decide) (zkR (fun r44 h45 => ?_)) zxo
          refine s_cast (pc := 28) dX2_shipAtPosition_28 q836 zcs_FloatingDock_Ship ?_
          refine s_ast_n (pc := 31) (L2 := [(1, .int a1), (2, va_rf a2)]) [0, 1] dX2_shipAtPosition_31 rfl (by decide) rfl rfl (zcB (j := 1) rfl (zcat_rf a2) rfl) ?_
          refine s_aload_n (pc := 32) 0 dX2_shipAtPosition_32 rfl rfl ?_
          refine s_iload_n (pc := 33) 1 dX2_shipAtPosition_33 rfl rfl ?_
          refine zS_ite (fun ht => ?_) (fun _ => zS_none)
          refine s_callV (pc := 34) (np := 1) (as := [.int a1]) (rest := []) dX2_shipAtPosition_34 ht (q := (RX6, TX6, 9)) rfl (c_X6_isAt (by decide) r44 a1 h45) rfl rfl q1508 q1509 q1510 rfl (by decide) (zkI (fun x50 h51 => ?_)) zxo
          refine s_if_eq (pc := 37) (tgt := 42) dX2_shipAtPosition_37 (by decide) (fun _ => ?_) (fun _ => ?_)
          · refine s_goto (pc := 42) (tgt := 13) dX2_shipAtPosition_42 (by decide) ?_
            exact s_sub (pc := 13) [1, 2] rfl (ih a1 a2 h51)
          · refine s_aload_n (pc := 40) 0 dX2_shipAtPosition_40 rfl rfl ?_
            exact s_aret (pc := 41) dX2_shipAtPosition_41 rfl (Or.inl ⟨_, rfl⟩)
        refine zS_ite (fun ht => ?_) (fun _ => ?_)
        · refine s_callF (pc := 23) (np := 0) (as := []) (rest := []) dX2_shipAtPosition_23 ht (q := (RJ21, TJ21, 5)) rfl (c_J21_next (by decide) a2 h7) ⟨_, _, _, q812⟩ rfl rfl q670 (by decide +kernel) q810 q808 rfl (by decide) (zkR (fun r44 h45 => ?_)) zxo
          refine s_cast (pc := 28) dX2_shipAtPosition_28 q836 zcs_FloatingDock_Ship ?_
          refine s_ast_n (pc := 31) (L2 := [(1, .int a1), (2, va_rf a2)]) [0, 1] dX2_shipAtPosition_31 rfl (by decide) rfl rfl (zcB (j := 1) rfl (zcat_rf a2) rfl) ?_
          refine s_aload_n (pc := 32) 0 dX2_shipAtPosition_32 rfl rfl ?_
          refine s_iload_n (pc := 33) 1 dX2_shipAtPosition_33 rfl rfl ?_
          refine zS_ite (fun ht => ?_) (fun _ => zS_none)
          refine s_callV (pc := 34) (np := 1) (as := [.int a1]) (rest := []) dX2_shipAtPosition_34 ht (q := (RX6, TX6, 9)) rfl (c_X6_isAt (by decide) r44 a1 h45) rfl rfl q1508 q1509 q1510 rfl (by decide) (zkI (fun x52 h53 => ?_)) zxo
          refine s_if_eq (pc := 37) (tgt := 42) dX2_shipAtPosition_37 (by decide) (fun _ => ?_) (fun _ => ?_)
          · refine s_goto (pc := 42) (tgt := 13) dX2_shipAtPosition_42 (by decide) ?_
            exact s_sub (pc := 13) [1, 2] rfl (ih a1 a2 h53)
          · refine s_aload_n (pc := 40) 0 dX2_shipAtPosition_40 rfl rfl ?_
            exact s_aret (pc := 41) dX2_shipAtPosition_41 rfl (Or.inl ⟨_, rfl⟩)
        refine zS_ite (fun ht => ?_) (fun _ => zS_none)
        refine s_callF (pc := 23) (np := 0) (as := []) (rest := []) dX2_shipAtPosition_23 ht (q := (RJ22, TJ22, 5)) rfl (c_J22_next (by decide) a2 h7) ⟨_, _, _, q832⟩ rfl rfl q670 (by decide +kernel) q830 q828 rfl (by decide) (zkR (fun r44 h45 => ?_)) zxo
        refine s_cast (pc := 28) dX2_shipAtPosition_28 q836 zcs_FloatingDock_Ship ?_
        refine s_ast_n (pc := 31) (L2 := [(1, .int a1), (2, va_rf a2)]) [0, 1] dX2_shipAtPosition_31 rfl (by decide) rfl rfl (zcB (j := 1) rfl (zcat_rf a2) rfl) ?_
        refine s_aload_n (pc := 32) 0 dX2_shipAtPosition_32 rfl rfl ?_
        refine s_iload_n (pc := 33) 1 dX2_shipAtPosition_33 rfl rfl ?_
        refine zS_ite (fun ht => ?_) (fun _ => zS_none)
        refine s_callV (pc := 34) (np := 1) (as := [.int a1]) (rest := []) dX2_shipAtPosition_34 ht (q := (RX6, TX6, 9)) rfl (c_X6_isAt (by decide) r44 a1 h45) rfl rfl q1508 q1509 q1510 rfl (by decide) (zkI (fun x54 h55 => ?_)) zxo
        refine s_if_eq (pc := 37) (tgt := 42) dX2_shipAtPosition_37 (by decide) (fun _ => ?_) (fun _ => ?_)
        · refine s_goto (pc := 42) (tgt := 13) dX2_shipAtPosition_42 (by decide) ?_
          exact s_sub (pc := 13) [1, 2] rfl (ih a1 a2 h55)
        · refine s_aload_n (pc := 40) 0 dX2_shipAtPosition_40 rfl rfl ?_
          exact s_aret (pc := 41) dX2_shipAtPosition_41 rfl (Or.inl ⟨_, rfl⟩)
    refine zS_ite (fun ht => ?_) (fun _ => zS_none)
    refine s_callF (pc := 14) (np := 0) (as := []) (rest := []) dX2_shipAtPosition_14 ht (q := (RJ22, TJ22, 5)) rfl (c_J20_hasNext (by decide) a2 h) ⟨_, _, _, q665⟩ rfl rfl q629 (by decide +kernel) q663 q667 rfl (by decide) (zkI (fun x6 h7 => ?_)) zxo
    refine s_if_eq (pc := 19) (tgt := 45) dX2_shipAtPosition_19 (by decide) (fun _ => ?_) (fun _ => ?_)
    · refine s_null (pc := 45) dX2_shipAtPosition_45 ?_
      exact s_aret (pc := 46) dX2_shipAtPosition_46 rfl (Or.inl ⟨_, rfl⟩)
    · refine s_aload_n (pc := 22) 1 dX2_shipAtPosition_22 rfl rfl ?_
      refine zS_ite (fun ht => ?_) (fun _ => ?_)
      · refine s_callF (pc := 23) (np := 0) (as := []) (rest := []) dX2_shipAtPosition_23 ht (q := (RX9, TX9, 2)) rfl (c_X9_next (by decide) a2 h7) ⟨_, _, _, q677⟩ rfl rfl q670 (by decide +kernel) q675 q673 rfl (by decide) (zkR (fun r56 h57 => ?_)) zxo
        refine s_cast (pc := 28) dX2_shipAtPosition_28 q836 zcs_FloatingDock_Ship ?_
        refine s_ast_n (pc := 31) (L2 := [(1, .int a1), (2, va_rf a2)]) [0, 1] dX2_shipAtPosition_31 rfl (by decide) rfl rfl (zcB (j := 1) rfl (zcat_rf a2) rfl) ?_
        refine s_aload_n (pc := 32) 0 dX2_shipAtPosition_32 rfl rfl ?_
        refine s_iload_n (pc := 33) 1 dX2_shipAtPosition_33 rfl rfl ?_
        refine zS_ite (fun ht => ?_) (fun _ => zS_none)
        refine s_callV (pc := 34) (np := 1) (as := [.int a1]) (rest := []) dX2_shipAtPosition_34 ht (q := (RX6, TX6, 9)) rfl (c_X6_isAt (by decide) r56 a1 h57) rfl rfl q1508 q1509 q1510 rfl (by decide) (zkI (fun x58 h59 => ?_)) zxo
        refine s_if_eq (pc := 37) (tgt := 42) dX2_shipAtPosition_37 (by decide) (fun _ => ?_) (fun _ => ?_)
        · refine s_goto (pc := 42) (tgt := 13) dX2_shipAtPosition_42 (by decide) ?_
          exact s_sub (pc := 13) [1, 2] rfl (ih a1 a2 h59)
        · refine s_aload_n (pc := 40) 0 dX2_shipAtPosition_40 rfl rfl ?_
          exact s_aret (pc := 41) dX2_shipAtPosition_41 rfl (Or.inl ⟨_, rfl⟩)
      refine zS_ite (fun ht => ?_) (fun _ => ?_)
      · refine s_callF (pc := 23) (np := 0) (as := []) (rest := []) dX2_shipAtPosition_23 ht (q := (RJ15, TJ15, 4)) rfl (c_J15_next (by decide) a2 h7) ⟨_, _, _, q788⟩ rfl rfl q670 (by decide +kernel) q786 q784 rfl (by decide) (zkR (fun r56 h57 => ?_)) zxo
        refine s_cast (pc := 28) dX2_shipAtPosition_28 q836 zcs_FloatingDock_Ship ?_
        refine s_ast_n (pc := 31) (L2 := [(1, .int a1), (2, va_rf a2)]) [0, 1] dX2_shipAtPosition_31 rfl (by decide) rfl rfl (zcB (j := 1) rfl (zcat_rf a2) rfl) ?_
        refine s_aload_n (pc := 32) 0 dX2_shipAtPosition_32 rfl rfl ?_
        refine s_iload_n (pc := 33) 1 dX2_shipAtPosition_33 rfl rfl ?_
        refine zS_ite (fun ht => ?_) (fun _ => zS_none)
        refine s_callV (pc := 34) (np := 1) (as := [.int a1]) (rest := []) dX2_shipAtPosition_34 ht (q := (RX6, TX6, 9)) rfl (c_X6_isAt (by decide) r56 a1 h57) rfl rfl q1508 q1509 q1510 rfl (by decide) (zkI (fun x60 h61 => ?_)) zxo
        refine s_if_eq (pc := 37) (tgt := 42) dX2_shipAtPosition_37 (by decide) (fun _ => ?_) (fun _ => ?_)
        · refine s_goto (pc := 42) (tgt := 13) dX2_shipAtPosition_42 (by decide) ?_
          exact s_sub (pc := 13) [1, 2] rfl (ih a1 a2 h61)
        · refine s_aload_n (pc := 40) 0 dX2_shipAtPosition_40 rfl rfl ?_
          exact s_aret (pc := 41) dX2_shipAtPosition_41 rfl (Or.inl ⟨_, rfl⟩)
      refine zS_ite (fun ht => ?_) (fun _ => ?_)
      · refine s_callF (pc := 23) (np := 0) (as := []) (rest := []) dX2_shipAtPosition_23 ht (q := (RJ17, TJ17, 5)) rfl (c_J17_next (by decide) a2 h7) ⟨_, _, _, q799⟩ rfl rfl q670 (by decide +kernel) q797 q795 rfl (by decide) (zkR (fun r56 h57 => ?_)) zxo
        refine s_cast (pc := 28) dX2_shipAtPosition_28 q836 zcs_FloatingDock_Ship ?_
        refine s_ast_n (pc := 31) (L2 := [(1, .int a1), (2, va_rf a2)]) [0, 1] dX2_shipAtPosition_31 rfl (by decide) rfl rfl (zcB (j := 1) rfl (zcat_rf a2) rfl) ?_
        refine s_aload_n (pc := 32) 0 dX2_shipAtPosition_32 rfl rfl ?_
        refine s_iload_n (pc := 33) 1 dX2_shipAtPosition_33 rfl rfl ?_
        refine zS_ite (fun ht => ?_) (fun _ => zS_none)
        refine s_callV (pc := 34) (np := 1) (as := [.int a1]) (rest := []) dX2_shipAtPosition_34 ht (q := (RX6, TX6, 9)) rfl (c_X6_isAt (by decide) r56 a1 h57) rfl rfl q1508 q1509 q1510 rfl (by decide) (zkI (fun x62 h63 => ?_)) zxo
        refine s_if_eq (pc := 37) (tgt := 42) dX2_shipAtPosition_37 (by decide) (fun _ => ?_) (fun _ => ?_)
        · refine s_goto (pc := 42) (tgt := 13) dX2_shipAtPosition_42 (by decide) ?_
          exact s_sub (pc := 13) [1, 2] rfl (ih a1 a2 h63)
        · refine s_aload_n (pc := 40) 0 dX2_shipAtPosition_40 rfl rfl ?_
          exact s_aret (pc := 41) dX2_shipAtPosition_41 rfl (Or.inl ⟨_, rfl⟩)
      refine zS_ite (fun ht => ?_) (fun _ => ?_)
      · refine s_callF (pc := 23) (np := 0) (as := []) (rest := []) dX2_shipAtPosition_23 ht (q := (RJ21, TJ21, 5)) rfl (c_J21_next (by decide) a2 h7) ⟨_, _, _, q812⟩ rfl rfl q670 (by decide +kernel) q810 q808 rfl (by decide) (zkR (fun r56 h57 => ?_)) zxo
        refine s_cast (pc := 28) dX2_shipAtPosition_28 q836 zcs_FloatingDock_Ship ?_
        refine s_ast_n (pc := 31) (L2 := [(1, .int a1), (2, va_rf a2)]) [0, 1] dX2_shipAtPosition_31 rfl (by decide) rfl rfl (zcB (j := 1) rfl (zcat_rf a2) rfl) ?_
        refine s_aload_n (pc := 32) 0 dX2_shipAtPosition_32 rfl rfl ?_
        refine s_iload_n (pc := 33) 1 dX2_shipAtPosition_33 rfl rfl ?_
        refine zS_ite (fun ht => ?_) (fun _ => zS_none)
        refine s_callV (pc := 34) (np := 1) (as := [.int a1]) (rest := []) dX2_shipAtPosition_34 ht (q := (RX6, TX6, 9)) rfl (c_X6_isAt (by decide) r56 a1 h57) rfl rfl q1508 q1509 q1510 rfl (by decide) (zkI (fun x64 h65 => ?_)) zxo
        refine s_if_eq (pc := 37) (tgt := 42) dX2_shipAtPosition_37 (by decide) (fun _ => ?_) (fun _ => ?_)
        · refine s_goto (pc := 42) (tgt := 13) dX2_shipAtPosition_42 (by decide) ?_
          exact s_sub (pc := 13) [1, 2] rfl (ih a1 a2 h65)
        · refine s_aload_n (pc := 40) 0 dX2_shipAtPosition_40 rfl rfl ?_
          exact s_aret (pc := 41) dX2_shipAtPosition_41 rfl (Or.inl ⟨_, rfl⟩)
      refine zS_ite (fun ht => ?_) (fun _ => zS_none)
      refine s_callF (pc := 23) (np := 0) (as := []) (rest := []) dX2_shipAtPosition_23 ht (q := (RJ22, TJ22, 5)) rfl (c_J22_next (by decide) a2 h7) ⟨_, _, _, q832⟩ rfl rfl q670 (by decide +kernel) q830 q828 rfl (by decide) (zkR (fun r56 h57 => ?_)) zxo
      refine s_cast (pc := 28) dX2_shipAtPosition_28 q836 zcs_FloatingDock_Ship ?_
      refine s_ast_n (pc := 31) (L2 := [(1, .int a1), (2, va_rf a2)]) [0, 1] dX2_shipAtPosition_31 rfl (by decide) rfl rfl (zcB (j := 1) rfl (zcat_rf a2) rfl) ?_
      refine s_aload_n (pc := 32) 0 dX2_shipAtPosition_32 rfl rfl ?_
      refine s_iload_n (pc := 33) 1 dX2_shipAtPosition_33 rfl rfl ?_
      refine zS_ite (fun ht => ?_) (fun _ => zS_none)
      refine s_callV (pc := 34) (np := 1) (as := [.int a1]) (rest := []) dX2_shipAtPosition_34 ht (q := (RX6, TX6, 9)) rfl (c_X6_isAt (by decide) r56 a1 h57) rfl rfl q1508 q1509 q1510 rfl (by decide) (zkI (fun x66 h67 => ?_)) zxo
      refine s_if_eq (pc := 37) (tgt := 42) dX2_shipAtPosition_37 (by decide) (fun _ => ?_) (fun _ => ?_)
      · refine s_goto (pc := 42) (tgt := 13) dX2_shipAtPosition_42 (by decide) ?_
        exact s_sub (pc := 13) [1, 2] rfl (ih a1 a2 h67)
      · refine s_aload_n (pc := 40) 0 dX2_shipAtPosition_40 rfl rfl ?_
        exact s_aret (pc := 41) dX2_shipAtPosition_41 rfl (Or.inl ⟨_, rfl⟩)
theorem w_X2_shipAtPosition (v0 : Option Nat) (v1 : Int32) (h : zH) : zS D z yX2_shipAtPosition cX2_shipAtPosition 4 (some (.object "FloatingDock$Ship")) [] 10 h 0 [(0, va_rf v0), (1, .int v1)] [] (f_X2_shipAtPosition v0 v1 h) := by
  unfold f_X2_shipAtPosition
  refine s_aload_n (pc := 0) 0 dX2_shipAtPosition_0 rfl rfl ?_
  refine s_gR (pc := 1) dX2_shipAtPosition_1 gf_X2_12 (fun r1 => ?_)
  refine zS_ite (fun ht => ?_) (fun _ => zS_none)
  refine s_callV (pc := 4) (np := 0) (as := []) (rest := []) dX2_shipAtPosition_4 ht (q := (RJ2, TJ2, 12)) rfl (c_J2_values (by decide) r1 h) rfl rfl q413 q414 q415 rfl (by decide) (zkR (fun r2 h3 => ?_)) zxo
  refine zS_ite (fun ht => ?_) (fun _ => zS_none)
  refine s_callF (pc := 7) (np := 0) (as := []) (rest := []) dX2_shipAtPosition_7 ht (q := (RJ13, TJ13, 2)) rfl (c_J13_iterator (by decide) r2 h3) ⟨_, _, _, q615⟩ rfl rfl q436 (by decide +kernel) q613 q611 rfl (by decide) (zkR (fun r4 h5 => ?_)) zxo
  refine s_ast_n (pc := 12) (L2 := [(1, .int v1)]) [1] dX2_shipAtPosition_12 rfl (by decide) rfl rfl (zcB (j := 0) rfl rfl rfl) ?_
  exact s_sub (pc := 13) [1, 0] rfl (w_X2_shipAtPosition_13 zfuel v1 r4 h5)
theorem c_X2_shipAtPosition {d0 : Nat} (hd0 : 10 < d0) (v0 : Option Nat) (v1 : Int32) (h : zH) : zCal D z d0 h yX2_shipAtPosition [va_rf v0, .int v1] (f_X2_shipAtPosition v0 v1 h) :=
  ⟨cX2_shipAtPosition, 4, (some (.object "FloatingDock$Ship")), [], 10, (show lv_args 0 [va_rf v0, .int v1] = [(0, va_rf v0), (1, .int v1)] by simp [lv_args, zcat_rf, zcat_i, zcat_l, zcat_f, zcat_d]) ▸ w_X2_shipAtPosition v0 v1 h, (plainFor_of_name (by decide)), by simp [lg_sl, zcat_rf, zcat_i, zcat_l, zcat_f, zcat_d], q1507, q96, hd0, by decide, by decide⟩
theorem w_X2_isWorkable (v0 : Option Nat) (v1 : Int32) (h : zH) : zS D z yX2_isWorkable cX2_isWorkable 2 (some .boolean) [] 11 h 0 [(0, va_rf v0), (1, .int v1)] [] (f_X2_isWorkable v0 v1 h) := by
  unfold f_X2_isWorkable
  refine s_aload_n (pc := 0) 0 dX2_isWorkable_0 rfl rfl ?_
  refine s_gI (pc := 1) dX2_isWorkable_1 gf_X2_25 (fun x1 => ?_)
  refine s_bipush (pc := 4) (v := 30) dX2_isWorkable_4 (by decide) ?_
  refine s_icmp_gt (pc := 6) (tgt := 21) dX2_isWorkable_6 (by decide) (fun _ => ?_) (fun _ => ?_)
  · refine s_iconst (pc := 21) (v := 0) dX2_isWorkable_21 (by decide) ?_
    exact s_nret (pc := 22) dX2_isWorkable_22 rfl
  · refine s_aload_n (pc := 9) 0 dX2_isWorkable_9 rfl rfl ?_
    refine s_iload_n (pc := 10) 1 dX2_isWorkable_10 rfl rfl ?_
    refine zS_ite (fun ht => ?_) (fun _ => zS_none)
    refine s_callV (pc := 11) (np := 1) (as := [.int v1]) (rest := []) dX2_isWorkable_11 ht (q := (RX2, TX2, 10)) rfl (c_X2_shipAtPosition (by decide) v0 v1 h) rfl rfl q1504 q1505 q1506 rfl (by decide) (zkR (fun r2 h3 => ?_)) zxo
    refine s_ifnonnull (pc := 14) (tgt := 21) dX2_isWorkable_14 (by decide) (fun _ => ?_) (fun _ => ?_)
    · refine s_iconst (pc := 21) (v := 0) dX2_isWorkable_21 (by decide) ?_
      exact s_nret (pc := 22) dX2_isWorkable_22 rfl
    · refine s_iconst (pc := 17) (v := 1) dX2_isWorkable_17 (by decide) ?_
      refine s_goto (pc := 18) (tgt := 22) dX2_isWorkable_18 (by decide) ?_
      exact s_nret (pc := 22) dX2_isWorkable_22 rfl
theorem c_X2_isWorkable {d0 : Nat} (hd0 : 11 < d0) (v0 : Option Nat) (v1 : Int32) (h : zH) : zCal D z d0 h yX2_isWorkable [va_rf v0, .int v1] (f_X2_isWorkable v0 v1 h) :=
  ⟨cX2_isWorkable, 2, (some .boolean), [], 11, (show lv_args 0 [va_rf v0, .int v1] = [(0, va_rf v0), (1, .int v1)] by simp [lv_args, zcat_rf, zcat_i, zcat_l, zcat_f, zcat_d]) ▸ w_X2_isWorkable v0 v1 h, (plainFor_of_name (by decide)), by simp [lg_sl, zcat_rf, zcat_i, zcat_l, zcat_f, zcat_d], q2746, q96, hd0, by decide, by decide⟩
theorem w_X2_placeBlock_32 (a0 : Option Nat) (a1 : Int32) (s0 : Int32) (h : zH) : zS D z yX2_placeBlock cX2_placeBlock 3 (some .int) [] 12 h 32 [(0, va_rf a0), (1, .int a1)] [.int s0] (f_X2_placeBlock_32 a0 a1 s0 h) := by
  unfold f_X2_placeBlock_32
  refine s_callSN (pc := 32) (np := 1) (as := [.int s0]) (rest := []) dX2_placeBlock_32 (c_X1_checkState (by decide) s0 h) ⟨_, _, _, q2290⟩ rfl rfl q2288 q2289 rfl (by decide) (zkV (fun h9 => ?_)) zxo
  refine s_aload_n (pc := 35) 0 dX2_placeBlock_35 rfl rfl ?_
  refine s_iload_n (pc := 36) 1 dX2_placeBlock_36 rfl rfl ?_
  refine zS_ite (fun ht => ?_) (fun _ => zS_none)
  refine s_callV (pc := 37) (np := 1) (as := [.int a1]) (rest := []) dX2_placeBlock_37 ht (q := (RX2, TX2, 10)) rfl (c_X2_isWorkable (by decide) a0 a1 h9) rfl rfl q2743 q2745 qs26 rfl (by decide) (zkI (fun x10 h11 => ?_)) zxo
  refine s_callSN (pc := 40) (np := 1) (as := [.int x10]) (rest := []) dX2_placeBlock_40 (c_X1_checkSupported (by decide) x10 h11) ⟨_, _, _, q2631⟩ rfl rfl q2629 q2630 rfl (by decide) (zkV (fun h12 => ?_)) zxo
  refine s_aload_n (pc := 43) 0 dX2_placeBlock_43 rfl rfl ?_
  refine s_gR (pc := 44) dX2_placeBlock_44 gf_X2_21 (fun r13 => ?_)
  refine s_new (pc := 47) dX2_placeBlock_47 nf_X2_75 (fun r14 h15 => ?_)
  refine s_dup (pc := 50) dX2_placeBlock_50 (zcat_rf _) ?_
  refine s_iload_n (pc := 51) 1 dX2_placeBlock_51 rfl rfl ?_
  refine zS_ite (fun hr => ?_) (fun _ => zS_none)
  refine s_callC (pc := 52) (np := 1) (as := [.int a1]) (rest := [va_rf r14, va_rf r13]) dX2_placeBlock_52 hr (c_X8_init (by decide) r14 a1 h15) ⟨_, _, q1529⟩ rfl rfl rfl q1527 q1528 rfl (by simp [zcat_rf, zcat_i, zcat_l, zcat_f, zcat_d]) (zkV (fun h16 => ?_)) zxo
  refine zS_ite (fun ht => ?_) (fun _ => zS_none)
  refine s_callV (pc := 55) (np := 1) (as := [va_rf r14]) (rest := []) dX2_placeBlock_55 ht (q := (RJ5, TJ5, 1)) rfl (c_J5_add (by decide) r13 r14 h16) rfl rfl q2256 q2257 q2258 rfl (by decide) (zkI (fun x17 h18 => ?_)) zxo
  refine s_ist_n (pc := 58) (L2 := [(0, va_rf a0)]) [0] dX2_placeBlock_58 rfl (by decide) rfl rfl (zcA rfl) ?_
  refine s_aload_n (pc := 59) 1 dX2_placeBlock_59 rfl rfl ?_
  refine s_gR (pc := 60) dX2_placeBlock_60 gf_X2_21 (fun r19 => ?_)
  refine zS_ite (fun ht => ?_) (fun _ => zS_none)
  refine s_callV (pc := 63) (np := 0) (as := []) (rest := []) dX2_placeBlock_63 ht (q := (RJ5, TJ5, 1)) rfl (c_J5_size (by decide) r19 h18) rfl rfl q2738 q2739 q2740 rfl (by decide) (zkI (fun x20 h21 => ?_)) zxo
  exact s_iret (pc := 66) dX2_placeBlock_66 rfl
theorem w_X2_placeBlock_31 (a0 : Option Nat) (a1 : Int32) (h : zH) : zS D z yX2_placeBlock cX2_placeBlock 3 (some .int) [] 12 h 31 [(0, va_rf a0), (1, .int a1)] [] (f_X2_placeBlock_31 a0 a1 h) := by
  unfold f_X2_placeBlock_31
  refine s_iconst (pc := 31) (v := 0) dX2_placeBlock_31 (by decide) ?_
  exact s_sub (pc := 32) [0, 1] rfl (w_X2_placeBlock_32 a0 a1 0 h)
theorem w_X2_placeBlock (v0 : Option Nat) (v1 : Int32) (h : zH) : zS D z yX2_placeBlock cX2_placeBlock 3 (some .int) [] 12 h 0 [(0, va_rf v0), (1, .int v1)] [] (f_X2_placeBlock v0 v1 h) := by
  unfold f_X2_placeBlock
  refine s_iload_n (pc := 0) 1 dX2_placeBlock_0 rfl rfl ?_
  refine s_callSN (pc := 1) (np := 1) (as := [.int v1]) (rest := []) dX2_placeBlock_1 (c_X1_isPosition (by decide) v1 h) ⟨_, _, _, q2737⟩ rfl rfl q2735 q2736 rfl (by decide) (zkI (fun x1 h2 => ?_)) zxo
  refine s_callSN (pc := 4) (np := 1) (as := [.int x1]) (rest := []) dX2_placeBlock_4 (c_X1_checkArgument (by decide) x1 h2) ⟨_, _, _, q2281⟩ rfl rfl q2279 q2280 rfl (by decide) (zkV (fun h3 => ?_)) zxo
  refine s_aload_n (pc := 7) 0 dX2_placeBlock_7 rfl rfl ?_
  refine s_gR (pc := 8) dX2_placeBlock_8 gf_X2_21 (fun r4 => ?_)
  refine zS_ite (fun ht => ?_) (fun _ => zS_none)
  refine s_callV (pc := 11) (np := 0) (as := []) (rest := []) dX2_placeBlock_11 ht (q := (RJ5, TJ5, 1)) rfl (c_J5_size (by decide) r4 h3) rfl rfl q2738 q2739 q2740 rfl (by decide) (zkI (fun x5 h6 => ?_)) zxo
  refine s_bipush (pc := 14) (v := 20) dX2_placeBlock_14 (by decide) ?_
  refine s_icmp_ge (pc := 16) (tgt := 31) dX2_placeBlock_16 (by decide) (fun _ => ?_) (fun _ => ?_)
  · exact s_sub (pc := 31) [0, 1] rfl (w_X2_placeBlock_31 v0 v1 h6)
  · refine s_aload_n (pc := 19) 0 dX2_placeBlock_19 rfl rfl ?_
    refine s_iload_n (pc := 20) 1 dX2_placeBlock_20 rfl rfl ?_
    refine zS_ite (fun ht => ?_) (fun _ => zS_none)
    refine s_callV (pc := 21) (np := 1) (as := [.int v1]) (rest := []) dX2_placeBlock_21 ht (q := (RX2, TX2, 10)) rfl (c_X2_hasBlock (by decide) v0 v1 h6) rfl rfl q1521 q1522 q1523 rfl (by decide) (zkI (fun x7 h8 => ?_)) zxo
    refine s_if_ne (pc := 24) (tgt := 31) dX2_placeBlock_24 (by decide) (fun _ => ?_) (fun _ => ?_)
    · exact s_sub (pc := 31) [0, 1] rfl (w_X2_placeBlock_31 v0 v1 h8)
    · refine s_iconst (pc := 27) (v := 1) dX2_placeBlock_27 (by decide) ?_
      refine s_goto (pc := 28) (tgt := 32) dX2_placeBlock_28 (by decide) ?_
      exact s_sub (pc := 32) [0, 1] rfl (w_X2_placeBlock_32 v0 v1 1 h8)
theorem c_X2_placeBlock {d0 : Nat} (hd0 : 12 < d0) (v0 : Option Nat) (v1 : Int32) (h : zH) : zCal D z d0 h yX2_placeBlock [va_rf v0, .int v1] (f_X2_placeBlock v0 v1 h) :=
  ⟨cX2_placeBlock, 3, (some .int), [], 12, (show lv_args 0 [va_rf v0, .int v1] = [(0, va_rf v0), (1, .int v1)] by simp [lv_args, zcat_rf, zcat_i, zcat_l, zcat_f, zcat_d]) ▸ w_X2_placeBlock v0 v1 h, (plainFor_of_name (by decide)), by simp [lg_sl, zcat_rf, zcat_i, zcat_l, zcat_f, zcat_d], q2734, q96, hd0, by decide, by decide⟩
theorem w_X1_lambda_placeBlock_15 (v0 : Int32) (v1 : Option Nat) (h : zH) : zS D z yX1_lambda_placeBlock_15 cX1_lambda_placeBlock_15 2 (some .int) [] 13 h 0 [(0, .int v0), (1, va_rf v1)] [] (f_X1_lambda_placeBlock_15 v0 v1 h) := by
  unfold f_X1_lambda_placeBlock_15
  refine s_aload_n (pc := 0) 1 dX1_lambda_placeBlock_15_0 rfl rfl ?_
  refine s_iload_n (pc := 1) 0 dX1_lambda_placeBlock_15_1 rfl rfl ?_
  refine zS_ite (fun ht => ?_) (fun _ => zS_none)
  refine s_callV (pc := 2) (np := 1) (as := [.int v0]) (rest := []) dX1_lambda_placeBlock_15_2 ht (q := (RX2, TX2, 10)) rfl (c_X2_placeBlock (by decide) v1 v0 h) rfl rfl q2731 q2732 q2733 rfl (by decide) (zkI (fun x1 h2 => ?_)) zxo
  exact s_iret (pc := 5) dX1_lambda_placeBlock_15_5 rfl
theorem c_X1_lambda_placeBlock_15 {d0 : Nat} (hd0 : 13 < d0) (v0 : Int32) (v1 : Option Nat) (h : zH) : zCal D z d0 h yX1_lambda_placeBlock_15 [.int v0, va_rf v1] (f_X1_lambda_placeBlock_15 v0 v1 h) :=
  ⟨cX1_lambda_placeBlock_15, 2, (some .int), [], 13, (show lv_args 0 [.int v0, va_rf v1] = [(0, .int v0), (1, va_rf v1)] by simp [lv_args, zcat_rf, zcat_i, zcat_l, zcat_f, zcat_d]) ▸ w_X1_lambda_placeBlock_15 v0 v1 h, (plainFor_of_name (by decide)), by simp [lg_sl, zcat_rf, zcat_i, zcat_l, zcat_f, zcat_d], q2730, q95, hd0, by decide, by decide⟩
theorem w_J5_remove (v0 : Option Nat) (v1 : Option Nat) (h : zH) : zS D z yJ5_remove cJ5_remove 2 (some .boolean) [] 5 h 0 [(0, va_rf v0), (1, va_rf v1)] [] (f_J5_remove v0 v1 h) := by
  unfold f_J5_remove
  refine s_aload_n (pc := 0) 0 dJ5_remove_0 rfl rfl ?_
  refine s_gR (pc := 1) dJ5_remove_1 gf_J5_10 (fun r1 => ?_)
  refine s_aload_n (pc := 4) 1 dJ5_remove_4 rfl rfl ?_
  refine zS_ite (fun ht => ?_) (fun _ => ?_)
  · refine s_callV (pc := 5) (np := 1) (as := [va_rf v1]) (rest := []) dJ5_remove_5 ht (q := (RJ1, TJ1, 8)) rfl (c_J1_remove (by decide) r1 v1 h) rfl rfl q2764 q2412 q3775 rfl (by decide) (zkR (fun r2 h3 => ?_)) zxo
    refine s_getsR (pc := 8) (n := "PRESENT") (i := 5) dJ5_remove_8 (List.mem_of_getElem? (i := 6) rfl) q2260 ?_
    refine s_acmp_ne (pc := 11) (tgt := 18) dJ5_remove_11 (by decide) (fun _ => ?_) (fun _ => ?_)
    · refine s_iconst (pc := 18) (v := 0) dJ5_remove_18 (by decide) ?_
      exact s_nret (pc := 19) dJ5_remove_19 rfl
    · refine s_iconst (pc := 14) (v := 1) dJ5_remove_14 (by decide) ?_
      refine s_goto (pc := 15) (tgt := 19) dJ5_remove_15 (by decide) ?_
      exact s_nret (pc := 19) dJ5_remove_19 rfl
  refine zS_ite (fun ht => ?_) (fun _ => zS_none)
  refine s_callVU (pc := 5) (np := 1) (as := [va_rf v1]) (rest := []) (owner := "java/util/HashMap") dJ5_remove_5 ht (q := (RJ2, TJ2, 12)) rfl (c_J1_remove (by decide) r1 v1 h) ⟨_, _, _, q2413⟩ rfl rfl q2764 q3774 (Or.inl ⟨_, _, _, q2412, q2413⟩) (by decide) q2412 q3776 rfl (by decide) (zkR (fun r2 h3 => ?_)) zxo
  refine s_getsR (pc := 8) (n := "PRESENT") (i := 5) dJ5_remove_8 (List.mem_of_getElem? (i := 6) rfl) q2260 ?_
  refine s_acmp_ne (pc := 11) (tgt := 18) dJ5_remove_11 (by decide) (fun _ => ?_) (fun _ => ?_)
  · refine s_iconst (pc := 18) (v := 0) dJ5_remove_18 (by decide) ?_
    exact s_nret (pc := 19) dJ5_remove_19 rfl
  · refine s_iconst (pc := 14) (v := 1) dJ5_remove_14 (by decide) ?_
    refine s_goto (pc := 15) (tgt := 19) dJ5_remove_15 (by decide) ?_
    exact s_nret (pc := 19) dJ5_remove_19 rfl
theorem c_J5_remove {d0 : Nat} (hd0 : 5 < d0) (v0 : Option Nat) (v1 : Option Nat) (h : zH) : zCal D z d0 h yJ5_remove [va_rf v0, va_rf v1] (f_J5_remove v0 v1 h) :=
  ⟨cJ5_remove, 2, (some .boolean), [], 5, (show lv_args 0 [va_rf v0, va_rf v1] = [(0, va_rf v0), (1, va_rf v1)] by simp [lv_args, zcat_rf, zcat_i, zcat_l, zcat_f, zcat_d]) ▸ w_J5_remove v0 v1 h, (plainFor_of_name (by decide)), by simp [lg_sl, zcat_rf, zcat_i, zcat_l, zcat_f, zcat_d], q2763, q102, hd0, by decide, by decide⟩
theorem w_X2_removeBlock (v0 : Option Nat) (v1 : Int32) (h : zH) : zS D z yX2_removeBlock cX2_removeBlock 3 (some .int) [] 12 h 0 [(0, va_rf v0), (1, .int v1)] [] (f_X2_removeBlock v0 v1 h) := by
  unfold f_X2_removeBlock
  refine s_iload_n (pc := 0) 1 dX2_removeBlock_0 rfl rfl ?_
  refine s_callSN (pc := 1) (np := 1) (as := [.int v1]) (rest := []) dX2_removeBlock_1 (c_X1_isPosition (by decide) v1 h) ⟨_, _, _, q2737⟩ rfl rfl q2735 q2736 rfl (by decide) (zkI (fun x1 h2 => ?_)) zxo
  refine s_callSN (pc := 4) (np := 1) (as := [.int x1]) (rest := []) dX2_removeBlock_4 (c_X1_checkArgument (by decide) x1 h2) ⟨_, _, _, q2281⟩ rfl rfl q2279 q2280 rfl (by decide) (zkV (fun h3 => ?_)) zxo
  refine s_aload_n (pc := 7) 0 dX2_removeBlock_7 rfl rfl ?_
  refine s_iload_n (pc := 8) 1 dX2_removeBlock_8 rfl rfl ?_
  refine zS_ite (fun ht => ?_) (fun _ => zS_none)
  refine s_callV (pc := 9) (np := 1) (as := [.int v1]) (rest := []) dX2_removeBlock_9 ht (q := (RX2, TX2, 10)) rfl (c_X2_hasBlock (by decide) v0 v1 h3) rfl rfl q1521 q1522 q1523 rfl (by decide) (zkI (fun x4 h5 => ?_)) zxo
  refine s_callSN (pc := 12) (np := 1) (as := [.int x4]) (rest := []) dX2_removeBlock_12 (c_X1_checkElement (by decide) x4 h5) ⟨_, _, _, q2396⟩ rfl rfl q2394 q2395 rfl (by decide) (zkV (fun h6 => ?_)) zxo
  refine s_aload_n (pc := 15) 0 dX2_removeBlock_15 rfl rfl ?_
  refine s_iload_n (pc := 16) 1 dX2_removeBlock_16 rfl rfl ?_
  refine zS_ite (fun ht => ?_) (fun _ => zS_none)
  refine s_callV (pc := 17) (np := 1) (as := [.int v1]) (rest := []) dX2_removeBlock_17 ht (q := (RX2, TX2, 10)) rfl (c_X2_isWorkable (by decide) v0 v1 h6) rfl rfl q2743 q2745 qs26 rfl (by decide) (zkI (fun x7 h8 => ?_)) zxo
  refine s_callSN (pc := 20) (np := 1) (as := [.int x7]) (rest := []) dX2_removeBlock_20 (c_X1_checkSupported (by decide) x7 h8) ⟨_, _, _, q2631⟩ rfl rfl q2629 q2630 rfl (by decide) (zkV (fun h9 => ?_)) zxo
  refine s_aload_n (pc := 23) 0 dX2_removeBlock_23 rfl rfl ?_
  refine s_gR (pc := 24) dX2_removeBlock_24 gf_X2_21 (fun r10 => ?_)
  refine s_new (pc := 27) dX2_removeBlock_27 nf_X2_75 (fun r11 h12 => ?_)
  refine s_dup (pc := 30) dX2_removeBlock_30 (zcat_rf _) ?_
  refine s_iload_n (pc := 31) 1 dX2_removeBlock_31 rfl rfl ?_
  refine zS_ite (fun hr => ?_) (fun _ => zS_none)
  refine s_callC (pc := 32) (np := 1) (as := [.int v1]) (rest := [va_rf r11, va_rf r10]) dX2_removeBlock_32 hr (c_X8_init (by decide) r11 v1 h12) ⟨_, _, q1529⟩ rfl rfl rfl q1527 q1528 rfl (by simp [zcat_rf, zcat_i, zcat_l, zcat_f, zcat_d]) (zkV (fun h13 => ?_)) zxo
  refine zS_ite (fun ht => ?_) (fun _ => zS_none)
  refine s_callV (pc := 35) (np := 1) (as := [va_rf r11]) (rest := []) dX2_removeBlock_35 ht (q := (RJ5, TJ5, 1)) rfl (c_J5_remove (by decide) r10 r11 h13) rfl rfl q2760 q2761 q2762 rfl (by decide) (zkI (fun x14 h15 => ?_)) zxo
  refine s_ist_n (pc := 38) (L2 := [(0, va_rf v0)]) [0] dX2_removeBlock_38 rfl (by decide) rfl rfl (zcA rfl) ?_
  refine s_aload_n (pc := 39) 1 dX2_removeBlock_39 rfl rfl ?_
  refine s_gR (pc := 40) dX2_removeBlock_40 gf_X2_21 (fun r16 => ?_)
  refine zS_ite (fun ht => ?_) (fun _ => zS_none)
  refine s_callV (pc := 43) (np := 0) (as := []) (rest := []) dX2_removeBlock_43 ht (q := (RJ5, TJ5, 1)) rfl (c_J5_size (by decide) r16 h15) rfl rfl q2738 q2739 q2740 rfl (by decide) (zkI (fun x17 h18 => ?_)) zxo
  exact s_iret (pc := 46) dX2_removeBlock_46 rfl
theorem c_X2_removeBlock {d0 : Nat} (hd0 : 12 < d0) (v0 : Option Nat) (v1 : Int32) (h : zH) : zCal D z d0 h yX2_removeBlock [va_rf v0, .int v1] (f_X2_removeBlock v0 v1 h) :=
  ⟨cX2_removeBlock, 3, (some .int), [], 12, (show lv_args 0 [va_rf v0, .int v1] = [(0, va_rf v0), (1, .int v1)] by simp [lv_args, zcat_rf, zcat_i, zcat_l, zcat_f, zcat_d]) ▸ w_X2_removeBlock v0 v1 h, (plainFor_of_name (by decide)), by simp [lg_sl, zcat_rf, zcat_i, zcat_l, zcat_f, zcat_d], q2759, q96, hd0, by decide, by decide⟩
theorem w_X1_lambda_removeBlock_16 (v0 : Int32) (v1 : Option Nat) (h : zH) : zS D z yX1_lambda_removeBlock_16 cX1_lambda_removeBlock_16 2 (some .int) [] 13 h 0 [(0, .int v0), (1, va_rf v1)] [] (f_X1_lambda_removeBlock_16 v0 v1 h) := by
  unfold f_X1_lambda_removeBlock_16
  refine s_aload_n (pc := 0) 1 dX1_lambda_removeBlock_16_0 rfl rfl ?_
  refine s_iload_n (pc := 1) 0 dX1_lambda_removeBlock_16_1 rfl rfl ?_
  refine zS_ite (fun ht => ?_) (fun _ => zS_none)
  refine s_callV (pc := 2) (np := 1) (as := [.int v0]) (rest := []) dX1_lambda_removeBlock_16_2 ht (q := (RX2, TX2, 10)) rfl (c_X2_removeBlock (by decide) v1 v0 h) rfl rfl q2756 q2757 q2758 rfl (by decide) (zkI (fun x1 h2 => ?_)) zxo
  exact s_iret (pc := 5) dX1_lambda_removeBlock_16_5 rfl
theorem c_X1_lambda_removeBlock_16 {d0 : Nat} (hd0 : 13 < d0) (v0 : Int32) (v1 : Option Nat) (h : zH) : zCal D z d0 h yX1_lambda_removeBlock_16 [.int v0, va_rf v1] (f_X1_lambda_removeBlock_16 v0 v1 h) :=
  ⟨cX1_lambda_removeBlock_16, 2, (some .int), [], 13, (show lv_args 0 [.int v0, va_rf v1] = [(0, .int v0), (1, va_rf v1)] by simp [lv_args, zcat_rf, zcat_i, zcat_l, zcat_f, zcat_d]) ▸ w_X1_lambda_removeBlock_16 v0 v1 h, (plainFor_of_name (by decide)), by simp [lg_sl, zcat_rf, zcat_i, zcat_l, zcat_f, zcat_d], q2755, q95, hd0, by decide, by decide⟩
theorem w_X2_pay_30 (a0 : Option Nat) (a2 : Int32) (a3 : Option Nat) (s0 : Int32) (h : zH) : zS D z yX2_pay cX2_pay 4 (some .int) [] 10 h 30 [(0, va_rf a0), (2, .int a2), (3, va_rf a3)] [.int s0] (f_X2_pay_30 a0 a2 a3 s0 h) := by
  unfold f_X2_pay_30
  refine s_callSN (pc := 30) (np := 1) (as := [.int s0]) (rest := []) dX2_pay_30 (c_X1_checkState (by decide) s0 h) ⟨_, _, _, q2290⟩ rfl rfl q2288 q2289 rfl (by decide) (zkV (fun h7 => ?_)) zxo
  refine s_aload_n (pc := 33) 2 dX2_pay_33 rfl rfl ?_
  refine s_dup (pc := 34) dX2_pay_34 (zcat_rf _) ?_
  refine s_gI (pc := 35) dX2_pay_35 gf_X2_170 (fun x8 => ?_)
  refine s_iload_n (pc := 38) 1 dX2_pay_38 rfl rfl ?_
  refine s_isub (pc := 39) dX2_pay_39 ?_
  refine s_putI (pc := 40) dX2_pay_40 pf_X2_170 (fun h9 => ?_)
  refine s_aload_n (pc := 43) 0 dX2_pay_43 rfl rfl ?_
  refine s_dup (pc := 44) dX2_pay_44 (zcat_rf _) ?_
  refine s_gI (pc := 45) dX2_pay_45 gf_X2_93 (fun x10 => ?_)
  refine s_iload_n (pc := 48) 1 dX2_pay_48 rfl rfl ?_
  refine s_iadd (pc := 49) dX2_pay_49 ?_
  refine s_putI (pc := 50) dX2_pay_50 pf_X2_93 (fun h11 => ?_)
  refine s_aload_n (pc := 53) 2 dX2_pay_53 rfl rfl ?_
  refine s_gI (pc := 54) dX2_pay_54 gf_X2_170 (fun x12 => ?_)
  exact s_iret (pc := 57) dX2_pay_57 rfl
theorem w_X2_pay (v0 : Option Nat) (v1 : Int32) (v2 : Int32) (h : zH) : zS D z yX2_pay cX2_pay 4 (some .int) [] 10 h 0 [(0, va_rf v0), (1, .int v1), (2, .int v2)] [] (f_X2_pay v0 v1 v2 h) := by
  unfold f_X2_pay
  refine s_aload_n (pc := 0) 0 dX2_pay_0 rfl rfl ?_
  refine s_iload_n (pc := 1) 1 dX2_pay_1 rfl rfl ?_
  refine zS_ite (fun ht => ?_) (fun _ => zS_none)
  refine s_callV (pc := 2) (np := 1) (as := [.int v1]) (rest := []) dX2_pay_2 ht (q := (RX2, TX2, 10)) rfl (c_X2_ship (by decide) v0 v1 h) rfl rfl q2386 q2387 q2388 rfl (by decide) (zkR (fun r1 h2 => ?_)) zxo
  refine s_ast_n (pc := 5) (L2 := [(0, va_rf v0), (2, .int v2)]) [0, 2] dX2_pay_5 rfl (by decide) rfl rfl (zcB (j := 1) rfl rfl rfl) ?_
  refine s_iload_n (pc := 6) 2 dX2_pay_6 rfl rfl ?_
  refine s_iconst (pc := 7) (v := 1) dX2_pay_7 (by decide) ?_
  refine s_sipush (pc := 8) (v := 999) dX2_pay_8 (by decide) ?_
  refine s_callSN (pc := 11) (np := 3) (as := [.int v2, .int 1, .int 999]) (rest := []) dX2_pay_11 (c_X1_isBetween (by decide) v2 1 999 h2) ⟨_, _, _, q1519⟩ rfl rfl q2278 q1518 rfl (by decide) (zkI (fun x3 h4 => ?_)) zxo
  refine s_callSN (pc := 14) (np := 1) (as := [.int x3]) (rest := []) dX2_pay_14 (c_X1_checkArgument (by decide) x3 h4) ⟨_, _, _, q2281⟩ rfl rfl q2279 q2280 rfl (by decide) (zkV (fun h5 => ?_)) zxo
  refine s_aload_n (pc := 17) 0 dX2_pay_17 rfl rfl ?_
  refine s_gI (pc := 18) dX2_pay_18 gf_X2_170 (fun x6 => ?_)
  refine s_iload_n (pc := 21) 2 dX2_pay_21 rfl rfl ?_
  refine s_icmp_lt (pc := 22) (tgt := 29) dX2_pay_22 (by decide) (fun _ => ?_) (fun _ => ?_)
  · refine s_iconst (pc := 29) (v := 0) dX2_pay_29 (by decide) ?_
    exact s_sub (pc := 30) [1, 2, 0] rfl (w_X2_pay_30 v0 v2 r1 0 h5)
  · refine s_iconst (pc := 25) (v := 1) dX2_pay_25 (by decide) ?_
    refine s_goto (pc := 26) (tgt := 30) dX2_pay_26 (by decide) ?_
    exact s_sub (pc := 30) [1, 2, 0] rfl (w_X2_pay_30 v0 v2 r1 1 h5)
theorem c_X2_pay {d0 : Nat} (hd0 : 10 < d0) (v0 : Option Nat) (v1 : Int32) (v2 : Int32) (h : zH) : zCal D z d0 h yX2_pay [va_rf v0, .int v1, .int v2] (f_X2_pay v0 v1 v2 h) :=
  ⟨cX2_pay, 4, (some .int), [], 10, (show lv_args 0 [va_rf v0, .int v1, .int v2] = [(0, va_rf v0), (1, .int v1), (2, .int v2)] by simp [lv_args, zcat_rf, zcat_i, zcat_l, zcat_f, zcat_d]) ▸ w_X2_pay v0 v1 v2 h, (plainFor_of_name (by decide)), by simp [lg_sl, zcat_rf, zcat_i, zcat_l, zcat_f, zcat_d], q2837, q96, hd0, by decide, by decide⟩
theorem w_X1_lambda_pay_17 (v0 : Int32) (v1 : Int32) (v2 : Option Nat) (h : zH) : zS D z yX1_lambda_pay_17 cX1_lambda_pay_17 3 (some .int) [] 11 h 0 [(0, .int v0), (1, .int v1), (2, va_rf v2)] [] (f_X1_lambda_pay_17 v0 v1 v2 h) := by
  unfold f_X1_lambda_pay_17
  refine s_aload_n (pc := 0) 2 dX1_lambda_pay_17_0 rfl rfl ?_
  refine s_iload_n (pc := 1) 0 dX1_lambda_pay_17_1 rfl rfl ?_
  refine s_iload_n (pc := 2) 1 dX1_lambda_pay_17_2 rfl rfl ?_
  refine zS_ite (fun ht => ?_) (fun _ => zS_none)
  refine s_callV (pc := 3) (np := 2) (as := [.int v0, .int v1]) (rest := []) dX1_lambda_pay_17_3 ht (q := (RX2, TX2, 10)) rfl (c_X2_pay (by decide) v2 v0 v1 h) rfl rfl q2834 q2835 q2836 rfl (by decide) (zkI (fun x1 h2 => ?_)) zxo
  exact s_iret (pc := 6) dX1_lambda_pay_17_6 rfl
theorem c_X1_lambda_pay_17 {d0 : Nat} (hd0 : 11 < d0) (v0 : Int32) (v1 : Int32) (v2 : Option Nat) (h : zH) : zCal D z d0 h yX1_lambda_pay_17 [.int v0, .int v1, va_rf v2] (f_X1_lambda_pay_17 v0 v1 v2 h) :=
  ⟨cX1_lambda_pay_17, 3, (some .int), [], 11, (show lv_args 0 [.int v0, .int v1, va_rf v2] = [(0, .int v0), (1, .int v1), (2, va_rf v2)] by simp [lv_args, zcat_rf, zcat_i, zcat_l, zcat_f, zcat_d]) ▸ w_X1_lambda_pay_17 v0 v1 v2 h, (plainFor_of_name (by decide)), by simp [lg_sl, zcat_rf, zcat_i, zcat_l, zcat_f, zcat_d], q2833, q95, hd0, by decide, by decide⟩
theorem w_X10_lambda_shipOperation_0 (v0 : Int32) (v1 : Int32) (v2 : Int32) (v3 : Option Nat) (h : zH) : zS D z yX10_lambda_shipOperation_0 cX10_lambda_shipOperation_0 4 (some .int) [] 10 h 0 [(0, .int v0), (1, .int v1), (2, .int v2), (3, va_rf v3)] [] (f_X10_lambda_shipOperation_0 v0 v1 v2 v3 h) := by
  unfold f_X10_lambda_shipOperation_0
  refine s_aload_n (pc := 0) 3 dX10_lambda_shipOperation_0_0 rfl rfl ?_
  refine s_iload_n (pc := 1) 0 dX10_lambda_shipOperation_0_1 rfl rfl ?_
  refine s_iload_n (pc := 2) 1 dX10_lambda_shipOperation_0_2 rfl rfl ?_
  refine s_iload_n (pc := 3) 2 dX10_lambda_shipOperation_0_3 rfl rfl ?_
  refine zS_ite (fun ht => ?_) (fun _ => zS_none)
  refine s_callV (pc := 4) (np := 3) (as := [.int v0, .int v1, .int v2]) (rest := []) dX10_lambda_shipOperation_0_4 ht (q := (RX2, TX2, 10)) rfl (c_X2_addShip (by decide) v3 v0 v1 v2 h) rfl rfl q3004 q2275 q2276 rfl (by decide) (zkI (fun x1 h2 => ?_)) zxo
  exact s_iret (pc := 7) dX10_lambda_shipOperation_0_7 rfl
theorem c_X10_lambda_shipOperation_0 {d0 : Nat} (hd0 : 10 < d0) (v0 : Int32) (v1 : Int32) (v2 : Int32) (v3 : Option Nat) (h : zH) : zCal D z d0 h yX10_lambda_shipOperation_0 [.int v0, .int v1, .int v2, va_rf v3] (f_X10_lambda_shipOperation_0 v0 v1 v2 v3 h) :=
  ⟨cX10_lambda_shipOperation_0, 4, (some .int), [], 10, (show lv_args 0 [.int v0, .int v1, .int v2, va_rf v3] = [(0, .int v0), (1, .int v1), (2, .int v2), (3, va_rf v3)] by simp [lv_args, zcat_rf, zcat_i, zcat_l, zcat_f, zcat_d]) ▸ w_X10_lambda_shipOperation_0 v0 v1 v2 v3 h, (plainFor_of_name (by decide)), by simp [lg_sl, zcat_rf, zcat_i, zcat_l, zcat_f, zcat_d], q3003, q153, hd0, by decide, by decide⟩
theorem w_X10_lambda_enterOperation_1 (v0 : Int32) (v1 : Int32) (v2 : Option Nat) (h : zH) : zS D z yX10_lambda_enterOperation_1 cX10_lambda_enterOperation_1 3 (some .int) [] 12 h 0 [(0, .int v0), (1, .int v1), (2, va_rf v2)] [] (f_X10_lambda_enterOperation_1 v0 v1 v2 h) := by
  unfold f_X10_lambda_enterOperation_1
  refine s_aload_n (pc := 0) 2 dX10_lambda_enterOperation_1_0 rfl rfl ?_
  refine s_iload_n (pc := 1) 0 dX10_lambda_enterOperation_1_1 rfl rfl ?_
  refine s_iload_n (pc := 2) 1 dX10_lambda_enterOperation_1_2 rfl rfl ?_
  refine zS_ite (fun ht => ?_) (fun _ => zS_none)
  refine s_callV (pc := 3) (np := 2) (as := [.int v0, .int v1]) (rest := []) dX10_lambda_enterOperation_1_3 ht (q := (RX2, TX2, 10)) rfl (c_X2_enter (by decide) v2 v0 v1 h) rfl rfl q3011 q2446 q2447 rfl (by decide) (zkI (fun x1 h2 => ?_)) zxo
  exact s_iret (pc := 6) dX10_lambda_enterOperation_1_6 rfl
theorem c_X10_lambda_enterOperation_1 {d0 : Nat} (hd0 : 12 < d0) (v0 : Int32) (v1 : Int32) (v2 : Option Nat) (h : zH) : zCal D z d0 h yX10_lambda_enterOperation_1 [.int v0, .int v1, va_rf v2] (f_X10_lambda_enterOperation_1 v0 v1 v2 h) :=
  ⟨cX10_lambda_enterOperation_1, 3, (some .int), [], 12, (show lv_args 0 [.int v0, .int v1, va_rf v2] = [(0, .int v0), (1, .int v1), (2, va_rf v2)] by simp [lv_args, zcat_rf, zcat_i, zcat_l, zcat_f, zcat_d]) ▸ w_X10_lambda_enterOperation_1 v0 v1 v2 h, (plainFor_of_name (by decide)), by simp [lg_sl, zcat_rf, zcat_i, zcat_l, zcat_f, zcat_d], q3010, q153, hd0, by decide, by decide⟩
theorem w_X10_lambda_payOperation_2 (v0 : Int32) (v1 : Int32) (v2 : Option Nat) (h : zH) : zS D z yX10_lambda_payOperation_2 cX10_lambda_payOperation_2 3 (some .int) [] 11 h 0 [(0, .int v0), (1, .int v1), (2, va_rf v2)] [] (f_X10_lambda_payOperation_2 v0 v1 v2 h) := by
  unfold f_X10_lambda_payOperation_2
  refine s_aload_n (pc := 0) 2 dX10_lambda_payOperation_2_0 rfl rfl ?_
  refine s_iload_n (pc := 1) 0 dX10_lambda_payOperation_2_1 rfl rfl ?_
  refine s_iload_n (pc := 2) 1 dX10_lambda_payOperation_2_2 rfl rfl ?_
  refine zS_ite (fun ht => ?_) (fun _ => zS_none)
  refine s_callV (pc := 3) (np := 2) (as := [.int v0, .int v1]) (rest := []) dX10_lambda_payOperation_2_3 ht (q := (RX2, TX2, 10)) rfl (c_X2_pay (by decide) v2 v0 v1 h) rfl rfl q3018 q2835 q2836 rfl (by decide) (zkI (fun x1 h2 => ?_)) zxo
  exact s_iret (pc := 6) dX10_lambda_payOperation_2_6 rfl
theorem c_X10_lambda_payOperation_2 {d0 : Nat} (hd0 : 11 < d0) (v0 : Int32) (v1 : Int32) (v2 : Option Nat) (h : zH) : zCal D z d0 h yX10_lambda_payOperation_2 [.int v0, .int v1, va_rf v2] (f_X10_lambda_payOperation_2 v0 v1 v2 h) :=
  ⟨cX10_lambda_payOperation_2, 3, (some .int), [], 11, (show lv_args 0 [.int v0, .int v1, va_rf v2] = [(0, .int v0), (1, .int v1), (2, va_rf v2)] by simp [lv_args, zcat_rf, zcat_i, zcat_l, zcat_f, zcat_d]) ▸ w_X10_lambda_payOperation_2 v0 v1 v2 h, (plainFor_of_name (by decide)), by simp [lg_sl, zcat_rf, zcat_i, zcat_l, zcat_f, zcat_d], q3017, q153, hd0, by decide, by decide⟩
theorem w_X10_lambda_pumpOperation_3 (v0 : Int32) (v1 : Option Nat) (h : zH) : zS D z yX10_lambda_pumpOperation_3 cX10_lambda_pumpOperation_3 2 (some .int) [] 10 h 0 [(0, .int v0), (1, va_rf v1)] [] (f_X10_lambda_pumpOperation_3 v0 v1 h) := by
  unfold f_X10_lambda_pumpOperation_3
  refine s_aload_n (pc := 0) 1 dX10_lambda_pumpOperation_3_0 rfl rfl ?_
  refine s_iload_n (pc := 1) 0 dX10_lambda_pumpOperation_3_1 rfl rfl ?_
  refine zS_ite (fun ht => ?_) (fun _ => zS_none)
  refine s_callV (pc := 2) (np := 1) (as := [.int v0]) (rest := []) dX10_lambda_pumpOperation_3_2 ht (q := (RX2, TX2, 10)) rfl (c_X2_setPump (by decide) v1 v0 h) rfl rfl q3029 q2642 q2643 rfl (by decide) (zkI (fun x1 h2 => ?_)) zxo
  exact s_iret (pc := 5) dX10_lambda_pumpOperation_3_5 rfl
theorem c_X10_lambda_pumpOperation_3 {d0 : Nat} (hd0 : 10 < d0) (v0 : Int32) (v1 : Option Nat) (h : zH) : zCal D z d0 h yX10_lambda_pumpOperation_3 [.int v0, va_rf v1] (f_X10_lambda_pumpOperation_3 v0 v1 h) :=
  ⟨cX10_lambda_pumpOperation_3, 2, (some .int), [], 10, (show lv_args 0 [.int v0, va_rf v1] = [(0, .int v0), (1, va_rf v1)] by simp [lv_args, zcat_rf, zcat_i, zcat_l, zcat_f, zcat_d]) ▸ w_X10_lambda_pumpOperation_3 v0 v1 h, (plainFor_of_name (by decide)), by simp [lg_sl, zcat_rf, zcat_i, zcat_l, zcat_f, zcat_d], q3028, q153, hd0, by decide, by decide⟩
theorem w_X10_lambda_operation_10 (v0 : Option Nat) (h : zH) : zS D z yX10_lambda_operation_10 cX10_lambda_operation_10 1 (some .int) [] 10 h 0 [(0, va_rf v0)] [] (f_X10_lambda_operation_10 v0 h) := by
  unfold f_X10_lambda_operation_10
  refine s_aload_n (pc := 0) 0 dX10_lambda_operation_10_0 rfl rfl ?_
  refine s_iconst (pc := 1) (v := 1) dX10_lambda_operation_10_1 (by decide) ?_
  refine zS_ite (fun ht => ?_) (fun _ => zS_none)
  refine s_callV (pc := 2) (np := 1) (as := [.int 1]) (rest := []) dX10_lambda_operation_10_2 ht (q := (RX2, TX2, 10)) rfl (c_X2_setGate (by decide) v0 1 h) rfl rfl q3032 q2623 q2624 rfl (by decide) (zkI (fun x1 h2 => ?_)) zxo
  exact s_iret (pc := 5) dX10_lambda_operation_10_5 rfl
theorem c_X10_lambda_operation_10 {d0 : Nat} (hd0 : 10 < d0) (v0 : Option Nat) (h : zH) : zCal D z d0 h yX10_lambda_operation_10 [va_rf v0] (f_X10_lambda_operation_10 v0 h) :=
  ⟨cX10_lambda_operation_10, 1, (some .int), [], 10, (show lv_args 0 [va_rf v0] = [(0, va_rf v0)] by simp [lv_args, zcat_rf, zcat_i, zcat_l, zcat_f, zcat_d]) ▸ w_X10_lambda_operation_10 v0 h, (plainFor_of_name (by decide)), by simp [lg_sl, zcat_rf, zcat_i, zcat_l, zcat_f, zcat_d], q3031, q153, hd0, by decide, by decide⟩
theorem w_X10_lambda_operation_11 (v0 : Option Nat) (h : zH) : zS D z yX10_lambda_operation_11 cX10_lambda_operation_11 1 (some .int) [] 10 h 0 [(0, va_rf v0)] [] (f_X10_lambda_operation_11 v0 h) := by
  unfold f_X10_lambda_operation_11
  refine s_aload_n (pc := 0) 0 dX10_lambda_operation_11_0 rfl rfl ?_
  refine s_iconst (pc := 1) (v := 0) dX10_lambda_operation_11_1 (by decide) ?_
  refine zS_ite (fun ht => ?_) (fun _ => zS_none)
  refine s_callV (pc := 2) (np := 1) (as := [.int 0]) (rest := []) dX10_lambda_operation_11_2 ht (q := (RX2, TX2, 10)) rfl (c_X2_setGate (by decide) v0 0 h) rfl rfl q3032 q2623 q2624 rfl (by decide) (zkI (fun x1 h2 => ?_)) zxo
  exact s_iret (pc := 5) dX10_lambda_operation_11_5 rfl
theorem c_X10_lambda_operation_11 {d0 : Nat} (hd0 : 10 < d0) (v0 : Option Nat) (h : zH) : zCal D z d0 h yX10_lambda_operation_11 [va_rf v0] (f_X10_lambda_operation_11 v0 h) :=
  ⟨cX10_lambda_operation_11, 1, (some .int), [], 10, (show lv_args 0 [va_rf v0] = [(0, va_rf v0)] by simp [lv_args, zcat_rf, zcat_i, zcat_l, zcat_f, zcat_d]) ▸ w_X10_lambda_operation_11 v0 h, (plainFor_of_name (by decide)), by simp [lg_sl, zcat_rf, zcat_i, zcat_l, zcat_f, zcat_d], q3034, q153, hd0, by decide, by decide⟩
theorem w_X10_lambda_numberOperation_4 (v0 : Int32) (v1 : Option Nat) (h : zH) : zS D z yX10_lambda_numberOperation_4 cX10_lambda_numberOperation_4 2 (some .int) [] 12 h 0 [(0, .int v0), (1, va_rf v1)] [] (f_X10_lambda_numberOperation_4 v0 v1 h) := by
  unfold f_X10_lambda_numberOperation_4
  refine s_aload_n (pc := 0) 1 dX10_lambda_numberOperation_4_0 rfl rfl ?_
  refine s_iload_n (pc := 1) 0 dX10_lambda_numberOperation_4_1 rfl rfl ?_
  refine zS_ite (fun ht => ?_) (fun _ => zS_none)
  refine s_callV (pc := 2) (np := 1) (as := [.int v0]) (rest := []) dX10_lambda_numberOperation_4_2 ht (q := (RX2, TX2, 10)) rfl (c_X2_leave (by decide) v1 v0 h) rfl rfl q3041 q2497 q2498 rfl (by decide) (zkI (fun x1 h2 => ?_)) zxo
  exact s_iret (pc := 5) dX10_lambda_numberOperation_4_5 rfl
theorem c_X10_lambda_numberOperation_4 {d0 : Nat} (hd0 : 12 < d0) (v0 : Int32) (v1 : Option Nat) (h : zH) : zCal D z d0 h yX10_lambda_numberOperation_4 [.int v0, va_rf v1] (f_X10_lambda_numberOperation_4 v0 v1 h) :=
  ⟨cX10_lambda_numberOperation_4, 2, (some .int), [], 12, (show lv_args 0 [.int v0, va_rf v1] = [(0, .int v0), (1, va_rf v1)] by simp [lv_args, zcat_rf, zcat_i, zcat_l, zcat_f, zcat_d]) ▸ w_X10_lambda_numberOperation_4 v0 v1 h, (plainFor_of_name (by decide)), by simp [lg_sl, zcat_rf, zcat_i, zcat_l, zcat_f, zcat_d], q3040, q153, hd0, by decide, by decide⟩
theorem w_X10_lambda_numberOperation_5 (v0 : Int32) (v1 : Option Nat) (h : zH) : zS D z yX10_lambda_numberOperation_5 cX10_lambda_numberOperation_5 2 (some .int) [] 12 h 0 [(0, .int v0), (1, va_rf v1)] [] (f_X10_lambda_numberOperation_5 v0 v1 h) := by
  unfold f_X10_lambda_numberOperation_5
  refine s_aload_n (pc := 0) 1 dX10_lambda_numberOperation_5_0 rfl rfl ?_
  refine s_iload_n (pc := 1) 0 dX10_lambda_numberOperation_5_1 rfl rfl ?_
  refine s_iconst (pc := 2) (v := 1) dX10_lambda_numberOperation_5_2 (by decide) ?_
  refine zS_ite (fun ht => ?_) (fun _ => zS_none)
  refine s_callV (pc := 3) (np := 2) (as := [.int v0, .int 1]) (rest := []) dX10_lambda_numberOperation_5_3 ht (q := (RX2, TX2, 10)) rfl (c_X2_setCleaning (by decide) v1 v0 1 h) rfl rfl q3044 q2515 q2516 rfl (by decide) (zkI (fun x1 h2 => ?_)) zxo
  exact s_iret (pc := 6) dX10_lambda_numberOperation_5_6 rfl
theorem c_X10_lambda_numberOperation_5 {d0 : Nat} (hd0 : 12 < d0) (v0 : Int32) (v1 : Option Nat) (h : zH) : zCal D z d0 h yX10_lambda_numberOperation_5 [.int v0, va_rf v1] (f_X10_lambda_numberOperation_5 v0 v1 h) :=
  ⟨cX10_lambda_numberOperation_5, 2, (some .int), [], 12, (show lv_args 0 [.int v0, va_rf v1] = [(0, .int v0), (1, va_rf v1)] by simp [lv_args, zcat_rf, zcat_i, zcat_l, zcat_f, zcat_d]) ▸ w_X10_lambda_numberOperation_5 v0 v1 h, (plainFor_of_name (by decide)), by simp [lg_sl, zcat_rf, zcat_i, zcat_l, zcat_f, zcat_d], q3043, q153, hd0, by decide, by decide⟩
theorem w_X10_lambda_numberOperation_6 (v0 : Int32) (v1 : Option Nat) (h : zH) : zS D z yX10_lambda_numberOperation_6 cX10_lambda_numberOperation_6 2 (some .int) [] 12 h 0 [(0, .int v0), (1, va_rf v1)] [] (f_X10_lambda_numberOperation_6 v0 v1 h) := by
  unfold f_X10_lambda_numberOperation_6
  refine s_aload_n (pc := 0) 1 dX10_lambda_numberOperation_6_0 rfl rfl ?_
  refine s_iload_n (pc := 1) 0 dX10_lambda_numberOperation_6_1 rfl rfl ?_
  refine s_iconst (pc := 2) (v := 0) dX10_lambda_numberOperation_6_2 (by decide) ?_
  refine zS_ite (fun ht => ?_) (fun _ => zS_none)
  refine s_callV (pc := 3) (np := 2) (as := [.int v0, .int 0]) (rest := []) dX10_lambda_numberOperation_6_3 ht (q := (RX2, TX2, 10)) rfl (c_X2_setCleaning (by decide) v1 v0 0 h) rfl rfl q3044 q2515 q2516 rfl (by decide) (zkI (fun x1 h2 => ?_)) zxo
  exact s_iret (pc := 6) dX10_lambda_numberOperation_6_6 rfl
theorem c_X10_lambda_numberOperation_6 {d0 : Nat} (hd0 : 12 < d0) (v0 : Int32) (v1 : Option Nat) (h : zH) : zCal D z d0 h yX10_lambda_numberOperation_6 [.int v0, va_rf v1] (f_X10_lambda_numberOperation_6 v0 v1 h) :=
  ⟨cX10_lambda_numberOperation_6, 2, (some .int), [], 12, (show lv_args 0 [.int v0, va_rf v1] = [(0, .int v0), (1, va_rf v1)] by simp [lv_args, zcat_rf, zcat_i, zcat_l, zcat_f, zcat_d]) ▸ w_X10_lambda_numberOperation_6 v0 v1 h, (plainFor_of_name (by decide)), by simp [lg_sl, zcat_rf, zcat_i, zcat_l, zcat_f, zcat_d], q3046, q153, hd0, by decide, by decide⟩
theorem w_X10_lambda_numberOperation_7 (v0 : Option Nat) (v1 : Int32) (v2 : Option Nat) (h : zH) : zS D z yX10_lambda_numberOperation_7 cX10_lambda_numberOperation_7 3 (some .int) [] 14 h 0 [(0, va_rf v0), (1, .int v1), (2, va_rf v2)] [] (f_X10_lambda_numberOperation_7 v0 v1 v2 h) := by
  unfold f_X10_lambda_numberOperation_7
  refine s_aload_n (pc := 0) 2 dX10_lambda_numberOperation_7_0 rfl rfl ?_
  refine s_iload_n (pc := 1) 1 dX10_lambda_numberOperation_7_1 rfl rfl ?_
  refine s_aload_n (pc := 2) 0 dX10_lambda_numberOperation_7_2 rfl rfl ?_
  refine s_gR (pc := 3) dX10_lambda_numberOperation_7_3 gf_X10_1 (fun r1 => ?_)
  refine s_gR (pc := 6) dX10_lambda_numberOperation_7_6 gf_X10_174 (fun r2 => ?_)
  refine zS_ite (fun ht => ?_) (fun _ => zS_none)
  refine s_callV (pc := 9) (np := 2) (as := [.int v1, va_rf r2]) (rest := []) dX10_lambda_numberOperation_7_9 ht (q := (RX2, TX2, 10)) rfl (c_X2_pass (by decide) v2 v1 r2 h) rfl rfl q3050 q2673 q2674 rfl (by decide) (zkI (fun x3 h4 => ?_)) zxo
  exact s_iret (pc := 12) dX10_lambda_numberOperation_7_12 rfl
theorem c_X10_lambda_numberOperation_7 {d0 : Nat} (hd0 : 14 < d0) (v0 : Option Nat) (v1 : Int32) (v2 : Option Nat) (h : zH) : zCal D z d0 h yX10_lambda_numberOperation_7 [va_rf v0, .int v1, va_rf v2] (f_X10_lambda_numberOperation_7 v0 v1 v2 h) :=
  ⟨cX10_lambda_numberOperation_7, 3, (some .int), [], 14, (show lv_args 0 [va_rf v0, .int v1, va_rf v2] = [(0, va_rf v0), (1, .int v1), (2, va_rf v2)] by simp [lv_args, zcat_rf, zcat_i, zcat_l, zcat_f, zcat_d]) ▸ w_X10_lambda_numberOperation_7 v0 v1 v2 h, (plainFor_of_name (by decide)), by simp [lg_sl, zcat_rf, zcat_i, zcat_l, zcat_f, zcat_d], q3049, q153, hd0, by decide, by decide⟩
theorem w_X10_lambda_numberOperation_8 (v0 : Int32) (v1 : Option Nat) (h : zH) : zS D z yX10_lambda_numberOperation_8 cX10_lambda_numberOperation_8 2 (some .int) [] 13 h 0 [(0, .int v0), (1, va_rf v1)] [] (f_X10_lambda_numberOperation_8 v0 v1 h) := by
  unfold f_X10_lambda_numberOperation_8
  refine s_aload_n (pc := 0) 1 dX10_lambda_numberOperation_8_0 rfl rfl ?_
  refine s_iload_n (pc := 1) 0 dX10_lambda_numberOperation_8_1 rfl rfl ?_
  refine zS_ite (fun ht => ?_) (fun _ => zS_none)
  refine s_callV (pc := 2) (np := 1) (as := [.int v0]) (rest := []) dX10_lambda_numberOperation_8_2 ht (q := (RX2, TX2, 10)) rfl (c_X2_placeBlock (by decide) v1 v0 h) rfl rfl q3053 q2732 q2733 rfl (by decide) (zkI (fun x1 h2 => ?_)) zxo
  exact s_iret (pc := 5) dX10_lambda_numberOperation_8_5 rfl
theorem c_X10_lambda_numberOperation_8 {d0 : Nat} (hd0 : 13 < d0) (v0 : Int32) (v1 : Option Nat) (h : zH) : zCal D z d0 h yX10_lambda_numberOperation_8 [.int v0, va_rf v1] (f_X10_lambda_numberOperation_8 v0 v1 h) :=
  ⟨cX10_lambda_numberOperation_8, 2, (some .int), [], 13, (show lv_args 0 [.int v0, va_rf v1] = [(0, .int v0), (1, va_rf v1)] by simp [lv_args, zcat_rf, zcat_i, zcat_l, zcat_f, zcat_d]) ▸ w_X10_lambda_numberOperation_8 v0 v1 h, (plainFor_of_name (by decide)), by simp [lg_sl, zcat_rf, zcat_i, zcat_l, zcat_f, zcat_d], q3052, q153, hd0, by decide, by decide⟩
theorem w_X10_lambda_numberOperation_9 (v0 : Int32) (v1 : Option Nat) (h : zH) : zS D z yX10_lambda_numberOperation_9 cX10_lambda_numberOperation_9 2 (some .int) [] 13 h 0 [(0, .int v0), (1, va_rf v1)] [] (f_X10_lambda_numberOperation_9 v0 v1 h) := by
  unfold f_X10_lambda_numberOperation_9
  refine s_aload_n (pc := 0) 1 dX10_lambda_numberOperation_9_0 rfl rfl ?_
  refine s_iload_n (pc := 1) 0 dX10_lambda_numberOperation_9_1 rfl rfl ?_
  refine zS_ite (fun ht => ?_) (fun _ => zS_none)
  refine s_callV (pc := 2) (np := 1) (as := [.int v0]) (rest := []) dX10_lambda_numberOperation_9_2 ht (q := (RX2, TX2, 10)) rfl (c_X2_removeBlock (by decide) v1 v0 h) rfl rfl q3056 q2757 q2758 rfl (by decide) (zkI (fun x1 h2 => ?_)) zxo
  exact s_iret (pc := 5) dX10_lambda_numberOperation_9_5 rfl
theorem c_X10_lambda_numberOperation_9 {d0 : Nat} (hd0 : 13 < d0) (v0 : Int32) (v1 : Option Nat) (h : zH) : zCal D z d0 h yX10_lambda_numberOperation_9 [.int v0, va_rf v1] (f_X10_lambda_numberOperation_9 v0 v1 h) :=
  ⟨cX10_lambda_numberOperation_9, 2, (some .int), [], 13, (show lv_args 0 [.int v0, va_rf v1] = [(0, .int v0), (1, va_rf v1)] by simp [lv_args, zcat_rf, zcat_i, zcat_l, zcat_f, zcat_d]) ▸ w_X10_lambda_numberOperation_9 v0 v1 h, (plainFor_of_name (by decide)), by simp [lg_sl, zcat_rf, zcat_i, zcat_l, zcat_f, zcat_d], q3055, q153, hd0, by decide, by decide⟩
theorem c_op_apply {d0 : Nat} (hd0 : 14 < d0) (v0 : Option Nat) (v1 : Option Nat) (h : zH) : zLC D z d0 h v0 [va_rf v1] ⟨"FloatingDock$Operation", "apply", "(LFloatingDock$Yard;)I"⟩ (f_op_apply v0 v1 h) :=
  zlamif (fun ht => zlv3_C ht (Or.inl rfl) (fun a fr c0 c1 c2 ha hm => Or.inr ⟨307, a, fr, [.int c0, .int c1, .int c2], zSh siteWord_1_8, ⟨#[0x2a, 0xb4, 0x00, 0x11, 0x2a, 0xb4, 0x00, 0x13, 0x2a, 0xb4, 0x00, 0x15, 0x2b, 0xb8, 0x00, 0x1d, 0xac]⟩, 2, [17, 19, 21], [true], 29, true, yX1_lambda_addShip_7, f_X1_lambda_addShip_7 c0 c1 c2 v1 h, ha, hm, rfl, rfl, by decide +kernel, by decide +kernel, zk_7, zc_7, by decide +kernel, by decide +kernel, c_X1_lambda_addShip_7 (Nat.lt_of_le_of_lt (by decide) hd0) c0 c1 c2 v1 h, rfl, rfl, rfl, rfl, (zKdR v1 zKd0), rfl, q2272⟩)) <|
  zlamif (fun ht => zlv1_C ht (Or.inl rfl) (fun a fr c0 ha hm => Or.inr ⟨308, a, fr, [.int c0], zSh siteWord_1_9, ⟨#[0x2a, 0xb4, 0x00, 0x0f, 0x2b, 0xb8, 0x00, 0x17, 0xac]⟩, 2, [15], [true], 23, true, yX1_lambda_removeShip_8, f_X1_lambda_removeShip_8 c0 v1 h, ha, hm, rfl, rfl, by decide +kernel, by decide +kernel, zk_8, zc_8, by decide +kernel, by decide +kernel, c_X1_lambda_removeShip_8 (Nat.lt_of_le_of_lt (by decide) hd0) c0 v1 h, rfl, rfl, rfl, rfl, (zKdR v1 zKd0), rfl, q2380⟩)) <|
  zlamif (fun ht => zlv2_C ht (Or.inl rfl) (fun a fr c0 c1 ha hm => Or.inr ⟨309, a, fr, [.int c0, .int c1], zSh siteWord_1_10, ⟨#[0x2a, 0xb4, 0x00, 0x10, 0x2a, 0xb4, 0x00, 0x12, 0x2b, 0xb8, 0x00, 0x1a, 0xac]⟩, 2, [16, 18], [true], 26, true, yX1_lambda_enter_9, f_X1_lambda_enter_9 c0 c1 v1 h, ha, hm, rfl, rfl, by decide +kernel, by decide +kernel, zk_9, zc_9, by decide +kernel, by decide +kernel, c_X1_lambda_enter_9 (Nat.lt_of_le_of_lt (by decide) hd0) c0 c1 v1 h, rfl, rfl, rfl, rfl, (zKdR v1 zKd0), rfl, q2443⟩)) <|
  zlamif (fun ht => zlv1_C ht (Or.inl rfl) (fun a fr c0 ha hm => Or.inr ⟨310, a, fr, [.int c0], zSh siteWord_1_11, ⟨#[0x2a, 0xb4, 0x00, 0x0f, 0x2b, 0xb8, 0x00, 0x17, 0xac]⟩, 2, [15], [true], 23, true, yX1_lambda_leave_10, f_X1_lambda_leave_10 c0 v1 h, ha, hm, rfl, rfl, by decide +kernel, by decide +kernel, zk_10, zc_10, by decide +kernel, by decide +kernel, c_X1_lambda_leave_10 (Nat.lt_of_le_of_lt (by decide) hd0) c0 v1 h, rfl, rfl, rfl, rfl, (zKdR v1 zKd0), rfl, q2494⟩)) <|
  zlamif (fun ht => zlv2_C ht (Or.inl rfl) (fun a fr c0 c1 ha hm => Or.inr ⟨311, a, fr, [.int c0, .int c1], zSh siteWord_1_12, ⟨#[0x2a, 0xb4, 0x00, 0x11, 0x2a, 0xb4, 0x00, 0x13, 0x2b, 0xb8, 0x00, 0x1b, 0xac]⟩, 2, [17, 19], [true], 27, true, yX1_lambda_setCleaning_11, f_X1_lambda_setCleaning_11 c0 c1 v1 h, ha, hm, rfl, rfl, by decide +kernel, by decide +kernel, zk_11, zc_11, by decide +kernel, by decide +kernel, c_X1_lambda_setCleaning_11 (Nat.lt_of_le_of_lt (by decide) hd0) c0 c1 v1 h, rfl, rfl, rfl, rfl, (zKdR v1 zKd0), rfl, q2512⟩)) <|
  zlamif (fun ht => zlv1_C ht (Or.inl rfl) (fun a fr c0 ha hm => Or.inr ⟨312, a, fr, [.int c0], zSh siteWord_1_13, ⟨#[0x2a, 0xb4, 0x00, 0x0f, 0x2b, 0xb8, 0x00, 0x17, 0xac]⟩, 2, [15], [true], 23, true, yX1_lambda_setGate_12, f_X1_lambda_setGate_12 c0 v1 h, ha, hm, rfl, rfl, by decide +kernel, by decide +kernel, zk_12, zc_12, by decide +kernel, by decide +kernel, c_X1_lambda_setGate_12 (Nat.lt_of_le_of_lt (by decide) hd0) c0 v1 h, rfl, rfl, rfl, rfl, (zKdR v1 zKd0), rfl, q2620⟩)) <|
  zlamif (fun ht => zlv1_C ht (Or.inl rfl) (fun a fr c0 ha hm => Or.inr ⟨313, a, fr, [.int c0], zSh siteWord_1_14, ⟨#[0x2a, 0xb4, 0x00, 0x0f, 0x2b, 0xb8, 0x00, 0x17, 0xac]⟩, 2, [15], [true], 23, true, yX1_lambda_setPump_13, f_X1_lambda_setPump_13 c0 v1 h, ha, hm, rfl, rfl, by decide +kernel, by decide +kernel, zk_13, zc_13, by decide +kernel, by decide +kernel, c_X1_lambda_setPump_13 (Nat.lt_of_le_of_lt (by decide) hd0) c0 v1 h, rfl, rfl, rfl, rfl, (zKdR v1 zKd0), rfl, q2639⟩)) <|
  zlamif (fun ht => zlvR_C ht (Or.inl rfl) (fun a fr b c1 eb ha hm hb => Or.inr ⟨314, a, fr, [.ref b, .int c1], zSh siteWord_1_15, ⟨#[0x2a, 0xb4, 0x00, 0x11, 0x2a, 0xb4, 0x00, 0x13, 0x2b, 0xb6, 0x00, 0x1b, 0xac]⟩, 2, [17, 19], [true], 27, false, yX1_lambda_pass_14, f_X1_lambda_pass_14 (some b) c1 v1 h, ha, hm, rfl, rfl, by decide +kernel, by decide +kernel, zk_14, zc_14, by decide +kernel, by decide +kernel, c_X1_lambda_pass_14 (Nat.lt_of_le_of_lt (by decide) hd0) (some b) c1 v1 h, rfl, rfl, rfl, rfl, (zKdR v1 zKd0), rfl, ⟨q2670, q2669, ⟨_, _, q1420, rfl⟩, ⟨_, _, eb, rfl, hb⟩⟩⟩)) <|
  zlamif (fun ht => zlv1_C ht (Or.inl rfl) (fun a fr c0 ha hm => Or.inr ⟨315, a, fr, [.int c0], zSh siteWord_1_16, ⟨#[0x2a, 0xb4, 0x00, 0x0f, 0x2b, 0xb8, 0x00, 0x17, 0xac]⟩, 2, [15], [true], 23, true, yX1_lambda_placeBlock_15, f_X1_lambda_placeBlock_15 c0 v1 h, ha, hm, rfl, rfl, by decide +kernel, by decide +kernel, zk_15, zc_15, by decide +kernel, by decide +kernel, c_X1_lambda_placeBlock_15 (Nat.lt_of_le_of_lt (by decide) hd0) c0 v1 h, rfl, rfl, rfl, rfl, (zKdR v1 zKd0), rfl, q2729⟩)) <|
  zlamif (fun ht => zlv1_C ht (Or.inl rfl) (fun a fr c0 ha hm => Or.inr ⟨316, a, fr, [.int c0], zSh siteWord_1_17, ⟨#[0x2a, 0xb4, 0x00, 0x0f, 0x2b, 0xb8, 0x00, 0x17, 0xac]⟩, 2, [15], [true], 23, true, yX1_lambda_removeBlock_16, f_X1_lambda_removeBlock_16 c0 v1 h, ha, hm, rfl, rfl, by decide +kernel, by decide +kernel, zk_16, zc_16, by decide +kernel, by decide +kernel, c_X1_lambda_removeBlock_16 (Nat.lt_of_le_of_lt (by decide) hd0) c0 v1 h, rfl, rfl, rfl, rfl, (zKdR v1 zKd0), rfl, q2754⟩)) <|
  zlamif (fun ht => zlv2_C ht (Or.inl rfl) (fun a fr c0 c1 ha hm => Or.inr ⟨317, a, fr, [.int c0, .int c1], zSh siteWord_1_18, ⟨#[0x2a, 0xb4, 0x00, 0x10, 0x2a, 0xb4, 0x00, 0x12, 0x2b, 0xb8, 0x00, 0x1a, 0xac]⟩, 2, [16, 18], [true], 26, true, yX1_lambda_pay_17, f_X1_lambda_pay_17 c0 c1 v1 h, ha, hm, rfl, rfl, by decide +kernel, by decide +kernel, zk_17, zc_17, by decide +kernel, by decide +kernel, c_X1_lambda_pay_17 (Nat.lt_of_le_of_lt (by decide) hd0) c0 c1 v1 h, rfl, rfl, rfl, rfl, (zKdR v1 zKd0), rfl, q2832⟩)) <|
  zlamif (fun ht => zlv3_C ht (Or.inl rfl) (fun a fr c0 c1 c2 ha hm => Or.inr ⟨318, a, fr, [.int c0, .int c1, .int c2], zSh siteWord_1_19, ⟨#[0x2a, 0xb4, 0x00, 0x11, 0x2a, 0xb4, 0x00, 0x13, 0x2a, 0xb4, 0x00, 0x15, 0x2b, 0xb8, 0x00, 0x1d, 0xac]⟩, 2, [17, 19, 21], [true], 29, true, yX10_lambda_shipOperation_0, f_X10_lambda_shipOperation_0 c0 c1 c2 v1 h, ha, hm, rfl, rfl, by decide +kernel, by decide +kernel, zk_18, zc_18, by decide +kernel, by decide +kernel, c_X10_lambda_shipOperation_0 (Nat.lt_of_le_of_lt (by decide) hd0) c0 c1 c2 v1 h, rfl, rfl, rfl, rfl, (zKdR v1 zKd0), rfl, q3002⟩)) <|
  zlamif (fun ht => zlv2_C ht (Or.inl rfl) (fun a fr c0 c1 ha hm => Or.inr ⟨319, a, fr, [.int c0, .int c1], zSh siteWord_1_20, ⟨#[0x2a, 0xb4, 0x00, 0x10, 0x2a, 0xb4, 0x00, 0x12, 0x2b, 0xb8, 0x00, 0x1a, 0xac]⟩, 2, [16, 18], [true], 26, true, yX10_lambda_enterOperation_1, f_X10_lambda_enterOperation_1 c0 c1 v1 h, ha, hm, rfl, rfl, by decide +kernel, by decide +kernel, zk_19, zc_19, by decide +kernel, by decide +kernel, c_X10_lambda_enterOperation_1 (Nat.lt_of_le_of_lt (by decide) hd0) c0 c1 v1 h, rfl, rfl, rfl, rfl, (zKdR v1 zKd0), rfl, q3009⟩)) <|
  zlamif (fun ht => zlv2_C ht (Or.inl rfl) (fun a fr c0 c1 ha hm => Or.inr ⟨320, a, fr, [.int c0, .int c1], zSh siteWord_1_21, ⟨#[0x2a, 0xb4, 0x00, 0x10, 0x2a, 0xb4, 0x00, 0x12, 0x2b, 0xb8, 0x00, 0x1a, 0xac]⟩, 2, [16, 18], [true], 26, true, yX10_lambda_payOperation_2, f_X10_lambda_payOperation_2 c0 c1 v1 h, ha, hm, rfl, rfl, by decide +kernel, by decide +kernel, zk_20, zc_20, by decide +kernel, by decide +kernel, c_X10_lambda_payOperation_2 (Nat.lt_of_le_of_lt (by decide) hd0) c0 c1 v1 h, rfl, rfl, rfl, rfl, (zKdR v1 zKd0), rfl, q3016⟩)) <|
  zlamif (fun ht => zlv1_C ht (Or.inl rfl) (fun a fr c0 ha hm => Or.inr ⟨321, a, fr, [.int c0], zSh siteWord_1_22, ⟨#[0x2a, 0xb4, 0x00, 0x0f, 0x2b, 0xb8, 0x00, 0x17, 0xac]⟩, 2, [15], [true], 23, true, yX10_lambda_pumpOperation_3, f_X10_lambda_pumpOperation_3 c0 v1 h, ha, hm, rfl, rfl, by decide +kernel, by decide +kernel, zk_21, zc_21, by decide +kernel, by decide +kernel, c_X10_lambda_pumpOperation_3 (Nat.lt_of_le_of_lt (by decide) hd0) c0 v1 h, rfl, rfl, rfl, rfl, (zKdR v1 zKd0), rfl, q3027⟩)) <|
  zlamif (fun ht => zlv0_C ht (Or.inl rfl) (fun a fr  ha hm => Or.inr ⟨322, a, fr, [], zSh siteWord_1_23, ⟨#[0x2b, 0xb8, 0x00, 0x11, 0xac]⟩, 2, [], [true], 17, true, yX10_lambda_operation_10, f_X10_lambda_operation_10 v1 h, ha, hm, rfl, rfl, by decide +kernel, by decide +kernel, zk_22, zc_22, by decide +kernel, by decide +kernel, c_X10_lambda_operation_10 (Nat.lt_of_le_of_lt (by decide) hd0) v1 h, rfl, rfl, rfl, rfl, (zKdR v1 zKd0), rfl, q3030⟩)) <|
  zlamif (fun ht => zlv0_C ht (Or.inl rfl) (fun a fr  ha hm => Or.inr ⟨323, a, fr, [], zSh siteWord_1_24, ⟨#[0x2b, 0xb8, 0x00, 0x11, 0xac]⟩, 2, [], [true], 17, true, yX10_lambda_operation_11, f_X10_lambda_operation_11 v1 h, ha, hm, rfl, rfl, by decide +kernel, by decide +kernel, zk_23, zc_23, by decide +kernel, by decide +kernel, c_X10_lambda_operation_11 (Nat.lt_of_le_of_lt (by decide) hd0) v1 h, rfl, rfl, rfl, rfl, (zKdR v1 zKd0), rfl, q3033⟩)) <|
  zlamif (fun ht => zlv1_C ht (Or.inl rfl) (fun a fr c0 ha hm => Or.inr ⟨324, a, fr, [.int c0], zSh siteWord_1_25, ⟨#[0x2a, 0xb4, 0x00, 0x0f, 0x2b, 0xb8, 0x00, 0x17, 0xac]⟩, 2, [15], [true], 23, true, yX10_lambda_numberOperation_4, f_X10_lambda_numberOperation_4 c0 v1 h, ha, hm, rfl, rfl, by decide +kernel, by decide +kernel, zk_24, zc_24, by decide +kernel, by decide +kernel, c_X10_lambda_numberOperation_4 (Nat.lt_of_le_of_lt (by decide) hd0) c0 v1 h, rfl, rfl, rfl, rfl, (zKdR v1 zKd0), rfl, q3039⟩)) <|
  zlamif (fun ht => zlv1_C ht (Or.inl rfl) (fun a fr c0 ha hm => Or.inr ⟨325, a, fr, [.int c0], zSh siteWord_1_26, ⟨#[0x2a, 0xb4, 0x00, 0x0f, 0x2b, 0xb8, 0x00, 0x17, 0xac]⟩, 2, [15], [true], 23, true, yX10_lambda_numberOperation_5, f_X10_lambda_numberOperation_5 c0 v1 h, ha, hm, rfl, rfl, by decide +kernel, by decide +kernel, zk_25, zc_25, by decide +kernel, by decide +kernel, c_X10_lambda_numberOperation_5 (Nat.lt_of_le_of_lt (by decide) hd0) c0 v1 h, rfl, rfl, rfl, rfl, (zKdR v1 zKd0), rfl, q3042⟩)) <|
  zlamif (fun ht => zlv1_C ht (Or.inl rfl) (fun a fr c0 ha hm => Or.inr ⟨326, a, fr, [.int c0], zSh siteWord_1_27, ⟨#[0x2a, 0xb4, 0x00, 0x0f, 0x2b, 0xb8, 0x00, 0x17, 0xac]⟩, 2, [15], [true], 23, true, yX10_lambda_numberOperation_6, f_X10_lambda_numberOperation_6 c0 v1 h, ha, hm, rfl, rfl, by decide +kernel, by decide +kernel, zk_26, zc_26, by decide +kernel, by decide +kernel, c_X10_lambda_numberOperation_6 (Nat.lt_of_le_of_lt (by decide) hd0) c0 v1 h, rfl, rfl, rfl, rfl, (zKdR v1 zKd0), rfl, q3045⟩)) <|
  zlamif (fun ht => zlvR_C ht (Or.inl rfl) (fun a fr b c1 eb ha hm hb => Or.inr ⟨327, a, fr, [.ref b, .int c1], zSh siteWord_1_28, ⟨#[0x2a, 0xb4, 0x00, 0x11, 0x2a, 0xb4, 0x00, 0x13, 0x2b, 0xb6, 0x00, 0x1b, 0xac]⟩, 2, [17, 19], [true], 27, false, yX10_lambda_numberOperation_7, f_X10_lambda_numberOperation_7 (some b) c1 v1 h, ha, hm, rfl, rfl, by decide +kernel, by decide +kernel, zk_27, zc_27, by decide +kernel, by decide +kernel, c_X10_lambda_numberOperation_7 (Nat.lt_of_le_of_lt (by decide) hd0) (some b) c1 v1 h, rfl, rfl, rfl, rfl, (zKdR v1 zKd0), rfl, ⟨q3048, q3047, ⟨_, _, q2888, rfl⟩, ⟨_, _, eb, rfl, hb⟩⟩⟩)) <|
  zlamif (fun ht => zlv1_C ht (Or.inl rfl) (fun a fr c0 ha hm => Or.inr ⟨328, a, fr, [.int c0], zSh siteWord_1_29, ⟨#[0x2a, 0xb4, 0x00, 0x0f, 0x2b, 0xb8, 0x00, 0x17, 0xac]⟩, 2, [15], [true], 23, true, yX10_lambda_numberOperation_8, f_X10_lambda_numberOperation_8 c0 v1 h, ha, hm, rfl, rfl, by decide +kernel, by decide +kernel, zk_28, zc_28, by decide +kernel, by decide +kernel, c_X10_lambda_numberOperation_8 (Nat.lt_of_le_of_lt (by decide) hd0) c0 v1 h, rfl, rfl, rfl, rfl, (zKdR v1 zKd0), rfl, q3051⟩)) <|
  zlamif (fun ht => zlv1_C ht (Or.inl rfl) (fun a fr c0 ha hm => Or.inr ⟨329, a, fr, [.int c0], zSh siteWord_1_30, ⟨#[0x2a, 0xb4, 0x00, 0x0f, 0x2b, 0xb8, 0x00, 0x17, 0xac]⟩, 2, [15], [true], 23, true, yX10_lambda_numberOperation_9, f_X10_lambda_numberOperation_9 c0 v1 h, ha, hm, rfl, rfl, by decide +kernel, by decide +kernel, zk_29, zc_29, by decide +kernel, by decide +kernel, c_X10_lambda_numberOperation_9 (Nat.lt_of_le_of_lt (by decide) hd0) c0 v1 h, rfl, rfl, rfl, rfl, (zKdR v1 zKd0), rfl, q3054⟩)) <|
  Or.inl rfl
theorem w_J6_inc (v0 : Int32) (v1 : Int32) (h : zH) : zS D z yJ6_inc cJ6_inc 2 (some .int) [] 1 h 0 [(0, .int v0), (1, .int v1)] [] (f_J6_inc v0 v1 h) := by
  unfold f_J6_inc
  refine s_inc (pc := 0) (v := 1) (L2 := [(1, .int v1)]) 0 [1] dJ6_inc_0 rfl (by decide) (by decide) rfl rfl (zcA rfl) (fun x1 => ?_)
  refine s_iload_n (pc := 3) 0 dJ6_inc_3 rfl rfl ?_
  refine s_iload_n (pc := 4) 1 dJ6_inc_4 rfl rfl ?_
  refine s_icmp_lt (pc := 5) (tgt := 10) dJ6_inc_5 (by decide) (fun _ => ?_) (fun _ => ?_)
  · refine s_iload_n (pc := 10) 0 dJ6_inc_10 rfl rfl ?_
    exact s_iret (pc := 11) dJ6_inc_11 rfl
  · refine s_iconst (pc := 8) (v := 0) dJ6_inc_8 (by decide) ?_
    refine s_ist_n (pc := 9) (L2 := []) [] dJ6_inc_9 rfl (by decide) rfl rfl (zcA rfl) ?_
    refine s_iload_n (pc := 10) 0 dJ6_inc_10 rfl rfl ?_
    exact s_iret (pc := 11) dJ6_inc_11 rfl
theorem c_J6_inc {d0 : Nat} (hd0 : 1 < d0) (v0 : Int32) (v1 : Int32) (h : zH) : zCal D z d0 h yJ6_inc [.int v0, .int v1] (f_J6_inc v0 v1 h) :=
  ⟨cJ6_inc, 2, (some .int), [], 1, (show lv_args 0 [.int v0, .int v1] = [(0, .int v0), (1, .int v1)] by simp [lv_args, zcat_rf, zcat_i, zcat_l, zcat_f, zcat_d]) ▸ w_J6_inc v0 v1 h, (plainFor_of_name (by decide)), by simp [lg_sl, zcat_rf, zcat_i, zcat_l, zcat_f, zcat_d], q783, q103, hd0, by decide, by decide⟩
theorem w_J6_addLast (v0 : Option Nat) (v1 : Option Nat) (h : zH) : zS D z yJ6_addLast cJ6_addLast 3 none [] 2 h 0 [(0, va_rf v0), (1, va_rf v1)] [] (f_J6_addLast v0 v1 h) := by
  unfold f_J6_addLast
  refine s_aload_n (pc := 0) 1 dJ6_addLast_0 rfl rfl ?_
  refine s_ifnonnull (pc := 1) (tgt := 12) dJ6_addLast_1 (by decide) (fun _ => ?_) (fun _ => ?_)
  · refine s_aload_n (pc := 12) 0 dJ6_addLast_12 rfl rfl ?_
    refine s_gR (pc := 13) dJ6_addLast_13 gf_J6_3 (fun r1 => ?_)
    refine s_ast_n (pc := 16) (L2 := [(0, va_rf v0), (1, va_rf v1)]) [0, 1] dJ6_addLast_16 rfl (by decide) rfl rfl (zcB (j := 1) rfl (zcat_rf v1) rfl) ?_
    refine s_aload_n (pc := 17) 0 dJ6_addLast_17 rfl rfl ?_
    refine s_aload_n (pc := 18) 1 dJ6_addLast_18 rfl rfl ?_
    refine s_gI (pc := 19) dJ6_addLast_19 gf_J6_20 (fun x2 => ?_)
    refine s_aload_n (pc := 22) 2 dJ6_addLast_22 rfl rfl ?_
    refine s_aast (pc := 23) dJ6_addLast_23 (ztc ⟨rfl, by decide⟩ zt0) zcs_java_lang_Object (fun h3 => ?_)
    refine s_aload_n (pc := 24) 1 dJ6_addLast_24 rfl rfl ?_
    refine s_gI (pc := 25) dJ6_addLast_25 gf_J6_24 (fun x4 => ?_)
    refine s_aload_n (pc := 28) 1 dJ6_addLast_28 rfl rfl ?_
    refine s_aload_n (pc := 29) 1 dJ6_addLast_29 rfl rfl ?_
    refine s_gI (pc := 30) dJ6_addLast_30 gf_J6_20 (fun x5 => ?_)
    refine s_aload_n (pc := 33) 0 dJ6_addLast_33 rfl rfl ?_
    refine s_alen (pc := 34) dJ6_addLast_34 zarrs_ok (fun x6 => ?_)
    refine s_callSS (pc := 35) (np := 2) (as := [.int x5, .int x6]) (rest := [va_rf v0, .int x4]) dJ6_addLast_35 (c_J6_inc (by decide) x5 x6 h3) rfl rfl q2324 q782 rfl (by simp [zcat_rf, zcat_i, zcat_l, zcat_f, zcat_d]) (zkI (fun x7 h8 => ?_)) zxo
    refine s_dup_x1 (pc := 38) dJ6_addLast_38 rfl (zcat_rf _) ?_
    refine s_putI (pc := 39) dJ6_addLast_39 pf_J6_20 (fun h9 => ?_)
    refine s_icmp_ne (pc := 42) (tgt := 50) dJ6_addLast_42 (by decide) (fun _ => ?_) (fun _ => ?_)
    · exact s_vret (pc := 50) dJ6_addLast_50 rfl
    · refine s_aload_n (pc := 45) 1 dJ6_addLast_45 rfl rfl ?_
      refine s_iconst (pc := 46) (v := 1) dJ6_addLast_46 (by decide) ?_
      exact zS_none
  · exact zS_none
theorem c_J6_addLast {d0 : Nat} (hd0 : 2 < d0) (v0 : Option Nat) (v1 : Option Nat) (h : zH) : zCal D z d0 h yJ6_addLast [va_rf v0, va_rf v1] (f_J6_addLast v0 v1 h) :=
  ⟨cJ6_addLast, 3, none, [], 2, (show lv_args 0 [va_rf v0, va_rf v1] = [(0, va_rf v0), (1, va_rf v1)] by simp [lv_args, zcat_rf, zcat_i, zcat_l, zcat_f, zcat_d]) ▸ w_J6_addLast v0 v1 h, (plainFor_of_name (by decide)), by simp [lg_sl, zcat_rf, zcat_i, zcat_l, zcat_f, zcat_d], q2323, q103, hd0, by decide, by decide⟩
theorem w_J6_sub (v0 : Int32) (v1 : Int32) (v2 : Int32) (h : zH) : zS D z yJ6_sub cJ6_sub 3 (some .int) [] 1 h 0 [(0, .int v0), (1, .int v1), (2, .int v2)] [] (f_J6_sub v0 v1 v2 h) := by
  unfold f_J6_sub
  refine s_iload_n (pc := 0) 0 dJ6_sub_0 rfl rfl ?_
  refine s_iload_n (pc := 1) 1 dJ6_sub_1 rfl rfl ?_
  refine s_isub (pc := 2) dJ6_sub_2 ?_
  refine s_nm (pc := 3) Value.int (fun x1 => ?_)
  refine s_dup (pc := 3) dJ6_sub_3 rfl ?_
  refine s_ist_n (pc := 4) (L2 := [(2, .int v2)]) [2] dJ6_sub_4 rfl (by decide) rfl rfl (zcA rfl) ?_
  refine s_if_ge (pc := 5) (tgt := 12) dJ6_sub_5 (by decide) (fun _ => ?_) (fun _ => ?_)
  · refine s_iload_n (pc := 12) 0 dJ6_sub_12 rfl rfl ?_
    exact s_iret (pc := 13) dJ6_sub_13 rfl
  · refine s_iload_n (pc := 8) 0 dJ6_sub_8 rfl rfl ?_
    refine s_iload_n (pc := 9) 1 dJ6_sub_9 rfl rfl ?_
    refine s_iadd (pc := 10) dJ6_sub_10 ?_
    refine s_nm (pc := 11) Value.int (fun x2 => ?_)
    refine s_ist_n (pc := 11) (L2 := []) [] dJ6_sub_11 rfl (by decide) rfl rfl (zcA rfl) ?_
    refine s_iload_n (pc := 12) 0 dJ6_sub_12 rfl rfl ?_
    exact s_iret (pc := 13) dJ6_sub_13 rfl
theorem c_J6_sub {d0 : Nat} (hd0 : 1 < d0) (v0 : Int32) (v1 : Int32) (v2 : Int32) (h : zH) : zCal D z d0 h yJ6_sub [.int v0, .int v1, .int v2] (f_J6_sub v0 v1 v2 h) :=
  ⟨cJ6_sub, 3, (some .int), [], 1, (show lv_args 0 [.int v0, .int v1, .int v2] = [(0, .int v0), (1, .int v1), (2, .int v2)] by simp [lv_args, zcat_rf, zcat_i, zcat_l, zcat_f, zcat_d]) ▸ w_J6_sub v0 v1 v2 h, (plainFor_of_name (by decide)), by simp [lg_sl, zcat_rf, zcat_i, zcat_l, zcat_f, zcat_d], q457, q103, hd0, by decide, by decide⟩
theorem w_J6_size (v0 : Option Nat) (h : zH) : zS D z yJ6_size cJ6_size 1 (some .int) [] 2 h 0 [(0, va_rf v0)] [] (f_J6_size v0 h) := by
  unfold f_J6_size
  refine s_aload_n (pc := 0) 0 dJ6_size_0 rfl rfl ?_
  refine s_gI (pc := 1) dJ6_size_1 gf_J6_20 (fun x1 => ?_)
  refine s_aload_n (pc := 4) 0 dJ6_size_4 rfl rfl ?_
  refine s_gI (pc := 5) dJ6_size_5 gf_J6_24 (fun x2 => ?_)
  refine s_aload_n (pc := 8) 0 dJ6_size_8 rfl rfl ?_
  refine s_gR (pc := 9) dJ6_size_9 gf_J6_3 (fun r3 => ?_)
  refine s_alen (pc := 12) dJ6_size_12 zarrs_ok (fun x4 => ?_)
  refine s_callSS (pc := 13) (np := 3) (as := [.int x1, .int x2, .int x4]) (rest := []) dJ6_size_13 (c_J6_sub (by decide) x1 x2 x4 h) rfl rfl q455 q456 rfl (by decide) (zkI (fun x5 h6 => ?_)) zxo
  exact s_iret (pc := 16) dJ6_size_16 rfl
theorem c_J6_size {d0 : Nat} (hd0 : 2 < d0) (v0 : Option Nat) (h : zH) : zCal D z d0 h yJ6_size [va_rf v0] (f_J6_size v0 h) :=
  ⟨cJ6_size, 1, (some .int), [], 2, (show lv_args 0 [va_rf v0] = [(0, va_rf v0)] by simp [lv_args, zcat_rf, zcat_i, zcat_l, zcat_f, zcat_d]) ▸ w_J6_size v0 h, (plainFor_of_name (by decide)), by simp [lg_sl, zcat_rf, zcat_i, zcat_l, zcat_f, zcat_d], q454, q103, hd0, by decide, by decide⟩
theorem w_J6_elementAt (v0 : Option Nat) (v1 : Int32) (h : zH) : zS D z yJ6_elementAt cJ6_elementAt 2 (some (.object "java/lang/Object")) [] 1 h 0 [(0, va_rf v0), (1, .int v1)] [] (f_J6_elementAt v0 v1 h) := by
  unfold f_J6_elementAt
  refine s_aload_n (pc := 0) 0 dJ6_elementAt_0 rfl rfl ?_
  refine s_iload_n (pc := 1) 1 dJ6_elementAt_1 rfl rfl ?_
  refine s_aald (pc := 2) dJ6_elementAt_2 zrefs_ok (fun r1 => ?_)
  exact s_aret (pc := 3) dJ6_elementAt_3 rfl (Or.inl ⟨_, rfl⟩)
theorem c_J6_elementAt {d0 : Nat} (hd0 : 1 < d0) (v0 : Option Nat) (v1 : Int32) (h : zH) : zCal D z d0 h yJ6_elementAt [va_rf v0, .int v1] (f_J6_elementAt v0 v1 h) :=
  ⟨cJ6_elementAt, 2, (some (.object "java/lang/Object")), [], 1, (show lv_args 0 [va_rf v0, .int v1] = [(0, va_rf v0), (1, .int v1)] by simp [lv_args, zcat_rf, zcat_i, zcat_l, zcat_f, zcat_d]) ▸ w_J6_elementAt v0 v1 h, (plainFor_of_name (by decide)), by simp [lg_sl, zcat_rf, zcat_i, zcat_l, zcat_f, zcat_d], q2354, q103, hd0, by decide, by decide⟩
theorem w_J6_pollFirst (v0 : Option Nat) (h : zH) : zS D z yJ6_pollFirst cJ6_pollFirst 4 (some (.object "java/lang/Object")) [] 2 h 0 [(0, va_rf v0)] [] (f_J6_pollFirst v0 h) := by
  unfold f_J6_pollFirst
  refine s_aload_n (pc := 0) 0 dJ6_pollFirst_0 rfl rfl ?_
  refine s_gR (pc := 1) dJ6_pollFirst_1 gf_J6_3 (fun r1 => ?_)
  refine s_dup (pc := 4) dJ6_pollFirst_4 (zcat_rf _) ?_
  refine s_ast_n (pc := 5) (L2 := [(0, va_rf v0)]) [0] dJ6_pollFirst_5 rfl (by decide) rfl rfl (zcB (j := 0) rfl (zcat_rf v0) rfl) ?_
  refine s_aload_n (pc := 6) 1 dJ6_pollFirst_6 rfl rfl ?_
  refine s_gI (pc := 7) dJ6_pollFirst_7 gf_J6_24 (fun x2 => ?_)
  refine s_dup (pc := 10) dJ6_pollFirst_10 rfl ?_
  refine s_ist_n (pc := 11) (L2 := [(1, va_rf r1), (0, va_rf v0)]) [0, 1] dJ6_pollFirst_11 rfl (by decide) rfl rfl (zcB (j := 0) rfl (zcat_rf r1) rfl) ?_
  refine s_callSS (pc := 12) (np := 2) (as := [va_rf r1, .int x2]) (rest := []) dJ6_pollFirst_12 (c_J6_elementAt (by decide) r1 x2 h) rfl rfl q2352 q2353 rfl (by decide) (zkR (fun r3 h4 => ?_)) zxo
  refine s_ast_n (pc := 15) (L2 := [(2, .int x2), (1, va_rf r1), (0, va_rf v0)]) [0, 1, 2] dJ6_pollFirst_15 rfl (by decide) rfl rfl (zcB (j := 0) rfl rfl rfl) ?_
  refine s_aload_n (pc := 16) 0 dJ6_pollFirst_16 rfl rfl ?_
  refine s_ifnull (pc := 17) (tgt := 34) dJ6_pollFirst_17 (by decide) (fun _ => ?_) (fun _ => ?_)
  · refine s_aload_n (pc := 34) 0 dJ6_pollFirst_34 rfl rfl ?_
    exact s_aret (pc := 35) dJ6_pollFirst_35 rfl (Or.inl ⟨_, rfl⟩)
  · refine s_aload_n (pc := 20) 2 dJ6_pollFirst_20 rfl rfl ?_
    refine s_iload_n (pc := 21) 1 dJ6_pollFirst_21 rfl rfl ?_
    refine s_null (pc := 22) dJ6_pollFirst_22 ?_
    refine s_aast (pc := 23) dJ6_pollFirst_23 (ztc ⟨rfl, by decide⟩ zt0) zcs_java_lang_Object (fun h5 => ?_)
    refine s_aload_n (pc := 24) 3 dJ6_pollFirst_24 rfl rfl ?_
    refine s_iload_n (pc := 25) 1 dJ6_pollFirst_25 rfl rfl ?_
    refine s_aload_n (pc := 26) 2 dJ6_pollFirst_26 rfl rfl ?_
    refine s_alen (pc := 27) dJ6_pollFirst_27 zarrs_ok (fun x6 => ?_)
    refine s_callSS (pc := 28) (np := 2) (as := [.int x2, .int x6]) (rest := [va_rf v0]) dJ6_pollFirst_28 (c_J6_inc (by decide) x2 x6 h5) rfl rfl q2324 q782 rfl (by simp [zcat_rf, zcat_i, zcat_l, zcat_f, zcat_d]) (zkI (fun x7 h8 => ?_)) zxo
    refine s_putI (pc := 31) dJ6_pollFirst_31 pf_J6_24 (fun h9 => ?_)
    refine s_aload_n (pc := 34) 0 dJ6_pollFirst_34 rfl rfl ?_
    exact s_aret (pc := 35) dJ6_pollFirst_35 rfl (Or.inl ⟨_, rfl⟩)
theorem c_J6_pollFirst {d0 : Nat} (hd0 : 2 < d0) (v0 : Option Nat) (h : zH) : zCal D z d0 h yJ6_pollFirst [va_rf v0] (f_J6_pollFirst v0 h) :=
  ⟨cJ6_pollFirst, 4, (some (.object "java/lang/Object")), [], 2, (show lv_args 0 [va_rf v0] = [(0, va_rf v0)] by simp [lv_args, zcat_rf, zcat_i, zcat_l, zcat_f, zcat_d]) ▸ w_J6_pollFirst v0 h, (plainFor_of_name (by decide)), by simp [lg_sl, zcat_rf, zcat_i, zcat_l, zcat_f, zcat_d], q2351, q103, hd0, by decide, by decide⟩
theorem w_J6_removeFirst (v0 : Option Nat) (h : zH) : zS D z yJ6_removeFirst cJ6_removeFirst 2 (some (.object "java/lang/Object")) [] 8 h 0 [(0, va_rf v0)] [] (f_J6_removeFirst v0 h) := by
  unfold f_J6_removeFirst
  refine s_aload_n (pc := 0) 0 dJ6_removeFirst_0 rfl rfl ?_
  refine zS_ite (fun ht => ?_) (fun _ => zS_none)
  refine s_callV (pc := 1) (np := 0) (as := []) (rest := []) dJ6_removeFirst_1 ht (q := (RJ6, TJ6, 3)) rfl (c_J6_pollFirst (by decide) v0 h) rfl rfl q2348 q2349 q2350 rfl (by decide) (zkR (fun r1 h2 => ?_)) zxo
  refine s_ast_n (pc := 4) (L2 := []) [] dJ6_removeFirst_4 rfl (by decide) rfl rfl (zcA rfl) ?_
  refine s_aload_n (pc := 5) 0 dJ6_removeFirst_5 rfl rfl ?_
  refine s_ifnonnull (pc := 6) (tgt := 17) dJ6_removeFirst_6 (by decide) (fun _ => ?_) (fun _ => ?_)
  · refine s_aload_n (pc := 17) 0 dJ6_removeFirst_17 rfl rfl ?_
    exact s_aret (pc := 18) dJ6_removeFirst_18 rfl (Or.inl ⟨_, rfl⟩)
  · refine s_make0 (pc := 9) dJ6_removeFirst_9 dJ6_removeFirst_12 dJ6_removeFirst_13 xf_J6_97_99 (by decide) (by decide) (fun r3 h4 => ?_)
    exact s_athrow (pc := 16) dJ6_removeFirst_16 rfl (fun x => zxo x _)
theorem c_J6_removeFirst {d0 : Nat} (hd0 : 8 < d0) (v0 : Option Nat) (h : zH) : zCal D z d0 h yJ6_removeFirst [va_rf v0] (f_J6_removeFirst v0 h) :=
  ⟨cJ6_removeFirst, 2, (some (.object "java/lang/Object")), [], 8, (show lv_args 0 [va_rf v0] = [(0, va_rf v0)] by simp [lv_args, zcat_rf, zcat_i, zcat_l, zcat_f, zcat_d]) ▸ w_J6_removeFirst v0 h, (plainFor_of_name (by decide)), by simp [lg_sl, zcat_rf, zcat_i, zcat_l, zcat_f, zcat_d], q2347, q103, hd0, by decide, by decide⟩
theorem w_X1_finish_34 (a0 : Option Nat) (a1 : Option Nat) (a2 : Int32) (h : zH) : zS D z yX1_finish cX1_finish 4 (some .int) [] 9 h 34 [(0, va_rf a0), (1, va_rf a1), (2, .int a2)] [] (f_X1_finish_34 a0 a1 a2 h) := by
  unfold f_X1_finish_34
  refine s_aload_n (pc := 34) 0 dX1_finish_34 rfl rfl ?_
  refine s_aload_n (pc := 35) 1 dX1_finish_35 rfl rfl ?_
  refine s_putR (pc := 36) dX1_finish_36 pf_X1_30 (fun h10 => ?_)
  refine s_iload_n (pc := 39) 2 dX1_finish_39 rfl rfl ?_
  exact s_iret (pc := 40) dX1_finish_40 rfl
theorem w_X1_finish (v0 : Option Nat) (v1 : Option Nat) (v2 : Int32) (h : zH) : zS D z yX1_finish cX1_finish 4 (some .int) [] 9 h 0 [(0, va_rf v0), (1, va_rf v1), (2, .int v2)] [] (f_X1_finish v0 v1 v2 h) := by
  unfold f_X1_finish
  refine s_aload_n (pc := 0) 0 dX1_finish_0 rfl rfl ?_
  refine s_gR (pc := 1) dX1_finish_1 gf_X1_37 (fun r1 => ?_)
  refine s_aload_n (pc := 4) 0 dX1_finish_4 rfl rfl ?_
  refine s_gR (pc := 5) dX1_finish_5 gf_X1_30 (fun r2 => ?_)
  refine zS_ite (fun ht => ?_) (fun _ => zS_none)
  refine s_callV (pc := 8) (np := 1) (as := [va_rf r2]) (rest := []) dX1_finish_8 ht (q := (RJ6, TJ6, 3)) rfl (c_J6_addLast (by decide) r1 r2 h) rfl rfl q2320 q2321 q2322 rfl (by decide) (zkV (fun h3 => ?_)) zxo
  refine s_aload_n (pc := 11) 0 dX1_finish_11 rfl rfl ?_
  refine s_gR (pc := 12) dX1_finish_12 gf_X1_37 (fun r4 => ?_)
  refine zS_ite (fun ht => ?_) (fun _ => zS_none)
  refine s_callV (pc := 15) (np := 0) (as := []) (rest := []) dX1_finish_15 ht (q := (RJ6, TJ6, 3)) rfl (c_J6_size (by decide) r4 h3) rfl rfl q2343 q452 q453 rfl (by decide) (zkI (fun x5 h6 => ?_)) zxo
  refine s_bipush (pc := 18) (v := 8) dX1_finish_18 (by decide) ?_
  refine s_icmp_le (pc := 20) (tgt := 34) dX1_finish_20 (by decide) (fun _ => ?_) (fun _ => ?_)
  · exact s_sub (pc := 34) [0, 1, 2] rfl (w_X1_finish_34 v0 v1 v2 h6)
  · refine s_aload_n (pc := 23) 0 dX1_finish_23 rfl rfl ?_
    refine s_gR (pc := 24) dX1_finish_24 gf_X1_37 (fun r7 => ?_)
    refine zS_ite (fun ht => ?_) (fun _ => zS_none)
    refine s_callV (pc := 27) (np := 0) (as := []) (rest := []) dX1_finish_27 ht (q := (RJ6, TJ6, 3)) rfl (c_J6_removeFirst (by decide) r7 h6) rfl rfl q2344 q2345 q2346 rfl (by decide) (zkR (fun r8 h9 => ?_)) zxo
    refine s_cast (pc := 30) dX1_finish_30 q172 zcs_FloatingDock_Yard ?_
    refine s_ast_n (pc := 33) (L2 := [(0, va_rf v0), (1, va_rf v1), (2, .int v2)]) [0, 1, 2] dX1_finish_33 rfl (by decide) rfl rfl (zcB (j := 2) rfl rfl rfl) ?_
    exact s_sub (pc := 34) [1, 2, 3] rfl (w_X1_finish_34 v0 v1 v2 h9)
theorem c_X1_finish {d0 : Nat} (hd0 : 9 < d0) (v0 : Option Nat) (v1 : Option Nat) (v2 : Int32) (h : zH) : zCal D z d0 h yX1_finish [va_rf v0, va_rf v1, .int v2] (f_X1_finish v0 v1 v2 h) :=
  ⟨cX1_finish, 4, (some .int), [], 9, (show lv_args 0 [va_rf v0, va_rf v1, .int v2] = [(0, va_rf v0), (1, va_rf v1), (2, .int v2)] by simp [lv_args, zcat_rf, zcat_i, zcat_l, zcat_f, zcat_d]) ▸ w_X1_finish v0 v1 v2 h, (plainFor_of_name (by decide)), by simp [lg_sl, zcat_rf, zcat_i, zcat_l, zcat_f, zcat_d], q2319, q95, hd0, by decide, by decide⟩
theorem w_X1_change_25 (a0 : Option Nat) (s0 : Option Nat) (h : zH) : zS D z yX1_change cX1_change 4 (some .int) [(12, 24, 25, 98)] 16 h 25 [(0, va_rf a0)] [va_rf s0] (f_X1_change_25 a0 s0 h) := by
  unfold f_X1_change_25
  refine s_ast_n (pc := 25) (L2 := [(0, va_rf a0)]) [0] dX1_change_25 rfl (by decide) rfl rfl (zcA rfl) ?_
  refine s_aload_n (pc := 26) 1 dX1_change_26 rfl rfl ?_
  refine s_aload_n (pc := 27) 0 dX1_change_27 rfl rfl ?_
  refine s_gI (pc := 28) dX1_change_28 gf_X1_116 (fun x13 => ?_)
  refine s_putI (pc := 31) dX1_change_31 pf_X1_119 (fun h14 => ?_)
  refine s_make0 (pc := 34) dX1_change_34 dX1_change_37 dX1_change_38 xf_X1_95_97 (by decide) (by decide) (fun r15 h16 => ?_)
  exact s_athrow (pc := 41) dX1_change_41 rfl (fun x => (zxo1 rfl) x _)
theorem w_X1_change (v0 : Option Nat) (v1 : Option Nat) (h : zH) : zS D z yX1_change cX1_change 4 (some .int) [(12, 24, 25, 98)] 16 h 0 [(0, va_rf v0), (1, va_rf v1)] [] (f_X1_change v0 v1 h) := by
  unfold f_X1_change
  refine s_new (pc := 0) dX1_change_0 nf_X1_27 (fun r1 h2 => ?_)
  refine s_dup (pc := 3) dX1_change_3 (zcat_rf _) ?_
  refine s_aload_n (pc := 4) 0 dX1_change_4 rfl rfl ?_
  refine s_gR (pc := 5) dX1_change_5 gf_X1_30 (fun r3 => ?_)
  refine zS_ite (fun hr => ?_) (fun _ => zS_none)
  refine s_callC (pc := 8) (np := 1) (as := [va_rf r3]) (rest := [va_rf r1]) dX1_change_8 hr (c_X2_init_2 (by decide) r1 r3 h2) ⟨_, _, q1994⟩ rfl rfl rfl q1992 q1993 rfl (by simp [zcat_rf, zcat_i, zcat_l, zcat_f, zcat_d]) (zkV (fun h4 => ?_)) (zxo1 rfl)
  refine s_ast_n (pc := 11) (L2 := [(0, va_rf v0), (1, va_rf v1)]) [0, 1] dX1_change_11 rfl (by decide) rfl rfl (zcB (j := 1) rfl (zcat_rf v1) rfl) ?_
  refine s_aload_n (pc := 12) 1 dX1_change_12 rfl rfl ?_
  refine s_aload_n (pc := 13) 0 dX1_change_13 rfl rfl ?_
  refine s_aload_n (pc := 14) 2 dX1_change_14 rfl rfl ?_
  refine s_aload_n (pc := 15) 0 dX1_change_15 rfl rfl ?_
  refine s_callL (pc := 16) (np := 1) (as := [va_rf r1]) (rest := [va_rf r1, va_rf v0]) (d' := 15) dX1_change_16 (by decide) (c_op_apply (by decide) v1 r1 h4) rfl rfl q2313 rfl (by simp [zcat_rf, zcat_i, zcat_l, zcat_f, zcat_d]) (zkI (fun x7 h8 => ?_)) (fun e6 h5 => zT_ite (fun hx => (zT_out (fun q hq => by rw [hx] at hq; cases hq; exact (zpn (by decide) q2311 (by decide +kernel) zp0)))) (fun _ => zT_ite (fun hx => (zT_out (fun q hq => by rw [hx] at hq; cases hq; exact (zpn (by decide) q2311 (by decide +kernel) zp0)))) (fun _ => zT_ite (fun hx => (zT_out (fun q hq => by rw [hx] at hq; cases hq; exact (zpn (by decide) q2311 (by decide +kernel) zp0)))) (fun _ => zT_ite (fun hx => (zT_out (fun q hq => by rw [hx] at hq; cases hq; exact (zpn (by decide) q2311 (by decide +kernel) zp0)))) (fun _ => zT_ite (fun hx => (zT_out (fun q hq => by rw [hx] at hq; cases hq; exact (zpn (by decide) q2311 (by decide +kernel) zp0)))) (fun _ => zT_ite (fun hx => (zT_out (fun q hq => by rw [hx] at hq; cases hq; exact (zpn (by decide) q2311 (by decide +kernel) zp0)))) (fun _ => zT_ite (fun hx => (zT_catch (q := (RX7, TX7, 7)) [] (12, 24, 25, 98) [] rfl (by rw [hx]; rfl) zp0 rfl (by decide) q2311 (Or.inl rfl) rfl (by exact s_sub (pc := 25) [1] rfl (w_X1_change_25 v0 (some e6.2) h5)))) (fun _ => zT_ite (fun hx => (zT_out (fun q hq => by rw [hx] at hq; cases hq; exact (zpn (by decide) q2311 (by decide +kernel) zp0)))) (fun _ => zT_none)))))))))
  refine zS_ite (fun ht => ?_) (fun _ => zS_none)
  refine s_callV (pc := 21) (np := 2) (as := [va_rf r1, .int x7]) (rest := []) dX1_change_21 ht (q := (RX1, TX1, 11)) rfl (c_X1_finish (by decide) v0 r1 x7 h8) rfl rfl q2316 q2318 qs18 rfl (by decide) (zkI (fun x11 h12 => ?_)) (fun e10 h9 => zT_ite (fun hx => (zT_out (fun q hq => by rw [hx] at hq; cases hq; exact (zpn (by decide) q2311 (by decide +kernel) zp0)))) (fun _ => zT_ite (fun hx => (zT_out (fun q hq => by rw [hx] at hq; cases hq; exact (zpn (by decide) q2311 (by decide +kernel) zp0)))) (fun _ => zT_ite (fun hx => (zT_out (fun q hq => by rw [hx] at hq; cases hq; exact (zpn (by decide) q2311 (by decide +kernel) zp0)))) (fun _ => zT_ite (fun hx => (zT_out (fun q hq => by rw [hx] at hq; cases hq; exact (zpn (by decide) q2311 (by decide +kernel) zp0)))) (fun _ => zT_ite (fun hx => (zT_out (fun q hq => by rw [hx] at hq; cases hq; exact (zpn (by decide) q2311 (by decide +kernel) zp0)))) (fun _ => zT_ite (fun hx => (zT_out (fun q hq => by rw [hx] at hq; cases hq; exact (zpn (by decide) q2311 (by decide +kernel) zp0)))) (fun _ => zT_ite (fun hx => (zT_catch (q := (RX7, TX7, 7)) [] (12, 24, 25, 98) [] rfl (by rw [hx]; rfl) zp0 rfl (by decide) q2311 (Or.inl rfl) rfl (by exact s_sub (pc := 25) [1] rfl (w_X1_change_25 v0 (some e10.2) h9)))) (fun _ => zT_ite (fun hx => (zT_out (fun q hq => by rw [hx] at hq; cases hq; exact (zpn (by decide) q2311 (by decide +kernel) zp0)))) (fun _ => zT_none)))))))))
  exact s_iret (pc := 24) dX1_change_24 rfl
theorem c_X1_change {d0 : Nat} (hd0 : 16 < d0) (v0 : Option Nat) (v1 : Option Nat) (h : zH) : zCal D z d0 h yX1_change [va_rf v0, va_rf v1] (f_X1_change v0 v1 h) :=
  ⟨cX1_change, 4, (some .int), [(12, 24, 25, 98)], 16, (show lv_args 0 [va_rf v0, va_rf v1] = [(0, va_rf v0), (1, va_rf v1)] by simp [lv_args, zcat_rf, zcat_i, zcat_l, zcat_f, zcat_d]) ▸ w_X1_change v0 v1 h, (plainFor_of_name (by decide)), by simp [lg_sl, zcat_rf, zcat_i, zcat_l, zcat_f, zcat_d], q2310, q95, hd0, by decide, by decide⟩
theorem w_X1_addShip (v0 : Option Nat) (v1 : Int32) (v2 : Int32) (v3 : Int32) (h : zH) : zS D z yX1_addShip cX1_addShip 4 (some .int) [] 50 h 0 [(0, va_rf v0), (1, .int v1), (2, .int v2), (3, .int v3)] [] (f_X1_addShip v0 v1 v2 v3 h) := by
  unfold f_X1_addShip
  refine s_aload_n (pc := 0) 0 dX1_addShip_0 rfl rfl ?_
  refine s_iload_n (pc := 1) 1 dX1_addShip_1 rfl rfl ?_
  refine s_iload_n (pc := 2) 2 dX1_addShip_2 rfl rfl ?_
  refine s_iload_n (pc := 3) 3 dX1_addShip_3 rfl rfl ?_
  refine s_lamM (pc := 4) (t := 307) (q := zSh siteWord_1_8) (vals := [.int v1, .int v2, .int v3]) (rest := [va_rf v0]) dX1_addShip_4 rfl rfl rfl rfl rfl rfl zk_7 ⟨zok_i _, ⟨zok_i _, ⟨zok_i _, trivial⟩⟩⟩ rfl (by simp [zcat_rf, zcat_i, zcat_l, zcat_f, zcat_d]) (by decide) (fun r1 h2 => ?_)
  refine zS_ite (fun ht => ?_) (fun _ => zS_none)
  refine s_callV (pc := 9) (np := 1) (as := [va_rf r1]) (rest := []) dX1_addShip_9 ht (q := (RX1, TX1, 11)) rfl (c_X1_change (by decide) v0 r1 h2) rfl rfl q2307 q2309 qs17 rfl (by decide) (zkI (fun x3 h4 => ?_)) zxo
  exact s_iret (pc := 12) dX1_addShip_12 rfl
theorem c_X1_addShip {d0 : Nat} (hd0 : 50 < d0) (v0 : Option Nat) (v1 : Int32) (v2 : Int32) (v3 : Int32) (h : zH) : zCal D z d0 h yX1_addShip [va_rf v0, .int v1, .int v2, .int v3] (f_X1_addShip v0 v1 v2 v3 h) :=
  ⟨cX1_addShip, 4, (some .int), [], 50, (show lv_args 0 [va_rf v0, .int v1, .int v2, .int v3] = [(0, va_rf v0), (1, .int v1), (2, .int v2), (3, .int v3)] by simp [lv_args, zcat_rf, zcat_i, zcat_l, zcat_f, zcat_d]) ▸ w_X1_addShip v0 v1 v2 v3 h, (plainFor_of_name (by decide)), by simp [lg_sl, zcat_rf, zcat_i, zcat_l, zcat_f, zcat_d], q2271, q95, hd0, by decide, by decide⟩
theorem w_X0_addShip_15 (s0 : Option Nat) (h : zH) : zS D z yX0_addShip cX0_addShip 6 (some .int) [(0, 12, 15, 13), (0, 12, 19, 15)] 51 h 15 [] [va_rf s0] (f_X0_addShip_15 s0 h) := by
  unfold f_X0_addShip_15
  refine s_ast (pc := 15) (L2 := []) [] dX0_addShip_15 (by decide) rfl rfl (zcA rfl) ?_
  refine s_iconst (pc := 17) (v := 1) dX0_addShip_17 (by decide) ?_
  exact s_iret (pc := 18) dX0_addShip_18 rfl
theorem w_X0_addShip_19 (s0 : Option Nat) (h : zH) : zS D z yX0_addShip cX0_addShip 6 (some .int) [(0, 12, 15, 13), (0, 12, 19, 15)] 51 h 19 [] [va_rf s0] (f_X0_addShip_19 s0 h) := by
  unfold f_X0_addShip_19
  refine s_ast (pc := 19) (L2 := []) [] dX0_addShip_19 (by decide) rfl rfl (zcA rfl) ?_
  refine s_iconst (pc := 21) (v := 2) dX0_addShip_21 (by decide) ?_
  exact s_iret (pc := 22) dX0_addShip_22 rfl
theorem w_X0_addShip (v0 : Option Nat) (v1 : Int32) (v2 : Int32) (v3 : Int32) (v4 : Option Nat) (h : zH) : zS D z yX0_addShip cX0_addShip 6 (some .int) [(0, 12, 15, 13), (0, 12, 19, 15)] 51 h 0 [(0, va_rf v0), (1, .int v1), (2, .int v2), (3, .int v3), (4, va_rf v4)] [] (f_X0_addShip v0 v1 v2 v3 v4 h) := by
  unfold f_X0_addShip
  refine s_aload (pc := 0) 4 dX0_addShip_0 rfl ?_
  refine s_iconst (pc := 2) (v := 0) dX0_addShip_2 (by decide) ?_
  refine s_aload_n (pc := 3) 0 dX0_addShip_3 rfl rfl ?_
  refine s_iload_n (pc := 4) 1 dX0_addShip_4 rfl rfl ?_
  refine s_iload_n (pc := 5) 2 dX0_addShip_5 rfl rfl ?_
  refine s_iload_n (pc := 6) 3 dX0_addShip_6 rfl rfl ?_
  refine zS_ite (fun ht => ?_) (fun _ => zS_none)
  refine s_callV (pc := 7) (np := 3) (as := [.int v1, .int v2, .int v3]) (rest := [.int 0, va_rf v4]) dX0_addShip_7 ht (q := (RX1, TX1, 11)) rfl (c_X1_addShip (by decide) v0 v1 v2 v3 h) rfl rfl q2268 q2269 q2270 rfl (by simp [zcat_rf, zcat_i, zcat_l, zcat_f, zcat_d]) (zkI (fun x3 h4 => ?_)) (fun e2 h1 => zT_ite (fun hx => (zT_catch (q := (RJ34, TJ34, 0)) [] (0, 12, 15, 13) [(0, 12, 19, 15)] rfl (by rw [hx]; rfl) zp0 rfl (by decide) q2266 (Or.inl rfl) rfl (by exact s_sub (pc := 15) [] rfl (w_X0_addShip_15 (some e2.2) h1)))) (fun _ => zT_ite (fun hx => (zT_catch (q := (RJ39, TJ39, 0)) [(0, 12, 15, 13)] (0, 12, 19, 15) [] rfl (by rw [hx]; rfl) (zpn (by decide) q2266 (by decide +kernel) zp0) rfl (by decide) q2267 (Or.inl rfl) rfl (by exact s_sub (pc := 19) [] rfl (w_X0_addShip_19 (some e2.2) h1)))) (fun _ => zT_ite (fun hx => (zT_out (fun q hq => by rw [hx] at hq; cases hq; exact (zpn (by decide) q2266 (by decide +kernel) (zpn (by decide) q2267 (by decide +kernel) zp0))))) (fun _ => zT_ite (fun hx => (zT_out (fun q hq => by rw [hx] at hq; cases hq; exact (zpn (by decide) q2266 (by decide +kernel) (zpn (by decide) q2267 (by decide +kernel) zp0))))) (fun _ => zT_ite (fun hx => (zT_out (fun q hq => by rw [hx] at hq; cases hq; exact (zpn (by decide) q2266 (by decide +kernel) (zpn (by decide) q2267 (by decide +kernel) zp0))))) (fun _ => zT_ite (fun hx => (zT_out (fun q hq => by rw [hx] at hq; cases hq; exact (zpn (by decide) q2266 (by decide +kernel) (zpn (by decide) q2267 (by decide +kernel) zp0))))) (fun _ => zT_ite (fun hx => (zT_out (fun q hq => by rw [hx] at hq; cases hq; exact (zpn (by decide) q2266 (by decide +kernel) (zpn (by decide) q2267 (by decide +kernel) zp0))))) (fun _ => zT_ite (fun hx => (zT_out (fun q hq => by rw [hx] at hq; cases hq; exact (zpn (by decide) q2266 (by decide +kernel) (zpn (by decide) q2267 (by decide +kernel) zp0))))) (fun _ => zT_none)))))))))
  refine s_i2l (pc := 10) dX0_addShip_10 ?_
  refine s_last (pc := 11) dX0_addShip_11 (ztc rfl zt0) (fun h5 => ?_)
  refine s_goto (pc := 12) (tgt := 23) dX0_addShip_12 (by decide) ?_
  refine s_iconst (pc := 23) (v := 0) dX0_addShip_23 (by decide) ?_
  exact s_iret (pc := 24) dX0_addShip_24 rfl
theorem c_X0_addShip {d0 : Nat} (hd0 : 51 < d0) (v0 : Option Nat) (v1 : Int32) (v2 : Int32) (v3 : Int32) (v4 : Option Nat) (h : zH) : zCal D z d0 h yX0_addShip [va_rf v0, .int v1, .int v2, .int v3, va_rf v4] (f_X0_addShip v0 v1 v2 v3 v4 h) :=
  ⟨cX0_addShip, 6, (some .int), [(0, 12, 15, 13), (0, 12, 19, 15)], 51, (show lv_args 0 [va_rf v0, .int v1, .int v2, .int v3, va_rf v4] = [(0, va_rf v0), (1, .int v1), (2, .int v2), (3, .int v3), (4, va_rf v4)] by simp [lv_args, zcat_rf, zcat_i, zcat_l, zcat_f, zcat_d]) ▸ w_X0_addShip v0 v1 v2 v3 v4 h, (plainFor_of_name (by decide)), by simp [lg_sl, zcat_rf, zcat_i, zcat_l, zcat_f, zcat_d], q2265, q94, hd0, by decide, by decide⟩
theorem w_X1_removeShip (v0 : Option Nat) (v1 : Int32) (h : zH) : zS D z yX1_removeShip cX1_removeShip 2 (some .int) [] 50 h 0 [(0, va_rf v0), (1, .int v1)] [] (f_X1_removeShip v0 v1 h) := by
  unfold f_X1_removeShip
  refine s_aload_n (pc := 0) 0 dX1_removeShip_0 rfl rfl ?_
  refine s_iload_n (pc := 1) 1 dX1_removeShip_1 rfl rfl ?_
  refine s_lamM (pc := 2) (t := 308) (q := zSh siteWord_1_9) (vals := [.int v1]) (rest := [va_rf v0]) dX1_removeShip_2 rfl rfl rfl rfl rfl rfl zk_8 ⟨zok_i _, trivial⟩ rfl (by simp [zcat_rf, zcat_i, zcat_l, zcat_f, zcat_d]) (by decide) (fun r1 h2 => ?_)
  refine zS_ite (fun ht => ?_) (fun _ => zS_none)
  refine s_callV (pc := 7) (np := 1) (as := [va_rf r1]) (rest := []) dX1_removeShip_7 ht (q := (RX1, TX1, 11)) rfl (c_X1_change (by decide) v0 r1 h2) rfl rfl q2307 q2309 qs17 rfl (by decide) (zkI (fun x3 h4 => ?_)) zxo
  exact s_iret (pc := 10) dX1_removeShip_10 rfl
theorem c_X1_removeShip {d0 : Nat} (hd0 : 50 < d0) (v0 : Option Nat) (v1 : Int32) (h : zH) : zCal D z d0 h yX1_removeShip [va_rf v0, .int v1] (f_X1_removeShip v0 v1 h) :=
  ⟨cX1_removeShip, 2, (some .int), [], 50, (show lv_args 0 [va_rf v0, .int v1] = [(0, va_rf v0), (1, .int v1)] by simp [lv_args, zcat_rf, zcat_i, zcat_l, zcat_f, zcat_d]) ▸ w_X1_removeShip v0 v1 h, (plainFor_of_name (by decide)), by simp [lg_sl, zcat_rf, zcat_i, zcat_l, zcat_f, zcat_d], q2379, q95, hd0, by decide, by decide⟩
theorem w_X0_removeShip_12 (s0 : Option Nat) (h : zH) : zS D z yX0_removeShip cX0_removeShip 4 (some .int) [(0, 9, 12, 21), (0, 9, 15, 15)] 51 h 12 [] [va_rf s0] (f_X0_removeShip_12 s0 h) := by
  unfold f_X0_removeShip_12
  refine s_ast_n (pc := 12) (L2 := []) [] dX0_removeShip_12 rfl (by decide) rfl rfl (zcA rfl) ?_
  refine s_iconst (pc := 13) (v := 1) dX0_removeShip_13 (by decide) ?_
  exact s_iret (pc := 14) dX0_removeShip_14 rfl
theorem w_X0_removeShip_15 (s0 : Option Nat) (h : zH) : zS D z yX0_removeShip cX0_removeShip 4 (some .int) [(0, 9, 12, 21), (0, 9, 15, 15)] 51 h 15 [] [va_rf s0] (f_X0_removeShip_15 s0 h) := by
  unfold f_X0_removeShip_15
  refine s_ast_n (pc := 15) (L2 := []) [] dX0_removeShip_15 rfl (by decide) rfl rfl (zcA rfl) ?_
  refine s_iconst (pc := 16) (v := 2) dX0_removeShip_16 (by decide) ?_
  exact s_iret (pc := 17) dX0_removeShip_17 rfl
theorem w_X0_removeShip (v0 : Option Nat) (v1 : Int32) (v2 : Option Nat) (h : zH) : zS D z yX0_removeShip cX0_removeShip 4 (some .int) [(0, 9, 12, 21), (0, 9, 15, 15)] 51 h 0 [(0, va_rf v0), (1, .int v1), (2, va_rf v2)] [] (f_X0_removeShip v0 v1 v2 h) := by
  unfold f_X0_removeShip
  refine s_aload_n (pc := 0) 2 dX0_removeShip_0 rfl rfl ?_
  refine s_iconst (pc := 1) (v := 0) dX0_removeShip_1 (by decide) ?_
  refine s_aload_n (pc := 2) 0 dX0_removeShip_2 rfl rfl ?_
  refine s_iload_n (pc := 3) 1 dX0_removeShip_3 rfl rfl ?_
  refine zS_ite (fun ht => ?_) (fun _ => zS_none)
  refine s_callV (pc := 4) (np := 1) (as := [.int v1]) (rest := [.int 0, va_rf v2]) dX0_removeShip_4 ht (q := (RX1, TX1, 11)) rfl (c_X1_removeShip (by decide) v0 v1 h) rfl rfl q2376 q2377 q2378 rfl (by simp [zcat_rf, zcat_i, zcat_l, zcat_f, zcat_d]) (zkI (fun x3 h4 => ?_)) (fun e2 h1 => zT_ite (fun hx => (zT_out (fun q hq => by rw [hx] at hq; cases hq; exact (zpn (by decide) q2375 (by decide +kernel) (zpn (by decide) q2267 (by decide +kernel) zp0))))) (fun _ => zT_ite (fun hx => (zT_catch (q := (RJ39, TJ39, 0)) [(0, 9, 12, 21)] (0, 9, 15, 15) [] rfl (by rw [hx]; rfl) (zpn (by decide) q2375 (by decide +kernel) zp0) rfl (by decide) q2267 (Or.inl rfl) rfl (by exact s_sub (pc := 15) [] rfl (w_X0_removeShip_15 (some e2.2) h1)))) (fun _ => zT_ite (fun hx => (zT_catch (q := (RJ28, TJ28, 0)) [] (0, 9, 12, 21) [(0, 9, 15, 15)] rfl (by rw [hx]; rfl) zp0 rfl (by decide) q2375 (Or.inl rfl) rfl (by exact s_sub (pc := 12) [] rfl (w_X0_removeShip_12 (some e2.2) h1)))) (fun _ => zT_ite (fun hx => (zT_out (fun q hq => by rw [hx] at hq; cases hq; exact (zpn (by decide) q2375 (by decide +kernel) (zpn (by decide) q2267 (by decide +kernel) zp0))))) (fun _ => zT_ite (fun hx => (zT_out (fun q hq => by rw [hx] at hq; cases hq; exact (zpn (by decide) q2375 (by decide +kernel) (zpn (by decide) q2267 (by decide +kernel) zp0))))) (fun _ => zT_ite (fun hx => (zT_out (fun q hq => by rw [hx] at hq; cases hq; exact (zpn (by decide) q2375 (by decide +kernel) (zpn (by decide) q2267 (by decide +kernel) zp0))))) (fun _ => zT_ite (fun hx => (zT_out (fun q hq => by rw [hx] at hq; cases hq; exact (zpn (by decide) q2375 (by decide +kernel) (zpn (by decide) q2267 (by decide +kernel) zp0))))) (fun _ => zT_ite (fun hx => (zT_out (fun q hq => by rw [hx] at hq; cases hq; exact (zpn (by decide) q2375 (by decide +kernel) (zpn (by decide) q2267 (by decide +kernel) zp0))))) (fun _ => zT_none)))))))))
  refine s_i2l (pc := 7) dX0_removeShip_7 ?_
  refine s_last (pc := 8) dX0_removeShip_8 (ztc rfl zt0) (fun h5 => ?_)
  refine s_goto (pc := 9) (tgt := 18) dX0_removeShip_9 (by decide) ?_
  refine s_iconst (pc := 18) (v := 0) dX0_removeShip_18 (by decide) ?_
  exact s_iret (pc := 19) dX0_removeShip_19 rfl
theorem c_X0_removeShip {d0 : Nat} (hd0 : 51 < d0) (v0 : Option Nat) (v1 : Int32) (v2 : Option Nat) (h : zH) : zCal D z d0 h yX0_removeShip [va_rf v0, .int v1, va_rf v2] (f_X0_removeShip v0 v1 v2 h) :=
  ⟨cX0_removeShip, 4, (some .int), [(0, 9, 12, 21), (0, 9, 15, 15)], 51, (show lv_args 0 [va_rf v0, .int v1, va_rf v2] = [(0, va_rf v0), (1, .int v1), (2, va_rf v2)] by simp [lv_args, zcat_rf, zcat_i, zcat_l, zcat_f, zcat_d]) ▸ w_X0_removeShip v0 v1 v2 h, (plainFor_of_name (by decide)), by simp [lg_sl, zcat_rf, zcat_i, zcat_l, zcat_f, zcat_d], q2374, q94, hd0, by decide, by decide⟩
theorem w_X1_enter (v0 : Option Nat) (v1 : Int32) (v2 : Int32) (h : zH) : zS D z yX1_enter cX1_enter 3 (some .int) [] 50 h 0 [(0, va_rf v0), (1, .int v1), (2, .int v2)] [] (f_X1_enter v0 v1 v2 h) := by
  unfold f_X1_enter
  refine s_aload_n (pc := 0) 0 dX1_enter_0 rfl rfl ?_
  refine s_iload_n (pc := 1) 1 dX1_enter_1 rfl rfl ?_
  refine s_iload_n (pc := 2) 2 dX1_enter_2 rfl rfl ?_
  refine s_lamM (pc := 3) (t := 309) (q := zSh siteWord_1_10) (vals := [.int v1, .int v2]) (rest := [va_rf v0]) dX1_enter_3 rfl rfl rfl rfl rfl rfl zk_9 ⟨zok_i _, ⟨zok_i _, trivial⟩⟩ rfl (by simp [zcat_rf, zcat_i, zcat_l, zcat_f, zcat_d]) (by decide) (fun r1 h2 => ?_)
  refine zS_ite (fun ht => ?_) (fun _ => zS_none)
  refine s_callV (pc := 8) (np := 1) (as := [va_rf r1]) (rest := []) dX1_enter_8 ht (q := (RX1, TX1, 11)) rfl (c_X1_change (by decide) v0 r1 h2) rfl rfl q2307 q2309 qs17 rfl (by decide) (zkI (fun x3 h4 => ?_)) zxo
  exact s_iret (pc := 11) dX1_enter_11 rfl
theorem c_X1_enter {d0 : Nat} (hd0 : 50 < d0) (v0 : Option Nat) (v1 : Int32) (v2 : Int32) (h : zH) : zCal D z d0 h yX1_enter [va_rf v0, .int v1, .int v2] (f_X1_enter v0 v1 v2 h) :=
  ⟨cX1_enter, 3, (some .int), [], 50, (show lv_args 0 [va_rf v0, .int v1, .int v2] = [(0, va_rf v0), (1, .int v1), (2, .int v2)] by simp [lv_args, zcat_rf, zcat_i, zcat_l, zcat_f, zcat_d]) ▸ w_X1_enter v0 v1 v2 h, (plainFor_of_name (by decide)), by simp [lg_sl, zcat_rf, zcat_i, zcat_l, zcat_f, zcat_d], q2442, q95, hd0, by decide, by decide⟩
theorem w_X0_enter_13 (s0 : Option Nat) (h : zH) : zS D z yX0_enter cX0_enter 5 (some .int) [(0, 10, 13, 21), (0, 10, 17, 13), (0, 10, 21, 15), (0, 10, 25, 27)] 51 h 13 [] [va_rf s0] (f_X0_enter_13 s0 h) := by
  unfold f_X0_enter_13
  refine s_ast (pc := 13) (L2 := []) [] dX0_enter_13 (by decide) rfl rfl (zcA rfl) ?_
  refine s_iconst (pc := 15) (v := 1) dX0_enter_15 (by decide) ?_
  exact s_iret (pc := 16) dX0_enter_16 rfl
theorem w_X0_enter_17 (s0 : Option Nat) (h : zH) : zS D z yX0_enter cX0_enter 5 (some .int) [(0, 10, 13, 21), (0, 10, 17, 13), (0, 10, 21, 15), (0, 10, 25, 27)] 51 h 17 [] [va_rf s0] (f_X0_enter_17 s0 h) := by
  unfold f_X0_enter_17
  refine s_ast (pc := 17) (L2 := []) [] dX0_enter_17 (by decide) rfl rfl (zcA rfl) ?_
  refine s_iconst (pc := 19) (v := 2) dX0_enter_19 (by decide) ?_
  exact s_iret (pc := 20) dX0_enter_20 rfl
theorem w_X0_enter_21 (s0 : Option Nat) (h : zH) : zS D z yX0_enter cX0_enter 5 (some .int) [(0, 10, 13, 21), (0, 10, 17, 13), (0, 10, 21, 15), (0, 10, 25, 27)] 51 h 21 [] [va_rf s0] (f_X0_enter_21 s0 h) := by
  unfold f_X0_enter_21
  refine s_ast (pc := 21) (L2 := []) [] dX0_enter_21 (by decide) rfl rfl (zcA rfl) ?_
  refine s_iconst (pc := 23) (v := 3) dX0_enter_23 (by decide) ?_
  exact s_iret (pc := 24) dX0_enter_24 rfl
theorem w_X0_enter_25 (s0 : Option Nat) (h : zH) : zS D z yX0_enter cX0_enter 5 (some .int) [(0, 10, 13, 21), (0, 10, 17, 13), (0, 10, 21, 15), (0, 10, 25, 27)] 51 h 25 [] [va_rf s0] (f_X0_enter_25 s0 h) := by
  unfold f_X0_enter_25
  refine s_ast (pc := 25) (L2 := []) [] dX0_enter_25 (by decide) rfl rfl (zcA rfl) ?_
  refine s_iconst (pc := 27) (v := 4) dX0_enter_27 (by decide) ?_
  exact s_iret (pc := 28) dX0_enter_28 rfl
theorem w_X0_enter (v0 : Option Nat) (v1 : Int32) (v2 : Int32) (v3 : Option Nat) (h : zH) : zS D z yX0_enter cX0_enter 5 (some .int) [(0, 10, 13, 21), (0, 10, 17, 13), (0, 10, 21, 15), (0, 10, 25, 27)] 51 h 0 [(0, va_rf v0), (1, .int v1), (2, .int v2), (3, va_rf v3)] [] (f_X0_enter v0 v1 v2 v3 h) := by
  unfold f_X0_enter
  refine s_aload_n (pc := 0) 3 dX0_enter_0 rfl rfl ?_
  refine s_iconst (pc := 1) (v := 0) dX0_enter_1 (by decide) ?_
  refine s_aload_n (pc := 2) 0 dX0_enter_2 rfl rfl ?_
  refine s_iload_n (pc := 3) 1 dX0_enter_3 rfl rfl ?_
  refine s_iload_n (pc := 4) 2 dX0_enter_4 rfl rfl ?_
  refine zS_ite (fun ht => ?_) (fun _ => zS_none)
  refine s_callV (pc := 5) (np := 2) (as := [.int v1, .int v2]) (rest := [.int 0, va_rf v3]) dX0_enter_5 ht (q := (RX1, TX1, 11)) rfl (c_X1_enter (by decide) v0 v1 v2 h) rfl rfl q2439 q2440 q2441 rfl (by simp [zcat_rf, zcat_i, zcat_l, zcat_f, zcat_d]) (zkI (fun x3 h4 => ?_)) (fun e2 h1 => zT_ite (fun hx => (zT_catch (q := (RJ34, TJ34, 0)) [(0, 10, 13, 21)] (0, 10, 17, 13) [(0, 10, 21, 15), (0, 10, 25, 27)] rfl (by rw [hx]; rfl) (zpn (by decide) q2375 (by decide +kernel) zp0) rfl (by decide) q2266 (Or.inl rfl) rfl (by exact s_sub (pc := 17) [] rfl (w_X0_enter_17 (some e2.2) h1)))) (fun _ => zT_ite (fun hx => (zT_catch (q := (RJ39, TJ39, 0)) [(0, 10, 13, 21), (0, 10, 17, 13)] (0, 10, 21, 15) [(0, 10, 25, 27)] rfl (by rw [hx]; rfl) (zpn (by decide) q2375 (by decide +kernel) (zpn (by decide) q2266 (by decide +kernel) zp0)) rfl (by decide) q2267 (Or.inl rfl) rfl (by exact s_sub (pc := 21) [] rfl (w_X0_enter_21 (some e2.2) h1)))) (fun _ => zT_ite (fun hx => (zT_catch (q := (RJ28, TJ28, 0)) [] (0, 10, 13, 21) [(0, 10, 17, 13), (0, 10, 21, 15), (0, 10, 25, 27)] rfl (by rw [hx]; rfl) zp0 rfl (by decide) q2375 (Or.inl rfl) rfl (by exact s_sub (pc := 13) [] rfl (w_X0_enter_13 (some e2.2) h1)))) (fun _ => zT_ite (fun hx => (zT_catch (q := (RJ44, TJ44, 0)) [(0, 10, 13, 21), (0, 10, 17, 13), (0, 10, 21, 15)] (0, 10, 25, 27) [] rfl (by rw [hx]; rfl) (zpn (by decide) q2375 (by decide +kernel) (zpn (by decide) q2266 (by decide +kernel) (zpn (by decide) q2267 (by decide +kernel) zp0))) rfl (by decide) q2438 (Or.inl rfl) rfl (by exact s_sub (pc := 25) [] rfl (w_X0_enter_25 (some e2.2) h1)))) (fun _ => zT_ite (fun hx => (zT_out (fun q hq => by rw [hx] at hq; cases hq; exact (zpn (by decide) q2375 (by decide +kernel) (zpn (by decide) q2266 (by decide +kernel) (zpn (by decide) q2267 (by decide +kernel) (zpn (by decide) q2438 (by decide +kernel) zp0))))))) (fun _ => zT_ite (fun hx => (zT_out (fun q hq => by rw [hx] at hq; cases hq; exact (zpn (by decide) q2375 (by decide +kernel) (zpn (by decide) q2266 (by decide +kernel) (zpn (by decide) q2267 (by decide +kernel) (zpn (by decide) q2438 (by decide +kernel) zp0))))))) (fun _ => zT_ite (fun hx => (zT_out (fun q hq => by rw [hx] at hq; cases hq; exact (zpn (by decide) q2375 (by decide +kernel) (zpn (by decide) q2266 (by decide +kernel) (zpn (by decide) q2267 (by decide +kernel) (zpn (by decide) q2438 (by decide +kernel) zp0))))))) (fun _ => zT_ite (fun hx => (zT_out (fun q hq => by rw [hx] at hq; cases hq; exact (zpn (by decide) q2375 (by decide +kernel) (zpn (by decide) q2266 (by decide +kernel) (zpn (by decide) q2267 (by decide +kernel) (zpn (by decide) q2438 (by decide +kernel) zp0))))))) (fun _ => zT_none)))))))))
  refine s_i2l (pc := 8) dX0_enter_8 ?_
  refine s_last (pc := 9) dX0_enter_9 (ztc rfl zt0) (fun h5 => ?_)
  refine s_goto (pc := 10) (tgt := 29) dX0_enter_10 (by decide) ?_
  refine s_iconst (pc := 29) (v := 0) dX0_enter_29 (by decide) ?_
  exact s_iret (pc := 30) dX0_enter_30 rfl
theorem c_X0_enter {d0 : Nat} (hd0 : 51 < d0) (v0 : Option Nat) (v1 : Int32) (v2 : Int32) (v3 : Option Nat) (h : zH) : zCal D z d0 h yX0_enter [va_rf v0, .int v1, .int v2, va_rf v3] (f_X0_enter v0 v1 v2 v3 h) :=
  ⟨cX0_enter, 5, (some .int), [(0, 10, 13, 21), (0, 10, 17, 13), (0, 10, 21, 15), (0, 10, 25, 27)], 51, (show lv_args 0 [va_rf v0, .int v1, .int v2, va_rf v3] = [(0, va_rf v0), (1, .int v1), (2, .int v2), (3, va_rf v3)] by simp [lv_args, zcat_rf, zcat_i, zcat_l, zcat_f, zcat_d]) ▸ w_X0_enter v0 v1 v2 v3 h, (plainFor_of_name (by decide)), by simp [lg_sl, zcat_rf, zcat_i, zcat_l, zcat_f, zcat_d], q2437, q94, hd0, by decide, by decide⟩
theorem w_X1_leave (v0 : Option Nat) (v1 : Int32) (h : zH) : zS D z yX1_leave cX1_leave 2 (some .int) [] 50 h 0 [(0, va_rf v0), (1, .int v1)] [] (f_X1_leave v0 v1 h) := by
  unfold f_X1_leave
  refine s_aload_n (pc := 0) 0 dX1_leave_0 rfl rfl ?_
  refine s_iload_n (pc := 1) 1 dX1_leave_1 rfl rfl ?_
  refine s_lamM (pc := 2) (t := 310) (q := zSh siteWord_1_11) (vals := [.int v1]) (rest := [va_rf v0]) dX1_leave_2 rfl rfl rfl rfl rfl rfl zk_10 ⟨zok_i _, trivial⟩ rfl (by simp [zcat_rf, zcat_i, zcat_l, zcat_f, zcat_d]) (by decide) (fun r1 h2 => ?_)
  refine zS_ite (fun ht => ?_) (fun _ => zS_none)
  refine s_callV (pc := 7) (np := 1) (as := [va_rf r1]) (rest := []) dX1_leave_7 ht (q := (RX1, TX1, 11)) rfl (c_X1_change (by decide) v0 r1 h2) rfl rfl q2307 q2309 qs17 rfl (by decide) (zkI (fun x3 h4 => ?_)) zxo
  exact s_iret (pc := 10) dX1_leave_10 rfl
theorem c_X1_leave {d0 : Nat} (hd0 : 50 < d0) (v0 : Option Nat) (v1 : Int32) (h : zH) : zCal D z d0 h yX1_leave [va_rf v0, .int v1] (f_X1_leave v0 v1 h) :=
  ⟨cX1_leave, 2, (some .int), [], 50, (show lv_args 0 [va_rf v0, .int v1] = [(0, va_rf v0), (1, .int v1)] by simp [lv_args, zcat_rf, zcat_i, zcat_l, zcat_f, zcat_d]) ▸ w_X1_leave v0 v1 h, (plainFor_of_name (by decide)), by simp [lg_sl, zcat_rf, zcat_i, zcat_l, zcat_f, zcat_d], q2493, q95, hd0, by decide, by decide⟩
theorem w_X0_leave_12 (s0 : Option Nat) (h : zH) : zS D z yX0_leave cX0_leave 4 (some .int) [(0, 9, 12, 21), (0, 9, 15, 15), (0, 9, 18, 27)] 51 h 12 [] [va_rf s0] (f_X0_leave_12 s0 h) := by
  unfold f_X0_leave_12
  refine s_ast_n (pc := 12) (L2 := []) [] dX0_leave_12 rfl (by decide) rfl rfl (zcA rfl) ?_
  refine s_iconst (pc := 13) (v := 1) dX0_leave_13 (by decide) ?_
  exact s_iret (pc := 14) dX0_leave_14 rfl
theorem w_X0_leave_15 (s0 : Option Nat) (h : zH) : zS D z yX0_leave cX0_leave 4 (some .int) [(0, 9, 12, 21), (0, 9, 15, 15), (0, 9, 18, 27)] 51 h 15 [] [va_rf s0] (f_X0_leave_15 s0 h) := by
  unfold f_X0_leave_15
  refine s_ast_n (pc := 15) (L2 := []) [] dX0_leave_15 rfl (by decide) rfl rfl (zcA rfl) ?_
  refine s_iconst (pc := 16) (v := 2) dX0_leave_16 (by decide) ?_
  exact s_iret (pc := 17) dX0_leave_17 rfl
theorem w_X0_leave_18 (s0 : Option Nat) (h : zH) : zS D z yX0_leave cX0_leave 4 (some .int) [(0, 9, 12, 21), (0, 9, 15, 15), (0, 9, 18, 27)] 51 h 18 [] [va_rf s0] (f_X0_leave_18 s0 h) := by
  unfold f_X0_leave_18
  refine s_ast_n (pc := 18) (L2 := []) [] dX0_leave_18 rfl (by decide) rfl rfl (zcA rfl) ?_
  refine s_iconst (pc := 19) (v := 3) dX0_leave_19 (by decide) ?_
  exact s_iret (pc := 20) dX0_leave_20 rfl
theorem w_X0_leave (v0 : Option Nat) (v1 : Int32) (v2 : Option Nat) (h : zH) : zS D z yX0_leave cX0_leave 4 (some .int) [(0, 9, 12, 21), (0, 9, 15, 15), (0, 9, 18, 27)] 51 h 0 [(0, va_rf v0), (1, .int v1), (2, va_rf v2)] [] (f_X0_leave v0 v1 v2 h) := by
  unfold f_X0_leave
  refine s_aload_n (pc := 0) 2 dX0_leave_0 rfl rfl ?_
  refine s_iconst (pc := 1) (v := 0) dX0_leave_1 (by decide) ?_
  refine s_aload_n (pc := 2) 0 dX0_leave_2 rfl rfl ?_
  refine s_iload_n (pc := 3) 1 dX0_leave_3 rfl rfl ?_
  refine zS_ite (fun ht => ?_) (fun _ => zS_none)
  refine s_callV (pc := 4) (np := 1) (as := [.int v1]) (rest := [.int 0, va_rf v2]) dX0_leave_4 ht (q := (RX1, TX1, 11)) rfl (c_X1_leave (by decide) v0 v1 h) rfl rfl q2490 q2491 q2492 rfl (by simp [zcat_rf, zcat_i, zcat_l, zcat_f, zcat_d]) (zkI (fun x3 h4 => ?_)) (fun e2 h1 => zT_ite (fun hx => (zT_out (fun q hq => by rw [hx] at hq; cases hq; exact (zpn (by decide) q2375 (by decide +kernel) (zpn (by decide) q2267 (by decide +kernel) (zpn (by decide) q2438 (by decide +kernel) zp0)))))) (fun _ => zT_ite (fun hx => (zT_catch (q := (RJ39, TJ39, 0)) [(0, 9, 12, 21)] (0, 9, 15, 15) [(0, 9, 18, 27)] rfl (by rw [hx]; rfl) (zpn (by decide) q2375 (by decide +kernel) zp0) rfl (by decide) q2267 (Or.inl rfl) rfl (by exact s_sub (pc := 15) [] rfl (w_X0_leave_15 (some e2.2) h1)))) (fun _ => zT_ite (fun hx => (zT_catch (q := (RJ28, TJ28, 0)) [] (0, 9, 12, 21) [(0, 9, 15, 15), (0, 9, 18, 27)] rfl (by rw [hx]; rfl) zp0 rfl (by decide) q2375 (Or.inl rfl) rfl (by exact s_sub (pc := 12) [] rfl (w_X0_leave_12 (some e2.2) h1)))) (fun _ => zT_ite (fun hx => (zT_catch (q := (RJ44, TJ44, 0)) [(0, 9, 12, 21), (0, 9, 15, 15)] (0, 9, 18, 27) [] rfl (by rw [hx]; rfl) (zpn (by decide) q2375 (by decide +kernel) (zpn (by decide) q2267 (by decide +kernel) zp0)) rfl (by decide) q2438 (Or.inl rfl) rfl (by exact s_sub (pc := 18) [] rfl (w_X0_leave_18 (some e2.2) h1)))) (fun _ => zT_ite (fun hx => (zT_out (fun q hq => by rw [hx] at hq; cases hq; exact (zpn (by decide) q2375 (by decide +kernel) (zpn (by decide) q2267 (by decide +kernel) (zpn (by decide) q2438 (by decide +kernel) zp0)))))) (fun _ => zT_ite (fun hx => (zT_out (fun q hq => by rw [hx] at hq; cases hq; exact (zpn (by decide) q2375 (by decide +kernel) (zpn (by decide) q2267 (by decide +kernel) (zpn (by decide) q2438 (by decide +kernel) zp0)))))) (fun _ => zT_ite (fun hx => (zT_out (fun q hq => by rw [hx] at hq; cases hq; exact (zpn (by decide) q2375 (by decide +kernel) (zpn (by decide) q2267 (by decide +kernel) (zpn (by decide) q2438 (by decide +kernel) zp0)))))) (fun _ => zT_ite (fun hx => (zT_out (fun q hq => by rw [hx] at hq; cases hq; exact (zpn (by decide) q2375 (by decide +kernel) (zpn (by decide) q2267 (by decide +kernel) (zpn (by decide) q2438 (by decide +kernel) zp0)))))) (fun _ => zT_none)))))))))
  refine s_i2l (pc := 7) dX0_leave_7 ?_
  refine s_last (pc := 8) dX0_leave_8 (ztc rfl zt0) (fun h5 => ?_)
  refine s_goto (pc := 9) (tgt := 21) dX0_leave_9 (by decide) ?_
  refine s_iconst (pc := 21) (v := 0) dX0_leave_21 (by decide) ?_
  exact s_iret (pc := 22) dX0_leave_22 rfl
theorem c_X0_leave {d0 : Nat} (hd0 : 51 < d0) (v0 : Option Nat) (v1 : Int32) (v2 : Option Nat) (h : zH) : zCal D z d0 h yX0_leave [va_rf v0, .int v1, va_rf v2] (f_X0_leave v0 v1 v2 h) :=
  ⟨cX0_leave, 4, (some .int), [(0, 9, 12, 21), (0, 9, 15, 15), (0, 9, 18, 27)], 51, (show lv_args 0 [va_rf v0, .int v1, va_rf v2] = [(0, va_rf v0), (1, .int v1), (2, va_rf v2)] by simp [lv_args, zcat_rf, zcat_i, zcat_l, zcat_f, zcat_d]) ▸ w_X0_leave v0 v1 v2 h, (plainFor_of_name (by decide)), by simp [lg_sl, zcat_rf, zcat_i, zcat_l, zcat_f, zcat_d], q2489, q94, hd0, by decide, by decide⟩
theorem w_X1_setCleaning (v0 : Option Nat) (v1 : Int32) (v2 : Int32) (h : zH) : zS D z yX1_setCleaning cX1_setCleaning 3 (some .boolean) [] 50 h 0 [(0, va_rf v0), (1, .int v1), (2, .int v2)] [] (f_X1_setCleaning v0 v1 v2 h) := by
  unfold f_X1_setCleaning
  refine s_aload_n (pc := 0) 0 dX1_setCleaning_0 rfl rfl ?_
  refine s_iload_n (pc := 1) 1 dX1_setCleaning_1 rfl rfl ?_
  refine s_iload_n (pc := 2) 2 dX1_setCleaning_2 rfl rfl ?_
  refine zS_ite (fun hz => ?_) (fun _ => zS_none)
  refine s_lamM (pc := 3) (t := 311) (q := zSh siteWord_1_12) (vals := [.int v1, .int v2]) (rest := [va_rf v0]) dX1_setCleaning_3 rfl rfl rfl rfl rfl rfl zk_11 ⟨zok_i _, ⟨hz, trivial⟩⟩ rfl (by simp [zcat_rf, zcat_i, zcat_l, zcat_f, zcat_d]) (by decide) (fun r1 h2 => ?_)
  refine zS_ite (fun ht => ?_) (fun _ => zS_none)
  refine s_callV (pc := 8) (np := 1) (as := [va_rf r1]) (rest := []) dX1_setCleaning_8 ht (q := (RX1, TX1, 11)) rfl (c_X1_change (by decide) v0 r1 h2) rfl rfl q2307 q2309 qs17 rfl (by decide) (zkI (fun x3 h4 => ?_)) zxo
  refine s_iconst (pc := 11) (v := 1) dX1_setCleaning_11 (by decide) ?_
  refine s_icmp_ne (pc := 12) (tgt := 19) dX1_setCleaning_12 (by decide) (fun _ => ?_) (fun _ => ?_)
  · refine s_iconst (pc := 19) (v := 0) dX1_setCleaning_19 (by decide) ?_
    exact s_nret (pc := 20) dX1_setCleaning_20 rfl
  · refine s_iconst (pc := 15) (v := 1) dX1_setCleaning_15 (by decide) ?_
    refine s_goto (pc := 16) (tgt := 20) dX1_setCleaning_16 (by decide) ?_
    exact s_nret (pc := 20) dX1_setCleaning_20 rfl
theorem c_X1_setCleaning {d0 : Nat} (hd0 : 50 < d0) (v0 : Option Nat) (v1 : Int32) (v2 : Int32) (h : zH) : zCal D z d0 h yX1_setCleaning [va_rf v0, .int v1, .int v2] (f_X1_setCleaning v0 v1 v2 h) :=
  ⟨cX1_setCleaning, 3, (some .boolean), [], 50, (show lv_args 0 [va_rf v0, .int v1, .int v2] = [(0, va_rf v0), (1, .int v1), (2, .int v2)] by simp [lv_args, zcat_rf, zcat_i, zcat_l, zcat_f, zcat_d]) ▸ w_X1_setCleaning v0 v1 v2 h, (plainFor_of_name (by decide)), by simp [lg_sl, zcat_rf, zcat_i, zcat_l, zcat_f, zcat_d], q2511, q95, hd0, by decide, by decide⟩
theorem w_X0_setCleaning_20 (s0 : Option Nat) (h : zH) : zS D z yX0_setCleaning cX0_setCleaning 5 (some .int) [(0, 17, 20, 21), (0, 17, 24, 15)] 51 h 20 [] [va_rf s0] (f_X0_setCleaning_20 s0 h) := by
  unfold f_X0_setCleaning_20
  refine s_ast (pc := 20) (L2 := []) [] dX0_setCleaning_20 (by decide) rfl rfl (zcA rfl) ?_
  refine s_iconst (pc := 22) (v := 1) dX0_setCleaning_22 (by decide) ?_
  exact s_iret (pc := 23) dX0_setCleaning_23 rfl
theorem w_X0_setCleaning_24 (s0 : Option Nat) (h : zH) : zS D z yX0_setCleaning cX0_setCleaning 5 (some .int) [(0, 17, 20, 21), (0, 17, 24, 15)] 51 h 24 [] [va_rf s0] (f_X0_setCleaning_24 s0 h) := by
  unfold f_X0_setCleaning_24
  refine s_ast (pc := 24) (L2 := []) [] dX0_setCleaning_24 (by decide) rfl rfl (zcA rfl) ?_
  refine s_iconst (pc := 26) (v := 2) dX0_setCleaning_26 (by decide) ?_
  exact s_iret (pc := 27) dX0_setCleaning_27 rfl
theorem w_X0_setCleaning (v0 : Option Nat) (v1 : Int32) (v2 : Int32) (v3 : Option Nat) (h : zH) : zS D z yX0_setCleaning cX0_setCleaning 5 (some .int) [(0, 17, 20, 21), (0, 17, 24, 15)] 51 h 0 [(0, va_rf v0), (1, .int v1), (2, .int v2), (3, va_rf v3)] [] (f_X0_setCleaning v0 v1 v2 v3 h) := by
  unfold f_X0_setCleaning
  refine s_aload_n (pc := 0) 3 dX0_setCleaning_0 rfl rfl ?_
  refine s_iconst (pc := 1) (v := 0) dX0_setCleaning_1 (by decide) ?_
  refine s_aload_n (pc := 2) 0 dX0_setCleaning_2 rfl rfl ?_
  refine s_iload_n (pc := 3) 1 dX0_setCleaning_3 rfl rfl ?_
  refine s_iload_n (pc := 4) 2 dX0_setCleaning_4 rfl rfl ?_
  refine zS_ite (fun ht => ?_) (fun _ => zS_none)
  refine s_callV (pc := 5) (np := 2) (as := [.int v1, .int v2]) (rest := [.int 0, va_rf v3]) dX0_setCleaning_5 ht (q := (RX1, TX1, 11)) rfl (c_X1_setCleaning (by decide) v0 v1 v2 h) rfl rfl q2508 q2509 q2510 rfl (by simp [zcat_rf, zcat_i, zcat_l, zcat_f, zcat_d]) (zkI (fun x3 h4 => ?_)) (fun e2 h1 => zT_ite (fun hx => (zT_out (fun q hq => by rw [hx] at hq; cases hq; exact (zpn (by decide) q2375 (by decide +kernel) (zpn (by decide) q2267 (by decide +kernel) zp0))))) (fun _ => zT_ite (fun hx => (zT_catch (q := (RJ39, TJ39, 0)) [(0, 17, 20, 21)] (0, 17, 24, 15) [] rfl (by rw [hx]; rfl) (zpn (by decide) q2375 (by decide +kernel) zp0) rfl (by decide) q2267 (Or.inl rfl) rfl (by exact s_sub (pc := 24) [] rfl (w_X0_setCleaning_24 (some e2.2) h1)))) (fun _ => zT_ite (fun hx => (zT_catch (q := (RJ28, TJ28, 0)) [] (0, 17, 20, 21) [(0, 17, 24, 15)] rfl (by rw [hx]; rfl) zp0 rfl (by decide) q2375 (Or.inl rfl) rfl (by exact s_sub (pc := 20) [] rfl (w_X0_setCleaning_20 (some e2.2) h1)))) (fun _ => zT_ite (fun hx => (zT_out (fun q hq => by rw [hx] at hq; cases hq; exact (zpn (by decide) q2375 (by decide +kernel) (zpn (by decide) q2267 (by decide +kernel) zp0))))) (fun _ => zT_ite (fun hx => (zT_out (fun q hq => by rw [hx] at hq; cases hq; exact (zpn (by decide) q2375 (by decide +kernel) (zpn (by decide) q2267 (by decide +kernel) zp0))))) (fun _ => zT_ite (fun hx => (zT_out (fun q hq => by rw [hx] at hq; cases hq; exact (zpn (by decide) q2375 (by decide +kernel) (zpn (by decide) q2267 (by decide +kernel) zp0))))) (fun _ => zT_ite (fun hx => (zT_out (fun q hq => by rw [hx] at hq; cases hq; exact (zpn (by decide) q2375 (by decide +kernel) (zpn (by decide) q2267 (by decide +kernel) zp0))))) (fun _ => zT_ite (fun hx => (zT_out (fun q hq => by rw [hx] at hq; cases hq; exact (zpn (by decide) q2375 (by decide +kernel) (zpn (by decide) q2267 (by decide +kernel) zp0))))) (fun _ => zT_none)))))))))
  refine s_if_eq (pc := 8) (tgt := 15) dX0_setCleaning_8 (by decide) (fun _ => ?_) (fun _ => ?_)
  · refine s_lconst (pc := 15) (v := 0) dX0_setCleaning_15 (by decide) ?_
    refine s_last (pc := 16) dX0_setCleaning_16 (ztc rfl zt0) (fun h5 => ?_)
    refine s_goto (pc := 17) (tgt := 28) dX0_setCleaning_17 (by decide) ?_
    refine s_iconst (pc := 28) (v := 0) dX0_setCleaning_28 (by decide) ?_
    exact s_iret (pc := 29) dX0_setCleaning_29 rfl
  · refine s_lconst (pc := 11) (v := 1) dX0_setCleaning_11 (by decide) ?_
    refine s_goto (pc := 12) (tgt := 16) dX0_setCleaning_12 (by decide) ?_
    refine s_last (pc := 16) dX0_setCleaning_16 (ztc rfl zt0) (fun h6 => ?_)
    refine s_goto (pc := 17) (tgt := 28) dX0_setCleaning_17 (by decide) ?_
    refine s_iconst (pc := 28) (v := 0) dX0_setCleaning_28 (by decide) ?_
    exact s_iret (pc := 29) dX0_setCleaning_29 rfl
theorem c_X0_setCleaning {d0 : Nat} (hd0 : 51 < d0) (v0 : Option Nat) (v1 : Int32) (v2 : Int32) (v3 : Option Nat) (h : zH) : zCal D z d0 h yX0_setCleaning [va_rf v0, .int v1, .int v2, va_rf v3] (f_X0_setCleaning v0 v1 v2 v3 h) :=
  ⟨cX0_setCleaning, 5, (some .int), [(0, 17, 20, 21), (0, 17, 24, 15)], 51, (show lv_args 0 [va_rf v0, .int v1, .int v2, va_rf v3] = [(0, va_rf v0), (1, .int v1), (2, .int v2), (3, va_rf v3)] by simp [lv_args, zcat_rf, zcat_i, zcat_l, zcat_f, zcat_d]) ▸ w_X0_setCleaning v0 v1 v2 v3 h, (plainFor_of_name (by decide)), by simp [lg_sl, zcat_rf, zcat_i, zcat_l, zcat_f, zcat_d], q2507, q94, hd0, by decide, by decide⟩
theorem w_J29_init_2 (v0 : Option Nat) (h : zH) : zS D z yJ29_init_2 cJ29_init_2 1 none [] 4 h 0 [(0, va_rf v0)] [] (f_J29_init_2 v0 h) := by
  unfold f_J29_init_2
  refine s_aload_n (pc := 0) 0 dJ29_init_2_0 rfl rfl ?_
  refine zS_ite (fun hr => ?_) (fun _ => zS_none)
  refine s_callC (pc := 1) (np := 0) (as := []) (rest := []) dJ29_init_2_1 hr (c_J27_init (by decide) v0 h) ⟨_, _, q760⟩ rfl rfl rfl q2553 q759 rfl (by decide) (zkV (fun h1 => ?_)) zxo
  exact s_vret (pc := 4) dJ29_init_2_4 rfl
theorem c_J29_init_2 {d0 : Nat} (hd0 : 4 < d0) (v0 : Option Nat) (h : zH) : zCal D z d0 h yJ29_init_2 [va_rf v0] (f_J29_init_2 v0 h) :=
  ⟨cJ29_init_2, 1, none, [], 4, (show lv_args 0 [va_rf v0] = [(0, va_rf v0)] by simp [lv_args, zcat_rf, zcat_i, zcat_l, zcat_f, zcat_d]) ▸ w_J29_init_2 v0 h, (plainFor_of_name (by decide)), by simp [lg_sl, zcat_rf, zcat_i, zcat_l, zcat_f, zcat_d], q2552, q127, hd0, by decide, by decide⟩
theorem w_X1_checkIndex (v0 : Int32) (v1 : Int32) (h : zH) : zS D z yX1_checkIndex cX1_checkIndex 2 none [] 8 h 0 [(0, .int v0), (1, .int v1)] [] (f_X1_checkIndex v0 v1 h) := by
  unfold f_X1_checkIndex
  refine s_iload_n (pc := 0) 0 dX1_checkIndex_0 rfl rfl ?_
  refine s_iconst (pc := 1) (v := 0) dX1_checkIndex_1 (by decide) ?_
  refine s_iload_n (pc := 2) 1 dX1_checkIndex_2 rfl rfl ?_
  refine s_iconst (pc := 3) (v := 1) dX1_checkIndex_3 (by decide) ?_
  refine s_isub (pc := 4) dX1_checkIndex_4 ?_
  refine s_callSS (pc := 5) (np := 3) (as := [.int v0, .int 0, .int (v1 - 1)]) (rest := []) dX1_checkIndex_5 (c_X1_isBetween (by decide) v0 0 (v1 - 1) h) rfl rfl q2548 q1518 rfl (by decide) (zkI (fun x1 h2 => ?_)) zxo
  refine s_if_ne (pc := 8) (tgt := 19) dX1_checkIndex_8 (by decide) (fun _ => ?_) (fun _ => ?_)
  · exact s_vret (pc := 19) dX1_checkIndex_19 rfl
  · refine s_make0 (pc := 11) dX1_checkIndex_11 dX1_checkIndex_14 dX1_checkIndex_15 xf_X1_83_85 (by decide) (by decide) (fun r3 h4 => ?_)
    exact s_athrow (pc := 18) dX1_checkIndex_18 rfl (fun x => zxo x _)
theorem c_X1_checkIndex {d0 : Nat} (hd0 : 8 < d0) (v0 : Int32) (v1 : Int32) (h : zH) : zCal D z d0 h yX1_checkIndex [.int v0, .int v1] (f_X1_checkIndex v0 v1 h) :=
  ⟨cX1_checkIndex, 2, none, [], 8, (show lv_args 0 [.int v0, .int v1] = [(0, .int v0), (1, .int v1)] by simp [lv_args, zcat_rf, zcat_i, zcat_l, zcat_f, zcat_d]) ▸ w_X1_checkIndex v0 v1 h, (plainFor_of_name (by decide)), by simp [lg_sl, zcat_rf, zcat_i, zcat_l, zcat_f, zcat_d], q2547, q95, hd0, by decide, by decide⟩
theorem w_X2_shipAt_26 : ∀ (n : Nat) (a1 : Int32) (a2 : Int32) (a3 : Option Nat) (h : zH), zS D z yX2_shipAt cX2_shipAt 5 (some .int) [] 10 h 26 [(1, .int a1), (2, .int a2), (3, va_rf a3)] [] (f_X2_shipAt_26 n a1 a2 a3 h) := by
  intro n
  induction n with
  | zero => intros; exact zS_none
  | succ n ih =>
    intro a1 a2 a3 h
    rw [f_X2_shipAt_26.eq_2]
    refine s_aload_n (pc := 26) 2 dX2_shipAt_26 rfl rfl ?_
    refine zS_ite (fun ht => ?_) (fun _ => ?_)
    · refine s_callF (pc := 27) (np := 0) (as := []) (rest := []) dX2_shipAt_27 ht (q := (RX9, TX9, 2)) rfl (c_X9_hasNext (by decide) a3 h) ⟨_, _, _, q637⟩ rfl rfl q629 (by decide +kernel) q635 q633 rfl (by decide) (zkI (fun x10 h11 => ?_)) zxo
      refine s_if_eq (pc := 32) (tgt := 63) dX2_shipAt_32 (by decide) (fun _ => ?_) (fun _ => ?_)
      · refine s_iconst (pc := 63) (v := -1) dX2_shipAt_63 (by decide) ?_
        exact s_iret (pc := 64) dX2_shipAt_64 rfl
      · refine s_aload_n (pc := 35) 2 dX2_shipAt_35 rfl rfl ?_
        refine zS_ite (fun ht => ?_) (fun _ => ?_)
        · refine s_callF (pc := 36) (np := 0) (as := []) (rest := []) dX2_shipAt_36 ht (q := (RX9, TX9, 2)) rfl (c_X9_next (by decide) a3 h11) ⟨_, _, _, q677⟩ rfl rfl q670 (by decide +kernel) q675 q673 rfl (by decide) (zkR (fun r12 h13 => ?_)) zxo
          refine s_cast (pc := 41) dX2_shipAt_41 q1972 zcs_java_lang_Integer ?_
          refine zS_ite (fun ht => ?_) (fun _ => zS_none)
          refine s_callV (pc := 44) (np := 0) (as := []) (rest := []) dX2_shipAt_44 ht (q := (RJ24, TJ24, 1)) rfl (c_J24_intValue (by decide) r12 h13) rfl rfl q1973 q1678 q1679 rfl (by decide) (zkI (fun x14 h15 => ?_)) zxo
          refine s_ist (pc := 47) (L2 := [(1, .int a1), (2, .int a2), (3, va_rf a3)]) [0, 1, 2] dX2_shipAt_47 (by decide) rfl rfl (zcB (j := 2) rfl (zcat_rf a3) rfl) ?_
          refine s_iload_n (pc := 49) 2 dX2_shipAt_49 rfl rfl ?_
          refine s_iload_n (pc := 50) 1 dX2_shipAt_50 rfl rfl ?_
          refine s_icmp_ne (pc := 51) (tgt := 57) dX2_shipAt_51 (by decide) (fun _ => ?_) (fun _ => ?_)
          · refine s_inc (pc := 57) (v := 1) (L2 := [(1, .int a1), (3, va_rf a3)]) 2 [1, 3] dX2_shipAt_57 rfl (by decide) (by decide) rfl rfl (zcB (j := 0) rfl rfl rfl) (fun x16 => ?_)
            refine s_goto (pc := 60) (tgt := 26) dX2_shipAt_60 (by decide) ?_
            exact s_sub (pc := 26) [1, 0, 2] rfl (ih a1 x16 a3 h15)
          · refine s_iload (pc := 54) 0 dX2_shipAt_54 rfl ?_
            exact s_iret (pc := 56) dX2_shipAt_56 rfl
        refine zS_ite (fun ht => ?_) (fun _ => ?_)
        · refine s_callF (pc := 36) (np := 0) (as := []) (rest := []) dX2_shipAt_36 ht (q := (RJ15, TJ15, 4)) rfl (c_J15_next (by decide) a3 h11) ⟨_, _, _, q788⟩ rfl rfl q670 (by decide +kernel) q786 q784 rfl (by decide) (zkR (fun r12 h13 => ?_)) zxo
          refine s_cast (pc := 41) dX2_shipAt_41 q1972 zcs_java_lang_Integer ?_
          refine zS_ite (fun ht => ?_) (fun _ => zS_none)
          refine s_callV (pc := 44) (np := 0) (as := []) (rest := []) dX2_shipAt_44 ht (q := (RJ24, TJ24, 1)) rfl (c_J24_intValue (by decide) r12 h13) rfl rfl q1973 q1678 q1679 rfl (by decide) (zkI (fun x17 h18 => ?_)) zxo
          refine s_ist (pc := 47) (L2 := [(1, .int a1), (2, .int a2), (3, va_rf a3)]) [0, 1, 2] dX2_shipAt_47 (by decide) rfl rfl (zcB (j := 2) rfl (zcat_rf a3) rfl) ?_
          refine s_iload_n (pc := 49) 2 dX2_shipAt_49 rfl rfl ?_
          refine s_iload_n (pc := 50) 1 dX2_shipAt_50 rfl rfl ?_
          refine s_icmp_ne (pc := 51) (tgt := 57) dX2_shipAt_51 (by decide) (fun _ => ?_) (fun _ => ?_)
          · refine s_inc (pc := 57) (v := 1) (L2 := [(1, .int a1), (3, va_rf a3)]) 2 [1, 3] dX2_shipAt_57 rfl (by decide) (by decide) rfl rfl (zcB (j := 0) rfl rfl rfl) (fun x19 => ?_)
            refine s_goto (pc := 60) (tgt := 26) dX2_shipAt_60 (by decide) ?_
            exact s_sub (pc := 26) [1, 0, 2] rfl (ih a1 x19 a3 h18)
          · refine s_iload (pc := 54) 0 dX2_shipAt_54 rfl ?_
            exact s_iret (pc := 56) dX2_shipAt_56 rfl
        refine zS_ite (fun ht => ?_) (fun _ => ?_)
        · refine s_callF (pc := 36) (np := 0) (as := []) (rest := []) dX2_shipAt_36 ht (q := (RJ17, TJ17, 5)) rfl (c_J17_next (by decide) a3 h11) ⟨_, _, _, q799⟩ rfl rfl q670 (by decide +kernel) q797 q795 rfl (by decide) (zkR (fun r12 h13 => ?_)) zxo
          refine s_cast (pc := 41) dX2_shipAt_41 q1972 zcs_java_lang_Integer ?_
          refine zS_ite (fun ht => ?_) (fun _ => zS_none)
          refine s_callV (pc := 44) (np := 0) (as := []) (rest := []) dX2_shipAt_44 ht (q := (RJ24, TJ24, 1)) rfl (c_J24_intValue (by decide) r12 h13) rfl rfl q1973 q1678 q1679 rfl (by decide) (zkI (fun x20 h21 => ?_)) zxo
          refine s_ist (pc := 47) (L2 := [(1, .int a1), (2, .int a2), (3, va_rf a3)]) [0, 1, 2] dX2_shipAt_47 (by decide) rfl rfl (zcB (j := 2) rfl (zcat_rf a3) rfl) ?_
          refine s_iload_n (pc := 49) 2 dX2_shipAt_49 rfl rfl ?_
          refine s_iload_n (pc := 50) 1 dX2_shipAt_50 rfl rfl ?_
          refine s_icmp_ne (pc := 51) (tgt := 57) dX2_shipAt_51 (by decide) (fun _ => ?_) (fun _ => ?_)
          · refine s_inc (pc := 57) (v := 1) (L2 := [(1, .int a1), (3, va_rf a3)]) 2 [1, 3] dX2_shipAt_57 rfl (by decide) (by decide) rfl rfl (zcB (j := 0) rfl rfl rfl) (fun x22 => ?_)
            refine s_goto (pc := 60) (tgt := 26) dX2_shipAt_60 (by decide) ?_
            exact s_sub (pc := 26) [1, 0, 2] rfl (ih a1 x22 a3 h21)
          · refine s_iload (pc := 54) 0 dX2_shipAt_54 rfl ?_
            exact s_iret (pc := 56) dX2_shipAt_56 rfl
        refine zS_ite (fun ht => ?_) (fun _ => ?_)
        · refine s_callF (pc := 36) (np := 0) (as := []) (rest := []) dX2_shipAt_36 ht (q := (RJ21, TJ21, 5)) rfl (c_J21_next (by decide) a3 h11) ⟨_, _, _, q812⟩ rfl rfl q670 (by decide +kernel) q810 q808 rfl (by decide) (zkR (fun r12 h13 => ?_)) zxo
          refine s_cast (pc := 41) dX2_shipAt_41 q1972 zcs_java_lang_Integer ?_
          refine zS_ite (fun ht => ?_) (fun _ => zS_none)
          refine s_callV (pc := 44) (np := 0) (as := []) (rest := []) dX2_shipAt_44 ht (q := (RJ24, TJ24, 1)) rfl (c_J24_intValue (by decide) r12 h13) rfl rfl q1973 q1678 q1679 rfl (by decide) (zkI (fun x23 h24 => ?_)) zxo
          refine s_ist (pc := 47) (L2 := [(1, .int a1), (2, .int a2), (3, va_rf a3)]) [0, 1, 2] dX2_shipAt_47 (by decide) rfl rfl (zcB (j := 2) rfl (zcat_rf a3) rfl) ?_
          refine s_iload_n (pc := 49) 2 dX2_shipAt_49 rfl rfl ?_
          refine s_iload_n (pc := 50) 1 dX2_shipAt_50 rfl rfl ?_
          refine s_icmp_ne (pc := 51) (tgt := 57) dX2_shipAt_51 (by decide) (fun _ => ?_) (fun _ => ?_)
          · refine s_inc (pc := 57) (v := 1) (L2 := [(1, .int a1), (3, va_rf a3)]) 2 [1, 3] dX2_shipAt_57 rfl (by decide) (by decide) rfl rfl (zcB (j := 0) rfl rfl rfl) (fun x25 => ?_)
            refine s_goto (pc := 60) (tgt := 26) dX2_shipAt_60 (by decide) ?_
            exact s_sub (pc := 26) [1, 0, 2] rfl (ih a1 x25 a3 h24)
          · refine s_iload (pc := 54) 0 dX2_shipAt_54 rfl ?_
            exact s_iret (pc := 56) dX2_shipAt_56 rfl
        refine zS_ite (fun ht => ?_) (fun _ => zS_none)
        refine s_callF (pc := 36) (np := 0) (as := []) (rest := []) dX2_shipAt_36 ht (q := (RJ22, TJ22, 5)) rfl (c_J22_next (by decide) a3 h11) ⟨_, _, _, q832⟩ rfl rfl q670 (by decide +kernel) q830 q828 rfl (by decide) (zkR (fun r12 h13 => ?_)) zxo
        refine s_cast (pc := 41) dX2_shipAt_41 q1972 zcs_java_lang_Integer ?_
        refine zS_ite (fun ht => ?_) (fun _ => zS_none)
        refine s_callV (pc := 44) (np := 0) (as := []) (rest := []) dX2_shipAt_44 ht (q := (RJ24, TJ24, 1)) rfl (c_J24_intValue (by decide) r12 h13) rfl rfl q1973 q1678 q1679 rfl (by decide) (zkI (fun x26 h27 => ?_)) zxo
        refine s_ist (pc := 47) (L2 := [(1, .int a1), (2, .int a2), (3, va_rf a3)]) [0, 1, 2] dX2_shipAt_47 (by decide) rfl rfl (zcB (j := 2) rfl (zcat_rf a3) rfl) ?_
        refine s_iload_n (pc := 49) 2 dX2_shipAt_49 rfl rfl ?_
        refine s_iload_n (pc := 50) 1 dX2_shipAt_50 rfl rfl ?_
        refine s_icmp_ne (pc := 51) (tgt := 57) dX2_shipAt_51 (by decide) (fun _ => ?_) (fun _ => ?_)
        · refine s_inc (pc := 57) (v := 1) (L2 := [(1, .int a1), (3, va_rf a3)]) 2 [1, 3] dX2_shipAt_57 rfl (by decide) (by decide) rfl rfl (zcB (j := 0) rfl rfl rfl) (fun x28 => ?_)
          refine s_goto (pc := 60) (tgt := 26) dX2_shipAt_60 (by decide) ?_
          exact s_sub (pc := 26) [1, 0, 2] rfl (ih a1 x28 a3 h27)
        · refine s_iload (pc := 54) 0 dX2_shipAt_54 rfl ?_
          exact s_iret (pc := 56) dX2_shipAt_56 rfl
    refine zS_ite (fun ht => ?_) (fun _ => ?_)
    · refine s_callF (pc := 27) (np := 0) (as := []) (rest := []) dX2_shipAt_27 ht (q := (RJ15, TJ15, 4)) rfl (c_J15_hasNext (by decide) a3 h) ⟨_, _, _, q653⟩ rfl rfl q629 (by decide +kernel) q651 q649 rfl (by decide) (zkI (fun x10 h11 => ?_)) zxo
      refine s_if_eq (pc := 32) (tgt := 63) dX2_shipAt_32 (by decide) (fun _ => ?_) (fun _ => ?_)
      · refine s_iconst (pc := 63) (v := -1) dX2_shipAt_63 (by decide) ?_
        exact s_iret (pc := 64) dX2_shipAt_64 rfl
      · refine s_aload_n (pc := 35) 2 dX2_shipAt_35 rfl rfl ?_
        refine zS_ite (fun ht => ?_) (fun _ => ?_)
        · refine s_callF (pc := 36) (np := 0) (as := []) (rest := []) dX2_shipAt_36 ht (q := (RX9, TX9, 2)) rfl (c_X9_next (by decide) a3 h11) ⟨_, _, _, q677⟩ rfl rfl q670 (by decide +kernel) q675 q673 rfl (by decide) (zkR (fun r29 h30 => ?_)) zxo
          refine s_cast (pc := 41) dX2_shipAt_41 q1972 zcs_java_lang_Integer ?_
          refine zS_ite (fun ht => ?_) (fun _ => zS_none)
          refine s_callV (pc := 44) (np := 0) (as := []) (rest := []) dX2_shipAt_44 ht (q := (RJ24, TJ24, 1)) rfl (c_J24_intValue (by decide) r29 h30) rfl rfl q1973 q1678 q1679 rfl (by decide) (zkI (fun x31 h32 => ?_)) zxo
          refine s_ist (pc := 47) (L2 := [(1, .int a1), (2, .int a2), (3, va_rf a3)]) [0, 1, 2] dX2_shipAt_47 (by decide) rfl rfl (zcB (j := 2) rfl (zcat_rf a3) rfl) ?_
          refine s_iload_n (pc := 49) 2 dX2_shipAt_49 rfl rfl ?_
          refine s_iload_n (pc := 50) 1 dX2_shipAt_50 rfl rfl ?_
          refine s_icmp_ne (pc := 51) (tgt := 57) dX2_shipAt_51 (by decide) (fun _ => ?_) (fun _ => ?_)
          · refine s_inc (pc := 57) (v := 1) (L2 := [(1, .int a1), (3, va_rf a3)]) 2 [1, 3] dX2_shipAt_57 rfl (by decide) (by decide) rfl rfl (zcB (j := 0) rfl rfl rfl) (fun x33 => ?_)
            refine s_goto (pc := 60) (tgt := 26) dX2_shipAt_60 (by decide) ?_
            exact s_sub (pc := 26) [1, 0, 2] rfl (ih a1 x33 a3 h32)
          · refine s_iload (pc := 54) 0 dX2_shipAt_54 rfl ?_
            exact s_iret (pc := 56) dX2_shipAt_56 rfl
        refine zS_ite (fun ht => ?_) (fun _ => ?_)
        · refine s_callF (pc := 36) (np := 0) (as := []) (rest := []) dX2_shipAt_36 ht (q := (RJ15, TJ15, 4)) rfl (c_J15_next (by decide) a3 h11) ⟨_, _, _, q788⟩ rfl rfl q670 (by decide +kernel) q786 q784 rfl (by decide) (zkR (fun r29 h30 => ?_)) zxo
          refine s_cast (pc := 41) dX2_shipAt_41 q1972 zcs_java_lang_Integer ?_
          refine zS_ite (fun ht => ?_) (fun _ => zS_none)
          refine s_callV (pc := 44) (np := 0) (as := []) (rest := []) dX2_shipAt_44 ht (q := (RJ24, TJ24, 1)) rfl (c_J24_intValue (by decide) r29 h30) rfl rfl q1973 q1678 q1679 rfl (by decide) (zkI (fun x34 h35 => ?_)) zxo
          refine s_ist (pc := 47) (L2 := [(1, .int a1), (2, .int a2), (3, va_rf a3)]) [0, 1, 2] dX2_shipAt_47 (by decide) rfl rfl (zcB (j := 2) rfl (zcat_rf a3) rfl) ?_
          refine s_iload_n (pc := 49) 2 dX2_shipAt_49 rfl rfl ?_
          refine s_iload_n (pc := 50) 1 dX2_shipAt_50 rfl rfl ?_
          refine s_icmp_ne (pc := 51) (tgt := 57) dX2_shipAt_51 (by decide) (fun _ => ?_) (fun _ => ?_)
          · refine s_inc (pc := 57) (v := 1) (L2 := [(1, .int a1), (3, va_rf a3)]) 2 [1, 3] dX2_shipAt_57 rfl (by decide) (by decide) rfl rfl (zcB (j := 0) rfl rfl rfl) (fun x36 => ?_)
            refine s_goto (pc := 60) (tgt := 26) dX2_shipAt_60 (by decide) ?_
            exact s_sub (pc := 26) [1, 0, 2] rfl (ih a1 x36 a3 h35)
          · refine s_iload (pc := 54) 0 dX2_shipAt_54 rfl ?_
            exact s_iret (pc := 56) dX2_shipAt_56 rfl
        refine zS_ite (fun ht => ?_) (fun _ => ?_)
        · refine s_callF (pc := 36) (np := 0) (as := []) (rest := []) dX2_shipAt_36 ht (q := (RJ17, TJ17, 5)) rfl (c_J17_next (by decide) a3 h11) ⟨_, _, _, q799⟩ rfl rfl q670 (by decide +kernel) q797 q795 rfl (by decide) (zkR (fun r29 h30 => ?_)) zxo
          refine s_cast (pc := 41) dX2_shipAt_41 q1972 zcs_java_lang_Integer ?_
          refine zS_ite (fun ht => ?_) (fun _ => zS_none)
          refine s_callV (pc := 44) (np := 0) (as := []) (rest := []) dX2_shipAt_44 ht (q := (RJ24, TJ24, 1)) rfl (c_J24_intValue (by decide) r29 h30) rfl rfl q1973 q1678 q1679 rfl (by decide) (zkI (fun x37 h38 => ?_)) zxo
          refine s_ist (pc := 47) (L2 := [(1, .int a1), (2, .int a2), (3, va_rf a3)]) [0, 1, 2] dX2_shipAt_47 (by decide) rfl rfl (zcB (j := 2) rfl (zcat_rf a3) rfl) ?_
          refine s_iload_n (pc := 49) 2 dX2_shipAt_49 rfl rfl ?_
          refine s_iload_n (pc := 50) 1 dX2_shipAt_50 rfl rfl ?_
          refine s_icmp_ne (pc := 51) (tgt := 57) dX2_shipAt_51 (by decide) (fun _ => ?_) (fun _ => ?_)
          · refine s_inc (pc := 57) (v := 1) (L2 := [(1, .int a1), (3, va_rf a3)]) 2 [1, 3] dX2_shipAt_57 rfl (by decide) (by decide) rfl rfl (zcB (j := 0) rfl rfl rfl) (fun x39 => ?_)
            refine s_goto (pc := 60) (tgt := 26) dX2_shipAt_60 (by decide) ?_
            exact s_sub (pc := 26) [1, 0, 2] rfl (ih a1 x39 a3 h38)
          · refine s_iload (pc := 54) 0 dX2_shipAt_54 rfl ?_
            exact s_iret (pc := 56) dX2_shipAt_56 rfl
        refine zS_ite (fun ht => ?_) (fun _ => ?_)
        · refine s_callF (pc := 36) (np := 0) (as := []) (rest := []) dX2_shipAt_36 ht (q := (RJ21, TJ21, 5)) rfl (c_J21_next (by decide) a3 h11) ⟨_, _, _, q812⟩ rfl rfl q670 (by decide +kernel) q810 q808 rfl (by decide) (zkR (fun r29 h30 => ?_)) zxo
          refine s_cast (pc := 41) dX2_shipAt_41 q1972 zcs_java_lang_Integer ?_
          refine zS_ite (fun ht => ?_) (fun _ => zS_none)
          refine s_callV (pc := 44) (np := 0) (as := []) (rest := []) dX2_shipAt_44 ht (q := (RJ24, TJ24, 1)) rfl (c_J24_intValue (by decide) r29 h30) rfl rfl q1973 q1678 q1679 rfl (by decide) (zkI (fun x40 h41 => ?_)) zxo
          refine s_ist (pc := 47) (L2 := [(1, .int a1), (2, .int a2), (3, va_rf a3)]) [0, 1, 2] dX2_shipAt_47 (by decide) rfl rfl (zcB (j := 2) rfl (zcat_rf a3) rfl) ?_
          refine s_iload_n (pc := 49) 2 dX2_shipAt_49 rfl rfl ?_
          refine s_iload_n (pc := 50) 1 dX2_shipAt_50 rfl rfl ?_
          refine s_icmp_ne (pc := 51) (tgt := 57) dX2_shipAt_51 (by decide) (fun _ => ?_) (fun _ => ?_)
          · refine s_inc (pc := 57) (v := 1) (L2 := [(1, .int a1), (3, va_rf a3)]) 2 [1, 3] dX2_shipAt_57 rfl (by decide) (by decide) rfl rfl (zcB (j := 0) rfl rfl rfl) (fun x42 => ?_)
            refine s_goto (pc := 60) (tgt := 26) dX2_shipAt_60 (by decide) ?_
            exact s_sub (pc := 26) [1, 0, 2] rfl (ih a1 x42 a3 h41)
          · refine s_iload (pc := 54) 0 dX2_shipAt_54 rfl ?_
            exact s_iret (pc := 56) dX2_shipAt_56 rfl
        refine zS_ite (fun ht => ?_) (fun _ => zS_none)
        refine s_callF (pc := 36) (np := 0) (as := []) (rest := []) dX2_shipAt_36 ht (q := (RJ22, TJ22, 5)) rfl (c_J22_next (by decide) a3 h11) ⟨_, _, _, q832⟩ rfl rfl q670 (by decide +kernel) q830 q828 rfl (by decide) (zkR (fun r29 h30 => ?_)) zxo
        refine s_cast (pc := 41) dX2_shipAt_41 q1972 zcs_java_lang_Integer ?_
        refine zS_ite (fun ht => ?_) (fun _ => zS_none)
        refine s_callV (pc := 44) (np := 0) (as := []) (rest := []) dX2_shipAt_44 ht (q := (RJ24, TJ24, 1)) rfl (c_J24_intValue (by decide) r29 h30) rfl rfl q1973 q1678 q1679 rfl (by decide) (zkI (fun x43 h44 => ?_)) zxo
        refine s_ist (pc := 47) (L2 := [(1, .int a1), (2, .int a2), (3, va_rf a3)]) [0, 1, 2] dX2_shipAt_47 (by decide) rfl rfl (zcB (j := 2) rfl (zcat_rf a3) rfl) ?_
        refine s_iload_n (pc := 49) 2 dX2_shipAt_49 rfl rfl ?_
        refine s_iload_n (pc := 50) 1 dX2_shipAt_50 rfl rfl ?_
        refine s_icmp_ne (pc := 51) (tgt := 57) dX2_shipAt_51 (by decide) (fun _ => ?_) (fun _ => ?_)
        · refine s_inc (pc := 57) (v := 1) (L2 := [(1, .int a1), (3, va_rf a3)]) 2 [1, 3] dX2_shipAt_57 rfl (by decide) (by decide) rfl rfl (zcB (j := 0) rfl rfl rfl) (fun x45 => ?_)
          refine s_goto (pc := 60) (tgt := 26) dX2_shipAt_60 (by decide) ?_
          exact s_sub (pc := 26) [1, 0, 2] rfl (ih a1 x45 a3 h44)
        · refine s_iload (pc := 54) 0 dX2_shipAt_54 rfl ?_
          exact s_iret (pc := 56) dX2_shipAt_56 rfl
    refine zS_ite (fun ht => ?_) (fun _ => ?_)
    · refine s_callF (pc := 27) (np := 0) (as := []) (rest := []) dX2_shipAt_27 ht (q := (RJ17, TJ17, 5)) rfl (c_J16_hasNext (by decide) a3 h) ⟨_, _, _, q659⟩ rfl rfl q629 (by decide +kernel) q657 q655 rfl (by decide) (zkI (fun x10 h11 => ?_)) zxo
      refine s_if_eq (pc := 32) (tgt := 63) dX2_shipAt_32 (by decide) (fun _ => ?_) (fun _ => ?_)
      · refine s_iconst (pc := 63) (v := -1) dX2_shipAt_63 (by decide) ?_
        exact s_iret (pc := 64) dX2_shipAt_64 rfl
      · refine s_aload_n (pc := 35) 2 dX2_shipAt_35 rfl rfl ?_
        refine zS_ite (fun ht => ?_) (fun _ => ?_)
        · refine s_callF (pc := 36) (np := 0) (as := []) (rest := []) dX2_shipAt_36 ht (q := (RX9, TX9, 2)) rfl (c_X9_next (by decide) a3 h11) ⟨_, _, _, q677⟩ rfl rfl q670 (by decide +kernel) q675 q673 rfl (by decide) (zkR (fun r46 h47 => ?_)) zxo
          refine s_cast (pc := 41) dX2_shipAt_41 q1972 zcs_java_lang_Integer ?_
          refine zS_ite (fun ht => ?_) (fun _ => zS_none)
          refine s_callV (pc := 44) (np := 0) (as := []) (rest := []) dX2_shipAt_44 ht (q := (RJ24, TJ24, 1)) rfl (c_J24_intValue (by decide) r46 h47) rfl rfl q1973 q1678 q1679 rfl (by decide) (zkI (fun x48 h49 => ?_)) zxo
          refine s_ist (pc := 47) (L2 := [(1, .int a1), (2, .int a2), (3, va_rf a3)]) [0, 1, 2] dX2_shipAt_47 (by decide) rfl rfl (zcB (j := 2) rfl (zcat_rf a3) rfl) ?_
          refine s_iload_n (pc := 49) 2 dX2_shipAt_49 rfl rfl ?_
          refine s_iload_n (pc := 50) 1 dX2_shipAt_50 rfl rfl ?_
          refine s_icmp_ne (pc := 51) (tgt := 57) dX2_shipAt_51 (by decide) (fun _ => ?_) (fun _ => ?_)
          · refine s_inc (pc := 57) (v := 1) (L2 := [(1, .int a1), (3, va_rf a3)]) 2 [1, 3] dX2_shipAt_57 rfl (by decide) (by decide) rfl rfl (zcB (j := 0) rfl rfl rfl) (fun x50 => ?_)
            refine s_goto (pc := 60) (tgt := 26) dX2_shipAt_60 (by decide) ?_
            exact s_sub (pc := 26) [1, 0, 2] rfl (ih a1 x50 a3 h49)
          · refine s_iload (pc := 54) 0 dX2_shipAt_54 rfl ?_
            exact s_iret (pc := 56) dX2_shipAt_56 rfl
        refine zS_ite (fun ht => ?_) (fun _ => ?_)
        · refine s_callF (pc := 36) (np := 0) (as := []) (rest := []) dX2_shipAt_36 ht (q := (RJ15, TJ15, 4)) rfl (c_J15_next (by decide) a3 h11) ⟨_, _, _, q788⟩ rfl rfl q670 (by decide +kernel) q786 q784 rfl (by decide) (zkR (fun r46 h47 => ?_)) zxo
          refine s_cast (pc := 41) dX2_shipAt_41 q1972 zcs_java_lang_Integer ?_
          refine zS_ite (fun ht => ?_) (fun _ => zS_none)
          refine s_callV (pc := 44) (np := 0) (as := []) (rest := []) dX2_shipAt_44 ht (q := (RJ24, TJ24, 1)) rfl (c_J24_intValue (by decide) r46 h47) rfl rfl q1973 q1678 q1679 rfl (by decide) (zkI (fun x51 h52 => ?_)) zxo
          refine s_ist (pc := 47) (L2 := [(1, .int a1), (2, .int a2), (3, va_rf a3)]) [0, 1, 2] dX2_shipAt_47 (by decide) rfl rfl (zcB (j := 2) rfl (zcat_rf a3) rfl) ?_
          refine s_iload_n (pc := 49) 2 dX2_shipAt_49 rfl rfl ?_
          refine s_iload_n (pc := 50) 1 dX2_shipAt_50 rfl rfl ?_
          refine s_icmp_ne (pc := 51) (tgt := 57) dX2_shipAt_51 (by decide) (fun _ => ?_) (fun _ => ?_)
          · refine s_inc (pc := 57) (v := 1) (L2 := [(1, .int a1), (3, va_rf a3)]) 2 [1, 3] dX2_shipAt_57 rfl (by decide) (by decide) rfl rfl (zcB (j := 0) rfl rfl rfl) (fun x53 => ?_)
            refine s_goto (pc := 60) (tgt := 26) dX2_shipAt_60 (by decide) ?_
            exact s_sub (pc := 26) [1, 0, 2] rfl (ih a1 x53 a3 h52)
          · refine s_iload (pc := 54) 0 dX2_shipAt_54 rfl ?_
            exact s_iret (pc := 56) dX2_shipAt_56 rfl
        refine zS_ite (fun ht => ?_) (fun _ => ?_)
        · refine s_callF (pc := 36) (np := 0) (as := []) (rest := []) dX2_shipAt_36 ht (q := (RJ17, TJ17, 5)) rfl (c_J17_next (by decide) a3 h11) ⟨_, _, _, q799⟩ rfl rfl q670 (by decide +kernel) q797 q795 rfl (by decide) (zkR (fun r46 h47 => ?_)) zxo
          refine s_cast (pc := 41) dX2_shipAt_41 q1972 zcs_java_lang_Integer ?_
          refine zS_ite (fun ht => ?_) (fun _ => zS_none)
          refine s_callV (pc := 44) (np := 0) (as := []) (rest := []) dX2_shipAt_44 ht (q := (RJ24, TJ24, 1)) rfl (c_J24_intValue (by decide) r46 h47) rfl rfl q1973 q1678 q1679 rfl (by decide) (zkI (fun x54 h55 => ?_)) zxo
          refine s_ist (pc := 47) (L2 := [(1, .int a1), (2, .int a2), (3, va_rf a3)]) [0, 1, 2] dX2_shipAt_47 (by decide) rfl rfl (zcB (j := 2) rfl (zcat_rf a3) rfl) ?_
          refine s_iload_n (pc := 49) 2 dX2_shipAt_49 rfl rfl ?_
          refine s_iload_n (pc := 50) 1 dX2_shipAt_50 rfl rfl ?_
          refine s_icmp_ne (pc := 51) (tgt := 57) dX2_shipAt_51 (by decide) (fun _ => ?_) (fun _ => ?_)
          · refine s_inc (pc := 57) (v := 1) (L2 := [(1, .int a1), (3, va_rf a3)]) 2 [1, 3] dX2_shipAt_57 rfl (by decide) (by decide) rfl rfl (zcB (j := 0) rfl rfl rfl) (fun x56 => ?_)
            refine s_goto (pc := 60) (tgt := 26) dX2_shipAt_60 (by decide) ?_
            exact s_sub (pc := 26) [1, 0, 2] rfl (ih a1 x56 a3 h55)
          · refine s_iload (pc := 54) 0 dX2_shipAt_54 rfl ?_
            exact s_iret (pc := 56) dX2_shipAt_56 rfl
        refine zS_ite (fun ht => ?_) (fun _ => ?_)
        · refine s_callF (pc := 36) (np := 0) (as := []) (rest := []) dX2_shipAt_36 ht (q := (RJ21, TJ21, 5)) rfl (c_J21_next (by decide) a3 h11) ⟨_, _, _, q812⟩ rfl rfl q670 (by decide +kernel) q810 q808 rfl (by decide) (zkR (fun r46 h47 => ?_)) zxo
          refine s_cast (pc := 41) dX2_shipAt_41 q1972 zcs_java_lang_Integer ?_
          refine zS_ite (fun ht => ?_) (fun _ => zS_none)
          refine s_callV (pc := 44) (np := 0) (as := []) (rest := []) dX2_shipAt_44 ht (q := (RJ24, TJ24, 1)) rfl (c_J24_intValue (by decide) r46 h47) rfl rfl q1973 q1678 q1679 rfl (by decide) (zkI (fun x57 h58 => ?_)) zxo
          refine s_ist (pc := 47) (L2 := [(1, .int a1), (2, .int a2), (3, va_rf a3)]) [0, 1, 2] dX2_shipAt_47 (by decide) rfl rfl (zcB (j := 2) rfl (zcat_rf a3) rfl) ?_
          refine s_iload_n (pc := 49) 2 dX2_shipAt_49 rfl rfl ?_
          refine s_iload_n (pc := 50) 1 dX2_shipAt_50 rfl rfl ?_
          refine s_icmp_ne (pc := 51) (tgt := 57) dX2_shipAt_51 (by decide) (fun _ => ?_) (fun _ => ?_)
          · refine s_inc (pc := 57) (v := 1) (L2 := [(1, .int a1), (3, va_rf a3)]) 2 [1, 3] dX2_shipAt_57 rfl (by decide) (by decide) rfl rfl (zcB (j := 0) rfl rfl rfl) (fun x59 => ?_)
            refine s_goto (pc := 60) (tgt := 26) dX2_shipAt_60 (by decide) ?_
            exact s_sub (pc := 26) [1, 0, 2] rfl (ih a1 x59 a3 h58)
          · refine s_iload (pc := 54) 0 dX2_shipAt_54 rfl ?_
            exact s_iret (pc := 56) dX2_shipAt_56 rfl
        refine zS_ite (fun ht => ?_) (fun _ => zS_none)
        refine s_callF (pc := 36) (np := 0) (as := []) (rest := []) dX2_shipAt_36 ht (q := (RJ22, TJ22, 5)) rfl (c_J22_next (by decide) a3 h11) ⟨_, _, _, q832⟩ rfl rfl q670 (by decide +kernel) q830 q828 rfl (by decide) (zkR (fun r46 h47 => ?_)) zxo
        refine s_cast (pc := 41) dX2_shipAt_41 q1972 zcs_java_lang_Integer ?_
        refine zS_ite (fun ht => ?_) (fun _ => zS_none)
        refine s_callV (pc := 44) (np := 0) (as := []) (rest := []) dX2_shipAt_44 ht (q := (RJ24, TJ24, 1)) rfl (c_J24_intValue (by decide) r46 h47) rfl rfl q1973 q1678 q1679 rfl (by decide) (zkI (fun x60 h61 => ?_)) zxo
        refine s_ist (pc := 47) (L2 := [(1, .int a1), (2, .int a2), (3, va_rf a3)]) [0, 1, 2] dX2_shipAt_47 (by decide) rfl rfl (zcB (j := 2) rfl (zcat_rf a3) rfl) ?_
        refine s_iload_n (pc := 49) 2 dX2_shipAt_49 rfl rfl ?_
        refine s_iload_n (pc := 50) 1 dX2_shipAt_50 rfl rfl ?_
        refine s_icmp_ne (pc := 51) (tgt := 57) dX2_shipAt_51 (by decide) (fun _ => ?_) (fun _ => ?_)
        · refine s_inc (pc := 57) (v := 1) (L2 := [(1, .int a1), (3, va_rf a3)]) 2 [1, 3] dX2_shipAt_57 rfl (by decide) (by decide) rfl rfl (zcB (j := 0) rfl rfl rfl) (fun x62 => ?_)
          refine s_goto (pc := 60) (tgt := 26) dX2_shipAt_60 (by decide) ?_
          exact s_sub (pc := 26) [1, 0, 2] rfl (ih a1 x62 a3 h61)
        · refine s_iload (pc := 54) 0 dX2_shipAt_54 rfl ?_
          exact s_iret (pc := 56) dX2_shipAt_56 rfl
    refine zS_ite (fun ht => ?_) (fun _ => ?_)
    · refine s_callF (pc := 27) (np := 0) (as := []) (rest := []) dX2_shipAt_27 ht (q := (RJ21, TJ21, 5)) rfl (c_J20_hasNext (by decide) a3 h) ⟨_, _, _, q665⟩ rfl rfl q629 (by decide +kernel) q663 q661 rfl (by decide) (zkI (fun x10 h11 => ?_)) zxo
      refine s_if_eq (pc := 32) (tgt := 63) dX2_shipAt_32 (by decide) (fun _ => ?_) (fun _ => ?_)
      · refine s_iconst (pc := 63) (v := -1) dX2_shipAt_63 (by decide) ?_
        exact s_iret (pc := 64) dX2_shipAt_64 rfl
      · refine s_aload_n (pc := 35) 2 dX2_shipAt_35 rfl rfl ?_
        refine zS_ite (fun ht => ?_) (fun _ => ?_)
        · refine s_callF (pc := 36) (np := 0) (as := []) (rest := []) dX2_shipAt_36 ht (q := (RX9, TX9, 2)) rfl (c_X9_next (by decide) a3 h11) ⟨_, _, _, q677⟩ rfl rfl q670 (by decide +kernel) q675 q673 rfl (by decide) (zkR (fun r63 h64 => ?_)) zxo
          refine s_cast (pc := 41) dX2_shipAt_41 q1972 zcs_java_lang_Integer ?_
          refine zS_ite (fun ht => ?_) (fun _ => zS_none)
          refine s_callV (pc := 44) (np := 0) (as := []) (rest := []) dX2_shipAt_44 ht (q := (RJ24, TJ24, 1)) rfl (c_J24_intValue (by decide) r63 h64) rfl rfl q1973 q1678 q1679 rfl (by decide) (zkI (fun x65 h66 => ?_)) zxo
          refine s_ist (pc := 47) (L2 := [(1, .int a1), (2, .int a2), (3, va_rf a3)]) [0, 1, 2] dX2_shipAt_47 (by decide) rfl rfl (zcB (j := 2) rfl (zcat_rf a3) rfl) ?_
          refine s_iload_n (pc := 49) 2 dX2_shipAt_49 rfl rfl ?_
          refine s_iload_n (pc := 50) 1 dX2_shipAt_50 rfl rfl ?_
          refine s_icmp_ne (pc := 51) (tgt := 57) dX2_shipAt_51 (by decide) (fun _ => ?_) (fun _ => ?_)
          · refine s_inc (pc := 57) (v := 1) (L2 := [(1, .int a1), (3, va_rf a3)]) 2 [1, 3] dX2_shipAt_57 rfl (by decide) (by decide) rfl rfl (zcB (j := 0) rfl rfl rfl) (fun x67 => ?_)
            refine s_goto (pc := 60) (tgt := 26) dX2_shipAt_60 (by decide) ?_
            exact s_sub (pc := 26) [1, 0, 2] rfl (ih a1 x67 a3 h66)
          · refine s_iload (pc := 54) 0 dX2_shipAt_54 rfl ?_
            exact s_iret (pc := 56) dX2_shipAt_56 rfl
        refine zS_ite (fun ht => ?_) (fun _ => ?_)
        · refine s_callF (pc := 36) (np := 0) (as := []) (rest := []) dX2_shipAt_36 ht (q := (RJ15, TJ15, 4)) rfl (c_J15_next (by decide) a3 h11) ⟨_, _, _, q788⟩ rfl rfl q670 (by decide +kernel) q786 q784 rfl (by decide) (zkR (fun r63 h64 => ?_)) zxo
          refine s_cast (pc := 41) dX2_shipAt_41 q1972 zcs_java_lang_Integer ?_
          refine zS_ite (fun ht => ?_) (fun _ => zS_none)
          refine s_callV (pc := 44) (np := 0) (as := []) (rest := []) dX2_shipAt_44 ht (q := (RJ24, TJ24, 1)) rfl (c_J24_intValue (by decide) r63 h64) rfl rfl q1973 q1678 q1679 rfl (by decide) (zkI (fun x68 h69 => ?_)) zxo
          refine s_ist (pc := 47) (L2 := [(1, .int a1), (2, .int a2), (3, va_rf a3)]) [0, 1, 2] dX2_shipAt_47 (by decide) rfl rfl (zcB (j := 2) rfl (zcat_rf a3) rfl) ?_
          refine s_iload_n (pc := 49) 2 dX2_shipAt_49 rfl rfl ?_
          refine s_iload_n (pc := 50) 1 dX2_shipAt_50 rfl rfl ?_
          refine s_icmp_ne (pc := 51) (tgt := 57) dX2_shipAt_51 (by decide) (fun _ => ?_) (fun _ => ?_)
          · refine s_inc (pc := 57) (v := 1) (L2 := [(1, .int a1), (3, va_rf a3)]) 2 [1, 3] dX2_shipAt_57 rfl (by decide) (by decide) rfl rfl (zcB (j := 0) rfl rfl rfl) (fun x70 => ?_)
            refine s_goto (pc := 60) (tgt := 26) dX2_shipAt_60 (by decide) ?_
            exact s_sub (pc := 26) [1, 0, 2] rfl (ih a1 x70 a3 h69)
          · refine s_iload (pc := 54) 0 dX2_shipAt_54 rfl ?_
            exact s_iret (pc := 56) dX2_shipAt_56 rfl
        refine zS_ite (fun ht => ?_) (fun _ => ?_)
        · refine s_callF (pc := 36) (np := 0) (as := []) (rest := []) dX2_shipAt_36 ht (q := (RJ17, TJ17, 5)) rfl (c_J17_next (by decide) a3 h11) ⟨_, _, _, q799⟩ rfl rfl q670 (by decide +kernel) q797 q795 rfl (by decide) (zkR (fun r63 h64 => ?_)) zxo
          refine s_cast (pc := 41) dX2_shipAt_41 q1972 zcs_java_lang_Integer ?_
          refine zS_ite (fun ht => ?_) (fun _ => zS_none)
          refine s_callV (pc := 44) (np := 0) (as := []) (rest := []) dX2_shipAt_44 ht (q := (RJ24, TJ24, 1)) rfl (c_J24_intValue (by decide) r63 h64) rfl rfl q1973 q1678 q1679 rfl (by decide) (zkI (fun x71 h72 => ?_)) zxo
          refine s_ist (pc := 47) (L2 := [(1, .int a1), (2, .int a2), (3, va_rf a3)]) [0, 1, 2] dX2_shipAt_47 (by decide) rfl rfl (zcB (j := 2) rfl (zcat_rf a3) rfl) ?_
          refine s_iload_n (pc := 49) 2 dX2_shipAt_49 rfl rfl ?_
          refine s_iload_n (pc := 50) 1 dX2_shipAt_50 rfl rfl ?_
          refine s_icmp_ne (pc := 51) (tgt := 57) dX2_shipAt_51 (by decide) (fun _ => ?_) (fun _ => ?_)
          · refine s_inc (pc := 57) (v := 1) (L2 := [(1, .int a1), (3, va_rf a3)]) 2 [1, 3] dX2_shipAt_57 rfl (by decide) (by decide) rfl rfl (zcB (j := 0) rfl rfl rfl) (fun x73 => ?_)
            refine s_goto (pc := 60) (tgt := 26) dX2_shipAt_60 (by decide) ?_
            exact s_sub (pc := 26) [1, 0, 2] rfl (ih a1 x73 a3 h72)
          · refine s_iload (pc := 54) 0 dX2_shipAt_54 rfl ?_
            exact s_iret (pc := 56) dX2_shipAt_56 rfl
        refine zS_ite (fun ht => ?_) (fun _ => ?_)
        · refine s_callF (pc := 36) (np := 0) (as := []) (rest := []) dX2_shipAt_36 ht (q := (RJ21, TJ21, 5)) rfl (c_J21_next (by decide) a3 h11) ⟨_, _, _, q812⟩ rfl rfl q670 (by decide +kernel) q810 q808 rfl (by decide) (zkR (fun r63 h64 => ?_)) zxo
          refine s_cast (pc := 41) dX2_shipAt_41 q1972 zcs_java_lang_Integer ?_
          refine zS_ite (fun ht => ?_) (fun _ => zS_none)
          refine s_callV (pc := 44) (np := 0) (as := []) (rest := []) dX2_shipAt_44 ht (q := (RJ24, TJ24, 1)) rfl (c_J24_intValue (by decide) r63 h64) rfl rfl q1973 q1678 q1679 rfl (by decide) (zkI (fun x74 h75 => ?_)) zxo
          refine s_ist (pc := 47) (L2 := [(1, .int a1), (2, .int a2), (3, va_rf a3)]) [0, 1, 2] dX2_shipAt_47 (by decide) rfl rfl (zcB (j := 2) rfl (zcat_rf a3) rfl) ?_
          refine s_iload_n (pc := 49) 2 dX2_shipAt_49 rfl rfl ?_
          refine s_iload_n (pc := 50) 1 dX2_shipAt_50 rfl rfl ?_
          refine s_icmp_ne (pc := 51) (tgt := 57) dX2_shipAt_51 (by decide) (fun _ => ?_) (fun _ => ?_)
          · refine s_inc (pc := 57) (v := 1) (L2 := [(1, .int a1), (3, va_rf a3)]) 2 [1, 3] dX2_shipAt_57 rfl (by decide) (by decide) rfl rfl (zcB (j := 0) rfl rfl rfl) (fun x76 => ?_)
            refine s_goto (pc := 60) (tgt := 26) dX2_shipAt_60 (by decide) ?_
            exact s_sub (pc := 26) [1, 0, 2] rfl (ih a1 x76 a3 h75)
          · refine s_iload (pc := 54) 0 dX2_shipAt_54 rfl ?_
            exact s_iret (pc := 56) dX2_shipAt_56 rfl
        refine zS_ite (fun ht => ?_) (fun _ => zS_none)
        refine s_callF (pc := 36) (np := 0) (as := []) (rest := []) dX2_shipAt_36 ht (q := (RJ22, TJ22, 5)) rfl (c_J22_next (by decide) a3 h11) ⟨_, _, _, q832⟩ rfl rfl q670 (by decide +kernel) q830 q828 rfl (by decide) (zkR (fun r63 h64 => ?_)) zxo
        refine s_cast (pc := 41) dX2_shipAt_41 q1972 zcs_java_lang_Integer ?_
        refine zS_ite (fun ht => ?_) (fun _ => zS_none)
        refine s_callV (pc := 44) (np := 0) (as := []) (rest := []) dX2_shipAt_44 ht (q := (RJ24, TJ24, 1)) rfl (c_J24_intValue (by decide) r63 h64) rfl rfl q1973 q1678 q1679 rfl (by decide) (zkI (fun x77 h78 => ?_)) zxo
        refine s_ist (pc := 47) (L2 := [(1, .int a1), (2, .int a2), (3, va_rf a3)]) [0, 1, 2] dX2_shipAt_47 (by decide) rfl rfl (zcB (j := 2) rfl (zcat_rf a3) rfl) ?_
        refine s_iload_n (pc := 49) 2 dX2_shipAt_49 rfl rfl ?_
        refine s_iload_n (pc := 50) 1 dX2_shipAt_50 rfl rfl ?_
        refine s_icmp_ne (pc := 51) (tgt := 57) dX2_shipAt_51 (by decide) (fun _ => ?_) (fun _ => ?_)
        · refine s_inc (pc := 57) (v := 1) (L2 := [(1, .int a1), (3, va_rf a3)]) 2 [1, 3] dX2_shipAt_57 rfl (by decide) (by decide) rfl rfl (zcB (j := 0) rfl rfl rfl) (fun x79 => ?_)
          refine s_goto (pc := 60) (tgt := 26) dX2_shipAt_60 (by decide) ?_
          exact s_sub (pc := 26) [1, 0, 2] rfl (ih a1 x79 a3 h78)
        · refine s_iload (pc := 54) 0 dX2_shipAt_54 rfl ?_
          exact s_iret (pc := 56) dX2_shipAt_56 rfl
    refine zS_ite (fun ht => ?_) (fun _ => zS_none)
    refine s_callF (pc := 27) (np := 0) (as := []) (rest := []) dX2_shipAt_27 ht (q := (RJ22, TJ22, 5)) rfl (c_J20_hasNext (by decide) a3 h) ⟨_, _, _, q665⟩ rfl rfl q629 (by decide +kernel) q663 q667 rfl (by decide) (zkI (fun x10 h11 => ?_)) zxo
    refine s_if_eq (pc := 32) (tgt := 63) dX2_shipAt_32 (by decide) (fun _ => ?_) (fun _ => ?_)
    · refine s_iconst (pc := 63) (v := -1) dX2_shipAt_63 (by decide) ?_
      exact s_iret (pc := 64) dX2_shipAt_64 rfl
    · refine s_aload_n (pc := 35) 2 dX2_shipAt_35 rfl rfl ?_
      refine zS_ite (fun ht => ?_) (fun _ => ?_)
      · refine s_callF (pc := 36) (np := 0) (as := []) (rest := []) dX2_shipAt_36 ht (q := (RX9, TX9, 2)) rfl (c_X9_next (by decide) a3 h11) ⟨_, _, _, q677⟩ rfl rfl q670 (by decide +kernel) q675 q673 rfl (by decide) (zkR (fun r80 h81 => ?_)) zxo
        refine s_cast (pc := 41) dX2_shipAt_41 q1972 zcs_java_lang_Integer ?_
        refine zS_ite (fun ht => ?_) (fun _ => zS_none)
        refine s_callV (pc := 44) (np := 0) (as := []) (rest := []) dX2_shipAt_44 ht (q := (RJ24, TJ24, 1)) rfl (c_J24_intValue (by decide) r80 h81) rfl rfl q1973 q1678 q1679 rfl (by decide) (zkI (fun x82 h83 => ?_)) zxo
        refine s_ist (pc := 47) (L2 := [(1, .int a1), (2, .int a2), (3, va_rf a3)]) [0, 1, 2] dX2_shipAt_47 (by decide) rfl rfl (zcB (j := 2) rfl (zcat_rf a3) rfl) ?_
        refine s_iload_n (pc := 49) 2 dX2_shipAt_49 rfl rfl ?_
        refine s_iload_n (pc := 50) 1 dX2_shipAt_50 rfl rfl ?_
        refine s_icmp_ne (pc := 51) (tgt := 57) dX2_shipAt_51 (by decide) (fun _ => ?_) (fun _ => ?_)
        · refine s_inc (pc := 57) (v := 1) (L2 := [(1, .int a1), (3, va_rf a3)]) 2 [1, 3] dX2_shipAt_57 rfl (by decide) (by decide) rfl rfl (zcB (j := 0) rfl rfl rfl) (fun x84 => ?_)
          refine s_goto (pc := 60) (tgt := 26) dX2_shipAt_60 (by decide) ?_
          exact s_sub (pc := 26) [1, 0, 2] rfl (ih a1 x84 a3 h83)
        · refine s_iload (pc := 54) 0 dX2_shipAt_54 rfl ?_
          exact s_iret (pc := 56) dX2_shipAt_56 rfl
      refine zS_ite (fun ht => ?_) (fun _ => ?_)
      · refine s_callF (pc := 36) (np := 0) (as := []) (rest := []) dX2_shipAt_36 ht (q := (RJ15, TJ15, 4)) rfl (c_J15_next (by decide) a3 h11) ⟨_, _, _, q788⟩ rfl rfl q670 (by decide +kernel) q786 q784 rfl (by decide) (zkR (fun r80 h81 => ?_)) zxo
        refine s_cast (pc := 41) dX2_shipAt_41 q1972 zcs_java_lang_Integer ?_
        refine zS_ite (fun ht => ?_) (fun _ => zS_none)
        refine s_callV (pc := 44) (np := 0) (as := []) (rest := []) dX2_shipAt_44 ht (q := (RJ24, TJ24, 1)) rfl (c_J24_intValue (by decide) r80 h81) rfl rfl q1973 q1678 q1679 rfl (by decide) (zkI (fun x85 h86 => ?_)) zxo
        refine s_ist (pc := 47) (L2 := [(1, .int a1), (2, .int a2), (3, va_rf a3)]) [0, 1, 2] dX2_shipAt_47 (by decide) rfl rfl (zcB (j := 2) rfl (zcat_rf a3) rfl) ?_
        refine s_iload_n (pc := 49) 2 dX2_shipAt_49 rfl rfl ?_
        refine s_iload_n (pc := 50) 1 dX2_shipAt_50 rfl rfl ?_
        refine s_icmp_ne (pc := 51) (tgt := 57) dX2_shipAt_51 (by decide) (fun _ => ?_) (fun _ => ?_)
        · refine s_inc (pc := 57) (v := 1) (L2 := [(1, .int a1), (3, va_rf a3)]) 2 [1, 3] dX2_shipAt_57 rfl (by decide) (by decide) rfl rfl (zcB (j := 0) rfl rfl rfl) (fun x87 => ?_)
          refine s_goto (pc := 60) (tgt := 26) dX2_shipAt_60 (by decide) ?_
          exact s_sub (pc := 26) [1, 0, 2] rfl (ih a1 x87 a3 h86)
        · refine s_iload (pc := 54) 0 dX2_shipAt_54 rfl ?_
          exact s_iret (pc := 56) dX2_shipAt_56 rfl
      refine zS_ite (fun ht => ?_) (fun _ => ?_)
      · refine s_callF (pc := 36) (np := 0) (as := []) (rest := []) dX2_shipAt_36 ht (q := (RJ17, TJ17, 5)) rfl (c_J17_next (by decide) a3 h11) ⟨_, _, _, q799⟩ rfl rfl q670 (by decide +kernel) q797 q795 rfl (by decide) (zkR (fun r80 h81 => ?_)) zxo
        refine s_cast (pc := 41) dX2_shipAt_41 q1972 zcs_java_lang_Integer ?_
        refine zS_ite (fun ht => ?_) (fun _ => zS_none)
        refine s_callV (pc := 44) (np := 0) (as := []) (rest := []) dX2_shipAt_44 ht (q := (RJ24, TJ24, 1)) rfl (c_J24_intValue (by decide) r80 h81) rfl rfl q1973 q1678 q1679 rfl (by decide) (zkI (fun x88 h89 => ?_)) zxo
        refine s_ist (pc := 47) (L2 := [(1, .int a1), (2, .int a2), (3, va_rf a3)]) [0, 1, 2] dX2_shipAt_47 (by decide) rfl rfl (zcB (j := 2) rfl (zcat_rf a3) rfl) ?_
        refine s_iload_n (pc := 49) 2 dX2_shipAt_49 rfl rfl ?_
        refine s_iload_n (pc := 50) 1 dX2_shipAt_50 rfl rfl ?_
        refine s_icmp_ne (pc := 51) (tgt := 57) dX2_shipAt_51 (by decide) (fun _ => ?_) (fun _ => ?_)
        · refine s_inc (pc := 57) (v := 1) (L2 := [(1, .int a1), (3, va_rf a3)]) 2 [1, 3] dX2_shipAt_57 rfl (by decide) (by decide) rfl rfl (zcB (j := 0) rfl rfl rfl) (fun x90 => ?_)
          refine s_goto (pc := 60) (tgt := 26) dX2_shipAt_60 (by decide) ?_
          exact s_sub (pc := 26) [1, 0, 2] rfl (ih a1 x90 a3 h89)
        · refine s_iload (pc := 54) 0 dX2_shipAt_54 rfl ?_
          exact s_iret (pc := 56) dX2_shipAt_56 rfl
      refine zS_ite (fun ht => ?_) (fun _ => ?_)
      · refine s_callF (pc := 36) (np := 0) (as := []) (rest := []) dX2_shipAt_36 ht (q := (RJ21, TJ21, 5)) rfl (c_J21_next (by decide) a3 h11) ⟨_, _, _, q812⟩ rfl rfl q670 (by decide +kernel) q810 q808 rfl (by decide) (zkR (fun r80 h81 => ?_)) zxo
        refine s_cast (pc := 41) dX2_shipAt_41 q1972 zcs_java_lang_Integer ?_
        refine zS_ite (fun ht => ?_) (fun _ => zS_none)
        refine s_callV (pc := 44) (np := 0) (as := []) (rest := []) dX2_shipAt_44 ht (q := (RJ24, TJ24, 1)) rfl (c_J24_intValue (by decide) r80 h81) rfl rfl q1973 q1678 q1679 rfl (by decide) (zkI (fun x91 h92 => ?_)) zxo
        refine s_ist (pc := 47) (L2 := [(1, .int a1), (2, .int a2), (3, va_rf a3)]) [0, 1, 2] dX2_shipAt_47 (by decide) rfl rfl (zcB (j := 2) rfl (zcat_rf a3) rfl) ?_
        refine s_iload_n (pc := 49) 2 dX2_shipAt_49 rfl rfl ?_
        refine s_iload_n (pc := 50) 1 dX2_shipAt_50 rfl rfl ?_
        refine s_icmp_ne (pc := 51) (tgt := 57) dX2_shipAt_51 (by decide) (fun _ => ?_) (fun _ => ?_)
        · refine s_inc (pc := 57) (v := 1) (L2 := [(1, .int a1), (3, va_rf a3)]) 2 [1, 3] dX2_shipAt_57 rfl (by decide) (by decide) rfl rfl (zcB (j := 0) rfl rfl rfl) (fun x93 => ?_)
          refine s_goto (pc := 60) (tgt := 26) dX2_shipAt_60 (by decide) ?_
          exact s_sub (pc := 26) [1, 0, 2] rfl (ih a1 x93 a3 h92)
        · refine s_iload (pc := 54) 0 dX2_shipAt_54 rfl ?_
          exact s_iret (pc := 56) dX2_shipAt_56 rfl
      refine zS_ite (fun ht => ?_) (fun _ => zS_none)
      refine s_callF (pc := 36) (np := 0) (as := []) (rest := []) dX2_shipAt_36 ht (q := (RJ22, TJ22, 5)) rfl (c_J22_next (by decide) a3 h11) ⟨_, _, _, q832⟩ rfl rfl q670 (by decide +kernel) q830 q828 rfl (by decide) (zkR (fun r80 h81 => ?_)) zxo
      refine s_cast (pc := 41) dX2_shipAt_41 q1972 zcs_java_lang_Integer ?_
      refine zS_ite (fun ht => ?_) (fun _ => zS_none)
      refine s_callV (pc := 44) (np := 0) (as := []) (rest := []) dX2_shipAt_44 ht (q := (RJ24, TJ24, 1)) rfl (c_J24_intValue (by decide) r80 h81) rfl rfl q1973 q1678 q1679 rfl (by decide) (zkI (fun x94 h95 => ?_)) zxo
      refine s_ist (pc := 47) (L2 := [(1, .int a1), (2, .int a2), (3, va_rf a3)]) [0, 1, 2] dX2_shipAt_47 (by decide) rfl rfl (zcB (j := 2) rfl (zcat_rf a3) rfl) ?_
      refine s_iload_n (pc := 49) 2 dX2_shipAt_49 rfl rfl ?_
      refine s_iload_n (pc := 50) 1 dX2_shipAt_50 rfl rfl ?_
      refine s_icmp_ne (pc := 51) (tgt := 57) dX2_shipAt_51 (by decide) (fun _ => ?_) (fun _ => ?_)
      · refine s_inc (pc := 57) (v := 1) (L2 := [(1, .int a1), (3, va_rf a3)]) 2 [1, 3] dX2_shipAt_57 rfl (by decide) (by decide) rfl rfl (zcB (j := 0) rfl rfl rfl) (fun x96 => ?_)
        refine s_goto (pc := 60) (tgt := 26) dX2_shipAt_60 (by decide) ?_
        exact s_sub (pc := 26) [1, 0, 2] rfl (ih a1 x96 a3 h95)
      · refine s_iload (pc := 54) 0 dX2_shipAt_54 rfl ?_
        exact s_iret (pc := 56) dX2_shipAt_56 rfl
theorem w_X2_shipAt (v0 : Option Nat) (v1 : Int32) (h : zH) : zS D z yX2_shipAt cX2_shipAt 5 (some .int) [] 10 h 0 [(0, va_rf v0), (1, .int v1)] [] (f_X2_shipAt v0 v1 h) := by
  unfold f_X2_shipAt
  refine s_iload_n (pc := 0) 1 dX2_shipAt_0 rfl rfl ?_
  refine s_aload_n (pc := 1) 0 dX2_shipAt_1 rfl rfl ?_
  refine s_gR (pc := 2) dX2_shipAt_2 gf_X2_12 (fun r1 => ?_)
  refine zS_ite (fun ht => ?_) (fun _ => zS_none)
  refine s_callVU (pc := 5) (np := 0) (as := []) (rest := [.int v1]) (owner := "java/util/HashMap") dX2_shipAt_5 ht (q := (RJ2, TJ2, 12)) rfl (c_J1_size (by decide) r1 h) ⟨_, _, _, q1427⟩ rfl rfl q2287 q1423 (Or.inl ⟨_, _, _, q1426, q1427⟩) (by decide) q1426 q1425 rfl (by simp [zcat_rf, zcat_i, zcat_l, zcat_f, zcat_d]) (zkI (fun x2 h3 => ?_)) zxo
  refine s_callSN (pc := 8) (np := 2) (as := [.int v1, .int x2]) (rest := []) dX2_shipAt_8 (c_X1_checkIndex (by decide) v1 x2 h3) ⟨_, _, _, q2547⟩ rfl rfl q2545 q2546 rfl (by decide) (zkV (fun h4 => ?_)) zxo
  refine s_iconst (pc := 11) (v := 0) dX2_shipAt_11 (by decide) ?_
  refine s_ist_n (pc := 12) (L2 := [(0, va_rf v0), (1, .int v1)]) [0, 1] dX2_shipAt_12 rfl (by decide) rfl rfl (zcB (j := 1) rfl rfl rfl) ?_
  refine s_aload_n (pc := 13) 1 dX2_shipAt_13 rfl rfl ?_
  refine s_gR (pc := 14) dX2_shipAt_14 gf_X2_12 (fun r5 => ?_)
  refine zS_ite (fun ht => ?_) (fun _ => zS_none)
  refine s_callV (pc := 17) (np := 0) (as := []) (rest := []) dX2_shipAt_17 ht (q := (RJ2, TJ2, 12)) rfl (c_J2_keySet (by decide) r5 h4) rfl rfl q2554 q538 q3770 rfl (by decide) (zkR (fun r6 h7 => ?_)) zxo
  refine zS_ite (fun ht => ?_) (fun _ => ?_)
  · refine s_callF (pc := 20) (np := 0) (as := []) (rest := []) dX2_shipAt_20 ht (q := (RJ18, TJ18, 1)) rfl (c_J18_iterator (by decide) r6 h7) ⟨_, _, _, q501⟩ rfl rfl q2556 (by decide +kernel) q499 q574 rfl (by decide) (zkR (fun r8 h9 => ?_)) zxo
    refine s_ast_n (pc := 25) (L2 := [(2, .int 0), (1, .int v1)]) [0, 2] dX2_shipAt_25 rfl (by decide) rfl rfl (zcB (j := 0) rfl rfl rfl) ?_
    exact s_sub (pc := 26) [2, 1, 0] rfl (w_X2_shipAt_26 zfuel v1 0 r8 h9)
  refine zS_ite (fun ht => ?_) (fun _ => zS_none)
  refine s_callF (pc := 20) (np := 0) (as := []) (rest := []) dX2_shipAt_20 ht (q := (RJ19, TJ19, 2)) rfl (c_J19_iterator (by decide) r6 h7) ⟨_, _, _, q582⟩ rfl rfl q2556 (by decide +kernel) q580 q578 rfl (by decide) (zkR (fun r8 h9 => ?_)) zxo
  refine s_ast_n (pc := 25) (L2 := [(2, .int 0), (1, .int v1)]) [0, 2] dX2_shipAt_25 rfl (by decide) rfl rfl (zcB (j := 0) rfl rfl rfl) ?_
  exact s_sub (pc := 26) [2, 1, 0] rfl (w_X2_shipAt_26 zfuel v1 0 r8 h9)
theorem c_X2_shipAt {d0 : Nat} (hd0 : 10 < d0) (v0 : Option Nat) (v1 : Int32) (h : zH) : zCal D z d0 h yX2_shipAt [va_rf v0, .int v1] (f_X2_shipAt v0 v1 h) :=
  ⟨cX2_shipAt, 5, (some .int), [], 10, (show lv_args 0 [va_rf v0, .int v1] = [(0, va_rf v0), (1, .int v1)] by simp [lv_args, zcat_rf, zcat_i, zcat_l, zcat_f, zcat_d]) ▸ w_X2_shipAt v0 v1 h, (plainFor_of_name (by decide)), by simp [lg_sl, zcat_rf, zcat_i, zcat_l, zcat_f, zcat_d], q2544, q96, hd0, by decide, by decide⟩
theorem w_X1_shipAt (v0 : Option Nat) (v1 : Int32) (h : zH) : zS D z yX1_shipAt cX1_shipAt 2 (some .int) [] 11 h 0 [(0, va_rf v0), (1, .int v1)] [] (f_X1_shipAt v0 v1 h) := by
  unfold f_X1_shipAt
  refine s_aload_n (pc := 0) 0 dX1_shipAt_0 rfl rfl ?_
  refine s_gR (pc := 1) dX1_shipAt_1 gf_X1_30 (fun r1 => ?_)
  refine s_iload_n (pc := 4) 1 dX1_shipAt_4 rfl rfl ?_
  refine zS_ite (fun ht => ?_) (fun _ => zS_none)
  refine s_callV (pc := 5) (np := 1) (as := [.int v1]) (rest := []) dX1_shipAt_5 ht (q := (RX2, TX2, 10)) rfl (c_X2_shipAt (by decide) r1 v1 h) rfl rfl q2541 q2542 q2543 rfl (by decide) (zkI (fun x2 h3 => ?_)) zxo
  exact s_iret (pc := 8) dX1_shipAt_8 rfl
theorem c_X1_shipAt {d0 : Nat} (hd0 : 11 < d0) (v0 : Option Nat) (v1 : Int32) (h : zH) : zCal D z d0 h yX1_shipAt [va_rf v0, .int v1] (f_X1_shipAt v0 v1 h) :=
  ⟨cX1_shipAt, 2, (some .int), [], 11, (show lv_args 0 [va_rf v0, .int v1] = [(0, va_rf v0), (1, .int v1)] by simp [lv_args, zcat_rf, zcat_i, zcat_l, zcat_f, zcat_d]) ▸ w_X1_shipAt v0 v1 h, (plainFor_of_name (by decide)), by simp [lg_sl, zcat_rf, zcat_i, zcat_l, zcat_f, zcat_d], q2540, q95, hd0, by decide, by decide⟩
theorem w_X0_shipAt_12 (s0 : Option Nat) (h : zH) : zS D z yX0_shipAt cX0_shipAt 4 (some .int) [(0, 9, 12, 39)] 12 h 12 [] [va_rf s0] (f_X0_shipAt_12 s0 h) := by
  unfold f_X0_shipAt_12
  refine s_ast_n (pc := 12) (L2 := []) [] dX0_shipAt_12 rfl (by decide) rfl rfl (zcA rfl) ?_
  refine s_iconst (pc := 13) (v := 1) dX0_shipAt_13 (by decide) ?_
  exact s_iret (pc := 14) dX0_shipAt_14 rfl
theorem w_X0_shipAt (v0 : Option Nat) (v1 : Int32) (v2 : Option Nat) (h : zH) : zS D z yX0_shipAt cX0_shipAt 4 (some .int) [(0, 9, 12, 39)] 12 h 0 [(0, va_rf v0), (1, .int v1), (2, va_rf v2)] [] (f_X0_shipAt v0 v1 v2 h) := by
  unfold f_X0_shipAt
  refine s_aload_n (pc := 0) 2 dX0_shipAt_0 rfl rfl ?_
  refine s_iconst (pc := 1) (v := 0) dX0_shipAt_1 (by decide) ?_
  refine s_aload_n (pc := 2) 0 dX0_shipAt_2 rfl rfl ?_
  refine s_iload_n (pc := 3) 1 dX0_shipAt_3 rfl rfl ?_
  refine zS_ite (fun ht => ?_) (fun _ => zS_none)
  refine s_callV (pc := 4) (np := 1) (as := [.int v1]) (rest := [.int 0, va_rf v2]) dX0_shipAt_4 ht (q := (RX1, TX1, 11)) rfl (c_X1_shipAt (by decide) v0 v1 h) rfl rfl q2537 q2538 q2539 rfl (by simp [zcat_rf, zcat_i, zcat_l, zcat_f, zcat_d]) (zkI (fun x3 h4 => ?_)) (fun e2 h1 => zT_ite (fun hx => (zT_out (fun q hq => by rw [hx] at hq; cases hq; exact (zpn (by decide) q2521 (by decide +kernel) zp0)))) (fun _ => zT_ite (fun hx => (zT_out (fun q hq => by rw [hx] at hq; cases hq; exact (zpn (by decide) q2521 (by decide +kernel) zp0)))) (fun _ => zT_ite (fun hx => (zT_out (fun q hq => by rw [hx] at hq; cases hq; exact (zpn (by decide) q2521 (by decide +kernel) zp0)))) (fun _ => zT_ite (fun hx => (zT_out (fun q hq => by rw [hx] at hq; cases hq; exact (zpn (by decide) q2521 (by decide +kernel) zp0)))) (fun _ => zT_ite (fun hx => (zT_catch (q := (RJ29, TJ29, 0)) [] (0, 9, 12, 39) [] rfl (by rw [hx]; rfl) zp0 rfl (by decide) q2521 (Or.inl rfl) rfl (by exact s_sub (pc := 12) [] rfl (w_X0_shipAt_12 (some e2.2) h1)))) (fun _ => zT_ite (fun hx => (zT_out (fun q hq => by rw [hx] at hq; cases hq; exact (zpn (by decide) q2521 (by decide +kernel) zp0)))) (fun _ => zT_ite (fun hx => (zT_out (fun q hq => by rw [hx] at hq; cases hq; exact (zpn (by decide) q2521 (by decide +kernel) zp0)))) (fun _ => zT_ite (fun hx => (zT_out (fun q hq => by rw [hx] at hq; cases hq; exact (zpn (by decide) q2521 (by decide +kernel) zp0)))) (fun _ => zT_none)))))))))
  refine s_i2l (pc := 7) dX0_shipAt_7 ?_
  refine s_last (pc := 8) dX0_shipAt_8 (ztc rfl zt0) (fun h5 => ?_)
  refine s_goto (pc := 9) (tgt := 15) dX0_shipAt_9 (by decide) ?_
  refine s_iconst (pc := 15) (v := 0) dX0_shipAt_15 (by decide) ?_
  exact s_iret (pc := 16) dX0_shipAt_16 rfl
theorem c_X0_shipAt {d0 : Nat} (hd0 : 12 < d0) (v0 : Option Nat) (v1 : Int32) (v2 : Option Nat) (h : zH) : zCal D z d0 h yX0_shipAt [va_rf v0, .int v1, va_rf v2] (f_X0_shipAt v0 v1 v2 h) :=
  ⟨cX0_shipAt, 4, (some .int), [(0, 9, 12, 39)], 12, (show lv_args 0 [va_rf v0, .int v1, va_rf v2] = [(0, va_rf v0), (1, .int v1), (2, va_rf v2)] by simp [lv_args, zcat_rf, zcat_i, zcat_l, zcat_f, zcat_d]) ▸ w_X0_shipAt v0 v1 v2 h, (plainFor_of_name (by decide)), by simp [lg_sl, zcat_rf, zcat_i, zcat_l, zcat_f, zcat_d], q2520, q94, hd0, by decide, by decide⟩
theorem w_X1_isInDock (v0 : Option Nat) (v1 : Int32) (h : zH) : zS D z yX1_isInDock cX1_isInDock 2 (some .boolean) [] 10 h 0 [(0, va_rf v0), (1, .int v1)] [] (f_X1_isInDock v0 v1 h) := by
  unfold f_X1_isInDock
  refine s_aload_n (pc := 0) 0 dX1_isInDock_0 rfl rfl ?_
  refine s_gR (pc := 1) dX1_isInDock_1 gf_X1_30 (fun r1 => ?_)
  refine s_iload_n (pc := 4) 1 dX1_isInDock_4 rfl rfl ?_
  refine zS_ite (fun ht => ?_) (fun _ => zS_none)
  refine s_callV (pc := 5) (np := 1) (as := [.int v1]) (rest := []) dX1_isInDock_5 ht (q := (RX2, TX2, 10)) rfl (c_X2_ship (by decide) r1 v1 h) rfl rfl q2564 q2387 q2388 rfl (by decide) (zkR (fun r2 h3 => ?_)) zxo
  refine zS_ite (fun ht => ?_) (fun _ => zS_none)
  refine s_callV (pc := 8) (np := 0) (as := []) (rest := []) dX1_isInDock_8 ht (q := (RX6, TX6, 9)) rfl (c_X6_isInDock (by decide) r2 h3) rfl rfl q2565 q367 q368 rfl (by decide) (zkI (fun x4 h5 => ?_)) zxo
  exact s_nret (pc := 11) dX1_isInDock_11 rfl
theorem c_X1_isInDock {d0 : Nat} (hd0 : 10 < d0) (v0 : Option Nat) (v1 : Int32) (h : zH) : zCal D z d0 h yX1_isInDock [va_rf v0, .int v1] (f_X1_isInDock v0 v1 h) :=
  ⟨cX1_isInDock, 2, (some .boolean), [], 10, (show lv_args 0 [va_rf v0, .int v1] = [(0, va_rf v0), (1, .int v1)] by simp [lv_args, zcat_rf, zcat_i, zcat_l, zcat_f, zcat_d]) ▸ w_X1_isInDock v0 v1 h, (plainFor_of_name (by decide)), by simp [lg_sl, zcat_rf, zcat_i, zcat_l, zcat_f, zcat_d], q2563, q95, hd0, by decide, by decide⟩
theorem w_X0_isInDock_19 (s0 : Option Nat) (h : zH) : zS D z yX0_isInDock cX0_isInDock 4 (some .int) [(0, 16, 19, 21)] 11 h 19 [] [va_rf s0] (f_X0_isInDock_19 s0 h) := by
  unfold f_X0_isInDock_19
  refine s_ast_n (pc := 19) (L2 := []) [] dX0_isInDock_19 rfl (by decide) rfl rfl (zcA rfl) ?_
  refine s_iconst (pc := 20) (v := 1) dX0_isInDock_20 (by decide) ?_
  exact s_iret (pc := 21) dX0_isInDock_21 rfl
theorem w_X0_isInDock (v0 : Option Nat) (v1 : Int32) (v2 : Option Nat) (h : zH) : zS D z yX0_isInDock cX0_isInDock 4 (some .int) [(0, 16, 19, 21)] 11 h 0 [(0, va_rf v0), (1, .int v1), (2, va_rf v2)] [] (f_X0_isInDock v0 v1 v2 h) := by
  unfold f_X0_isInDock
  refine s_aload_n (pc := 0) 2 dX0_isInDock_0 rfl rfl ?_
  refine s_iconst (pc := 1) (v := 0) dX0_isInDock_1 (by decide) ?_
  refine s_aload_n (pc := 2) 0 dX0_isInDock_2 rfl rfl ?_
  refine s_iload_n (pc := 3) 1 dX0_isInDock_3 rfl rfl ?_
  refine zS_ite (fun ht => ?_) (fun _ => zS_none)
  refine s_callV (pc := 4) (np := 1) (as := [.int v1]) (rest := [.int 0, va_rf v2]) dX0_isInDock_4 ht (q := (RX1, TX1, 11)) rfl (c_X1_isInDock (by decide) v0 v1 h) rfl rfl q2560 q2561 q2562 rfl (by simp [zcat_rf, zcat_i, zcat_l, zcat_f, zcat_d]) (zkI (fun x3 h4 => ?_)) (fun e2 h1 => zT_ite (fun hx => (zT_out (fun q hq => by rw [hx] at hq; cases hq; exact (zpn (by decide) q2375 (by decide +kernel) zp0)))) (fun _ => zT_ite (fun hx => (zT_out (fun q hq => by rw [hx] at hq; cases hq; exact (zpn (by decide) q2375 (by decide +kernel) zp0)))) (fun _ => zT_ite (fun hx => (zT_catch (q := (RJ28, TJ28, 0)) [] (0, 16, 19, 21) [] rfl (by rw [hx]; rfl) zp0 rfl (by decide) q2375 (Or.inl rfl) rfl (by exact s_sub (pc := 19) [] rfl (w_X0_isInDock_19 (some e2.2) h1)))) (fun _ => zT_ite (fun hx => (zT_out (fun q hq => by rw [hx] at hq; cases hq; exact (zpn (by decide) q2375 (by decide +kernel) zp0)))) (fun _ => zT_ite (fun hx => (zT_out (fun q hq => by rw [hx] at hq; cases hq; exact (zpn (by decide) q2375 (by decide +kernel) zp0)))) (fun _ => zT_ite (fun hx => (zT_out (fun q hq => by rw [hx] at hq; cases hq; exact (zpn (by decide) q2375 (by decide +kernel) zp0)))) (fun _ => zT_ite (fun hx => (zT_out (fun q hq => by rw [hx] at hq; cases hq; exact (zpn (by decide) q2375 (by decide +kernel) zp0)))) (fun _ => zT_ite (fun hx => (zT_out (fun q hq => by rw [hx] at hq; cases hq; exact (zpn (by decide) q2375 (by decide +kernel) zp0)))) (fun _ => zT_none)))))))))
  refine s_if_eq (pc := 7) (tgt := 14) dX0_isInDock_7 (by decide) (fun _ => ?_) (fun _ => ?_)
  · refine s_lconst (pc := 14) (v := 0) dX0_isInDock_14 (by decide) ?_
    refine s_last (pc := 15) dX0_isInDock_15 (ztc rfl zt0) (fun h5 => ?_)
    refine s_goto (pc := 16) (tgt := 22) dX0_isInDock_16 (by decide) ?_
    refine s_iconst (pc := 22) (v := 0) dX0_isInDock_22 (by decide) ?_
    exact s_iret (pc := 23) dX0_isInDock_23 rfl
  · refine s_lconst (pc := 10) (v := 1) dX0_isInDock_10 (by decide) ?_
    refine s_goto (pc := 11) (tgt := 15) dX0_isInDock_11 (by decide) ?_
    refine s_last (pc := 15) dX0_isInDock_15 (ztc rfl zt0) (fun h6 => ?_)
    refine s_goto (pc := 16) (tgt := 22) dX0_isInDock_16 (by decide) ?_
    refine s_iconst (pc := 22) (v := 0) dX0_isInDock_22 (by decide) ?_
    exact s_iret (pc := 23) dX0_isInDock_23 rfl
theorem c_X0_isInDock {d0 : Nat} (hd0 : 11 < d0) (v0 : Option Nat) (v1 : Int32) (v2 : Option Nat) (h : zH) : zCal D z d0 h yX0_isInDock [va_rf v0, .int v1, va_rf v2] (f_X0_isInDock v0 v1 v2 h) :=
  ⟨cX0_isInDock, 4, (some .int), [(0, 16, 19, 21)], 11, (show lv_args 0 [va_rf v0, .int v1, va_rf v2] = [(0, va_rf v0), (1, .int v1), (2, va_rf v2)] by simp [lv_args, zcat_rf, zcat_i, zcat_l, zcat_f, zcat_d]) ▸ w_X0_isInDock v0 v1 v2 h, (plainFor_of_name (by decide)), by simp [lg_sl, zcat_rf, zcat_i, zcat_l, zcat_f, zcat_d], q2559, q94, hd0, by decide, by decide⟩
theorem w_X2_positionOf (v0 : Option Nat) (v1 : Int32) (h : zH) : zS D z yX2_positionOf cX2_positionOf 2 (some .int) [] 11 h 0 [(0, va_rf v0), (1, .int v1)] [] (f_X2_positionOf v0 v1 h) := by
  unfold f_X2_positionOf
  refine s_aload_n (pc := 0) 0 dX2_positionOf_0 rfl rfl ?_
  refine s_iload_n (pc := 1) 1 dX2_positionOf_1 rfl rfl ?_
  refine zS_ite (fun ht => ?_) (fun _ => zS_none)
  refine s_callV (pc := 2) (np := 1) (as := [.int v1]) (rest := []) dX2_positionOf_2 ht (q := (RX2, TX2, 10)) rfl (c_X2_shipInDock (by decide) v0 v1 h) rfl rfl q2500 q2502 qs22 rfl (by decide) (zkR (fun r1 h2 => ?_)) zxo
  refine s_gR (pc := 5) dX2_positionOf_5 gf_X2_144 (fun r3 => ?_)
  refine s_gI (pc := 8) dX2_positionOf_8 gf_X2_148 (fun x4 => ?_)
  exact s_iret (pc := 11) dX2_positionOf_11 rfl
theorem c_X2_positionOf {d0 : Nat} (hd0 : 11 < d0) (v0 : Option Nat) (v1 : Int32) (h : zH) : zCal D z d0 h yX2_positionOf [va_rf v0, .int v1] (f_X2_positionOf v0 v1 h) :=
  ⟨cX2_positionOf, 2, (some .int), [], 11, (show lv_args 0 [va_rf v0, .int v1] = [(0, va_rf v0), (1, .int v1)] by simp [lv_args, zcat_rf, zcat_i, zcat_l, zcat_f, zcat_d]) ▸ w_X2_positionOf v0 v1 h, (plainFor_of_name (by decide)), by simp [lg_sl, zcat_rf, zcat_i, zcat_l, zcat_f, zcat_d], q2576, q96, hd0, by decide, by decide⟩
theorem w_X1_positionOf (v0 : Option Nat) (v1 : Int32) (h : zH) : zS D z yX1_positionOf cX1_positionOf 2 (some .int) [] 12 h 0 [(0, va_rf v0), (1, .int v1)] [] (f_X1_positionOf v0 v1 h) := by
  unfold f_X1_positionOf
  refine s_aload_n (pc := 0) 0 dX1_positionOf_0 rfl rfl ?_
  refine s_gR (pc := 1) dX1_positionOf_1 gf_X1_30 (fun r1 => ?_)
  refine s_iload_n (pc := 4) 1 dX1_positionOf_4 rfl rfl ?_
  refine zS_ite (fun ht => ?_) (fun _ => zS_none)
  refine s_callV (pc := 5) (np := 1) (as := [.int v1]) (rest := []) dX1_positionOf_5 ht (q := (RX2, TX2, 10)) rfl (c_X2_positionOf (by decide) r1 v1 h) rfl rfl q2573 q2574 q2575 rfl (by decide) (zkI (fun x2 h3 => ?_)) zxo
  exact s_iret (pc := 8) dX1_positionOf_8 rfl
theorem c_X1_positionOf {d0 : Nat} (hd0 : 12 < d0) (v0 : Option Nat) (v1 : Int32) (h : zH) : zCal D z d0 h yX1_positionOf [va_rf v0, .int v1] (f_X1_positionOf v0 v1 h) :=
  ⟨cX1_positionOf, 2, (some .int), [], 12, (show lv_args 0 [va_rf v0, .int v1] = [(0, va_rf v0), (1, .int v1)] by simp [lv_args, zcat_rf, zcat_i, zcat_l, zcat_f, zcat_d]) ▸ w_X1_positionOf v0 v1 h, (plainFor_of_name (by decide)), by simp [lg_sl, zcat_rf, zcat_i, zcat_l, zcat_f, zcat_d], q2572, q95, hd0, by decide, by decide⟩
theorem w_X0_positionOf_12 (s0 : Option Nat) (h : zH) : zS D z yX0_positionOf cX0_positionOf 4 (some .int) [(0, 9, 12, 21), (0, 9, 15, 15)] 13 h 12 [] [va_rf s0] (f_X0_positionOf_12 s0 h) := by
  unfold f_X0_positionOf_12
  refine s_ast_n (pc := 12) (L2 := []) [] dX0_positionOf_12 rfl (by decide) rfl rfl (zcA rfl) ?_
  refine s_iconst (pc := 13) (v := 1) dX0_positionOf_13 (by decide) ?_
  exact s_iret (pc := 14) dX0_positionOf_14 rfl
theorem w_X0_positionOf_15 (s0 : Option Nat) (h : zH) : zS D z yX0_positionOf cX0_positionOf 4 (some .int) [(0, 9, 12, 21), (0, 9, 15, 15)] 13 h 15 [] [va_rf s0] (f_X0_positionOf_15 s0 h) := by
  unfold f_X0_positionOf_15
  refine s_ast_n (pc := 15) (L2 := []) [] dX0_positionOf_15 rfl (by decide) rfl rfl (zcA rfl) ?_
  refine s_iconst (pc := 16) (v := 2) dX0_positionOf_16 (by decide) ?_
  exact s_iret (pc := 17) dX0_positionOf_17 rfl
theorem w_X0_positionOf (v0 : Option Nat) (v1 : Int32) (v2 : Option Nat) (h : zH) : zS D z yX0_positionOf cX0_positionOf 4 (some .int) [(0, 9, 12, 21), (0, 9, 15, 15)] 13 h 0 [(0, va_rf v0), (1, .int v1), (2, va_rf v2)] [] (f_X0_positionOf v0 v1 v2 h) := by
  unfold f_X0_positionOf
  refine s_aload_n (pc := 0) 2 dX0_positionOf_0 rfl rfl ?_
  refine s_iconst (pc := 1) (v := 0) dX0_positionOf_1 (by decide) ?_
  refine s_aload_n (pc := 2) 0 dX0_positionOf_2 rfl rfl ?_
  refine s_iload_n (pc := 3) 1 dX0_positionOf_3 rfl rfl ?_
  refine zS_ite (fun ht => ?_) (fun _ => zS_none)
  refine s_callV (pc := 4) (np := 1) (as := [.int v1]) (rest := [.int 0, va_rf v2]) dX0_positionOf_4 ht (q := (RX1, TX1, 11)) rfl (c_X1_positionOf (by decide) v0 v1 h) rfl rfl q2569 q2570 q2571 rfl (by simp [zcat_rf, zcat_i, zcat_l, zcat_f, zcat_d]) (zkI (fun x3 h4 => ?_)) (fun e2 h1 => zT_ite (fun hx => (zT_out (fun q hq => by rw [hx] at hq; cases hq; exact (zpn (by decide) q2375 (by decide +kernel) (zpn (by decide) q2267 (by decide +kernel) zp0))))) (fun _ => zT_ite (fun hx => (zT_catch (q := (RJ39, TJ39, 0)) [(0, 9, 12, 21)] (0, 9, 15, 15) [] rfl (by rw [hx]; rfl) (zpn (by decide) q2375 (by decide +kernel) zp0) rfl (by decide) q2267 (Or.inl rfl) rfl (by exact s_sub (pc := 15) [] rfl (w_X0_positionOf_15 (some e2.2) h1)))) (fun _ => zT_ite (fun hx => (zT_catch (q := (RJ28, TJ28, 0)) [] (0, 9, 12, 21) [(0, 9, 15, 15)] rfl (by rw [hx]; rfl) zp0 rfl (by decide) q2375 (Or.inl rfl) rfl (by exact s_sub (pc := 12) [] rfl (w_X0_positionOf_12 (some e2.2) h1)))) (fun _ => zT_ite (fun hx => (zT_out (fun q hq => by rw [hx] at hq; cases hq; exact (zpn (by decide) q2375 (by decide +kernel) (zpn (by decide) q2267 (by decide +kernel) zp0))))) (fun _ => zT_ite (fun hx => (zT_out (fun q hq => by rw [hx] at hq; cases hq; exact (zpn (by decide) q2375 (by decide +kernel) (zpn (by decide) q2267 (by decide +kernel) zp0))))) (fun _ => zT_ite (fun hx => (zT_out (fun q hq => by rw [hx] at hq; cases hq; exact (zpn (by decide) q2375 (by decide +kernel) (zpn (by decide) q2267 (by decide +kernel) zp0))))) (fun _ => zT_ite (fun hx => (zT_out (fun q hq => by rw [hx] at hq; cases hq; exact (zpn (by decide) q2375 (by decide +kernel) (zpn (by decide) q2267 (by decide +kernel) zp0))))) (fun _ => zT_ite (fun hx => (zT_out (fun q hq => by rw [hx] at hq; cases hq; exact (zpn (by decide) q2375 (by decide +kernel) (zpn (by decide) q2267 (by decide +kernel) zp0))))) (fun _ => zT_none)))))))))
  refine s_i2l (pc := 7) dX0_positionOf_7 ?_
  refine s_last (pc := 8) dX0_positionOf_8 (ztc rfl zt0) (fun h5 => ?_)
  refine s_goto (pc := 9) (tgt := 18) dX0_positionOf_9 (by decide) ?_
  refine s_iconst (pc := 18) (v := 0) dX0_positionOf_18 (by decide) ?_
  exact s_iret (pc := 19) dX0_positionOf_19 rfl
theorem c_X0_positionOf {d0 : Nat} (hd0 : 13 < d0) (v0 : Option Nat) (v1 : Int32) (v2 : Option Nat) (h : zH) : zCal D z d0 h yX0_positionOf [va_rf v0, .int v1, va_rf v2] (f_X0_positionOf v0 v1 v2 h) :=
  ⟨cX0_positionOf, 4, (some .int), [(0, 9, 12, 21), (0, 9, 15, 15)], 13, (show lv_args 0 [va_rf v0, .int v1, va_rf v2] = [(0, va_rf v0), (1, .int v1), (2, va_rf v2)] by simp [lv_args, zcat_rf, zcat_i, zcat_l, zcat_f, zcat_d]) ▸ w_X0_positionOf v0 v1 v2 h, (plainFor_of_name (by decide)), by simp [lg_sl, zcat_rf, zcat_i, zcat_l, zcat_f, zcat_d], q2568, q94, hd0, by decide, by decide⟩
theorem w_X1_dirtOf (v0 : Option Nat) (v1 : Int32) (h : zH) : zS D z yX1_dirtOf cX1_dirtOf 2 (some .int) [] 10 h 0 [(0, va_rf v0), (1, .int v1)] [] (f_X1_dirtOf v0 v1 h) := by
  unfold f_X1_dirtOf
  refine s_aload_n (pc := 0) 0 dX1_dirtOf_0 rfl rfl ?_
  refine s_gR (pc := 1) dX1_dirtOf_1 gf_X1_30 (fun r1 => ?_)
  refine s_iload_n (pc := 4) 1 dX1_dirtOf_4 rfl rfl ?_
  refine zS_ite (fun ht => ?_) (fun _ => zS_none)
  refine s_callV (pc := 5) (np := 1) (as := [.int v1]) (rest := []) dX1_dirtOf_5 ht (q := (RX2, TX2, 10)) rfl (c_X2_ship (by decide) r1 v1 h) rfl rfl q2564 q2387 q2388 rfl (by decide) (zkR (fun r2 h3 => ?_)) zxo
  refine s_gI (pc := 8) dX1_dirtOf_8 gf_X1_175 (fun x4 => ?_)
  exact s_iret (pc := 11) dX1_dirtOf_11 rfl
theorem c_X1_dirtOf {d0 : Nat} (hd0 : 10 < d0) (v0 : Option Nat) (v1 : Int32) (h : zH) : zCal D z d0 h yX1_dirtOf [va_rf v0, .int v1] (f_X1_dirtOf v0 v1 h) :=
  ⟨cX1_dirtOf, 2, (some .int), [], 10, (show lv_args 0 [va_rf v0, .int v1] = [(0, va_rf v0), (1, .int v1)] by simp [lv_args, zcat_rf, zcat_i, zcat_l, zcat_f, zcat_d]) ▸ w_X1_dirtOf v0 v1 h, (plainFor_of_name (by decide)), by simp [lg_sl, zcat_rf, zcat_i, zcat_l, zcat_f, zcat_d], q2583, q95, hd0, by decide, by decide⟩
theorem w_X0_dirtOf_12 (s0 : Option Nat) (h : zH) : zS D z yX0_dirtOf cX0_dirtOf 4 (some .int) [(0, 9, 12, 21)] 11 h 12 [] [va_rf s0] (f_X0_dirtOf_12 s0 h) := by
  unfold f_X0_dirtOf_12
  refine s_ast_n (pc := 12) (L2 := []) [] dX0_dirtOf_12 rfl (by decide) rfl rfl (zcA rfl) ?_
  refine s_iconst (pc := 13) (v := 1) dX0_dirtOf_13 (by decide) ?_
  exact s_iret (pc := 14) dX0_dirtOf_14 rfl
theorem w_X0_dirtOf (v0 : Option Nat) (v1 : Int32) (v2 : Option Nat) (h : zH) : zS D z yX0_dirtOf cX0_dirtOf 4 (some .int) [(0, 9, 12, 21)] 11 h 0 [(0, va_rf v0), (1, .int v1), (2, va_rf v2)] [] (f_X0_dirtOf v0 v1 v2 h) := by
  unfold f_X0_dirtOf
  refine s_aload_n (pc := 0) 2 dX0_dirtOf_0 rfl rfl ?_
  refine s_iconst (pc := 1) (v := 0) dX0_dirtOf_1 (by decide) ?_
  refine s_aload_n (pc := 2) 0 dX0_dirtOf_2 rfl rfl ?_
  refine s_iload_n (pc := 3) 1 dX0_dirtOf_3 rfl rfl ?_
  refine zS_ite (fun ht => ?_) (fun _ => zS_none)
  refine s_callV (pc := 4) (np := 1) (as := [.int v1]) (rest := [.int 0, va_rf v2]) dX0_dirtOf_4 ht (q := (RX1, TX1, 11)) rfl (c_X1_dirtOf (by decide) v0 v1 h) rfl rfl q2580 q2581 q2582 rfl (by simp [zcat_rf, zcat_i, zcat_l, zcat_f, zcat_d]) (zkI (fun x3 h4 => ?_)) (fun e2 h1 => zT_ite (fun hx => (zT_out (fun q hq => by rw [hx] at hq; cases hq; exact (zpn (by decide) q2375 (by decide +kernel) zp0)))) (fun _ => zT_ite (fun hx => (zT_out (fun q hq => by rw [hx] at hq; cases hq; exact (zpn (by decide) q2375 (by decide +kernel) zp0)))) (fun _ => zT_ite (fun hx => (zT_catch (q := (RJ28, TJ28, 0)) [] (0, 9, 12, 21) [] rfl (by rw [hx]; rfl) zp0 rfl (by decide) q2375 (Or.inl rfl) rfl (by exact s_sub (pc := 12) [] rfl (w_X0_dirtOf_12 (some e2.2) h1)))) (fun _ => zT_ite (fun hx => (zT_out (fun q hq => by rw [hx] at hq; cases hq; exact (zpn (by decide) q2375 (by decide +kernel) zp0)))) (fun _ => zT_ite (fun hx => (zT_out (fun q hq => by rw [hx] at hq; cases hq; exact (zpn (by decide) q2375 (by decide +kernel) zp0)))) (fun _ => zT_ite (fun hx => (zT_out (fun q hq => by rw [hx] at hq; cases hq; exact (zpn (by decide) q2375 (by decide +kernel) zp0)))) (fun _ => zT_ite (fun hx => (zT_out (fun q hq => by rw [hx] at hq; cases hq; exact (zpn (by decide) q2375 (by decide +kernel) zp0)))) (fun _ => zT_ite (fun hx => (zT_out (fun q hq => by rw [hx] at hq; cases hq; exact (zpn (by decide) q2375 (by decide +kernel) zp0)))) (fun _ => zT_none)))))))))
  refine s_i2l (pc := 7) dX0_dirtOf_7 ?_
  refine s_last (pc := 8) dX0_dirtOf_8 (ztc rfl zt0) (fun h5 => ?_)
  refine s_goto (pc := 9) (tgt := 15) dX0_dirtOf_9 (by decide) ?_
  refine s_iconst (pc := 15) (v := 0) dX0_dirtOf_15 (by decide) ?_
  exact s_iret (pc := 16) dX0_dirtOf_16 rfl
theorem c_X0_dirtOf {d0 : Nat} (hd0 : 11 < d0) (v0 : Option Nat) (v1 : Int32) (v2 : Option Nat) (h : zH) : zCal D z d0 h yX0_dirtOf [va_rf v0, .int v1, va_rf v2] (f_X0_dirtOf v0 v1 v2 h) :=
  ⟨cX0_dirtOf, 4, (some .int), [(0, 9, 12, 21)], 11, (show lv_args 0 [va_rf v0, .int v1, va_rf v2] = [(0, va_rf v0), (1, .int v1), (2, va_rf v2)] by simp [lv_args, zcat_rf, zcat_i, zcat_l, zcat_f, zcat_d]) ▸ w_X0_dirtOf v0 v1 v2 h, (plainFor_of_name (by decide)), by simp [lg_sl, zcat_rf, zcat_i, zcat_l, zcat_f, zcat_d], q2579, q94, hd0, by decide, by decide⟩
theorem w_X1_damageOf (v0 : Option Nat) (v1 : Int32) (h : zH) : zS D z yX1_damageOf cX1_damageOf 2 (some .int) [] 10 h 0 [(0, va_rf v0), (1, .int v1)] [] (f_X1_damageOf v0 v1 h) := by
  unfold f_X1_damageOf
  refine s_aload_n (pc := 0) 0 dX1_damageOf_0 rfl rfl ?_
  refine s_gR (pc := 1) dX1_damageOf_1 gf_X1_30 (fun r1 => ?_)
  refine s_iload_n (pc := 4) 1 dX1_damageOf_4 rfl rfl ?_
  refine zS_ite (fun ht => ?_) (fun _ => zS_none)
  refine s_callV (pc := 5) (np := 1) (as := [.int v1]) (rest := []) dX1_damageOf_5 ht (q := (RX2, TX2, 10)) rfl (c_X2_ship (by decide) r1 v1 h) rfl rfl q2564 q2387 q2388 rfl (by decide) (zkR (fun r2 h3 => ?_)) zxo
  refine s_gI (pc := 8) dX1_damageOf_8 gf_X1_178 (fun x4 => ?_)
  exact s_iret (pc := 11) dX1_damageOf_11 rfl
theorem c_X1_damageOf {d0 : Nat} (hd0 : 10 < d0) (v0 : Option Nat) (v1 : Int32) (h : zH) : zCal D z d0 h yX1_damageOf [va_rf v0, .int v1] (f_X1_damageOf v0 v1 h) :=
  ⟨cX1_damageOf, 2, (some .int), [], 10, (show lv_args 0 [va_rf v0, .int v1] = [(0, va_rf v0), (1, .int v1)] by simp [lv_args, zcat_rf, zcat_i, zcat_l, zcat_f, zcat_d]) ▸ w_X1_damageOf v0 v1 h, (plainFor_of_name (by decide)), by simp [lg_sl, zcat_rf, zcat_i, zcat_l, zcat_f, zcat_d], q2590, q95, hd0, by decide, by decide⟩
theorem w_X0_damageOf_12 (s0 : Option Nat) (h : zH) : zS D z yX0_damageOf cX0_damageOf 4 (some .int) [(0, 9, 12, 21)] 11 h 12 [] [va_rf s0] (f_X0_damageOf_12 s0 h) := by
  unfold f_X0_damageOf_12
  refine s_ast_n (pc := 12) (L2 := []) [] dX0_damageOf_12 rfl (by decide) rfl rfl (zcA rfl) ?_
  refine s_iconst (pc := 13) (v := 1) dX0_damageOf_13 (by decide) ?_
  exact s_iret (pc := 14) dX0_damageOf_14 rfl
theorem w_X0_damageOf (v0 : Option Nat) (v1 : Int32) (v2 : Option Nat) (h : zH) : zS D z yX0_damageOf cX0_damageOf 4 (some .int) [(0, 9, 12, 21)] 11 h 0 [(0, va_rf v0), (1, .int v1), (2, va_rf v2)] [] (f_X0_damageOf v0 v1 v2 h) := by
  unfold f_X0_damageOf
  refine s_aload_n (pc := 0) 2 dX0_damageOf_0 rfl rfl ?_
  refine s_iconst (pc := 1) (v := 0) dX0_damageOf_1 (by decide) ?_
  refine s_aload_n (pc := 2) 0 dX0_damageOf_2 rfl rfl ?_
  refine s_iload_n (pc := 3) 1 dX0_damageOf_3 rfl rfl ?_
  refine zS_ite (fun ht => ?_) (fun _ => zS_none)
  refine s_callV (pc := 4) (np := 1) (as := [.int v1]) (rest := [.int 0, va_rf v2]) dX0_damageOf_4 ht (q := (RX1, TX1, 11)) rfl (c_X1_damageOf (by decide) v0 v1 h) rfl rfl q2587 q2588 q2589 rfl (by simp [zcat_rf, zcat_i, zcat_l, zcat_f, zcat_d]) (zkI (fun x3 h4 => ?_)) (fun e2 h1 => zT_ite (fun hx => (zT_out (fun q hq => by rw [hx] at hq; cases hq; exact (zpn (by decide) q2375 (by decide +kernel) zp0)))) (fun _ => zT_ite (fun hx => (zT_out (fun q hq => by rw [hx] at hq; cases hq; exact (zpn (by decide) q2375 (by decide +kernel) zp0)))) (fun _ => zT_ite (fun hx => (zT_catch (q := (RJ28, TJ28, 0)) [] (0, 9, 12, 21) [] rfl (by rw [hx]; rfl) zp0 rfl (by decide) q2375 (Or.inl rfl) rfl (by exact s_sub (pc := 12) [] rfl (w_X0_damageOf_12 (some e2.2) h1)))) (fun _ => zT_ite (fun hx => (zT_out (fun q hq => by rw [hx] at hq; cases hq; exact (zpn (by decide) q2375 (by decide +kernel) zp0)))) (fun _ => zT_ite (fun hx => (zT_out (fun q hq => by rw [hx] at hq; cases hq; exact (zpn (by decide) q2375 (by decide +kernel) zp0)))) (fun _ => zT_ite (fun hx => (zT_out (fun q hq => by rw [hx] at hq; cases hq; exact (zpn (by decide) q2375 (by decide +kernel) zp0)))) (fun _ => zT_ite (fun hx => (zT_out (fun q hq => by rw [hx] at hq; cases hq; exact (zpn (by decide) q2375 (by decide +kernel) zp0)))) (fun _ => zT_ite (fun hx => (zT_out (fun q hq => by rw [hx] at hq; cases hq; exact (zpn (by decide) q2375 (by decide +kernel) zp0)))) (fun _ => zT_none)))))))))
  refine s_i2l (pc := 7) dX0_damageOf_7 ?_
  refine s_last (pc := 8) dX0_damageOf_8 (ztc rfl zt0) (fun h5 => ?_)
  refine s_goto (pc := 9) (tgt := 15) dX0_damageOf_9 (by decide) ?_
  refine s_iconst (pc := 15) (v := 0) dX0_damageOf_15 (by decide) ?_
  exact s_iret (pc := 16) dX0_damageOf_16 rfl
theorem c_X0_damageOf {d0 : Nat} (hd0 : 11 < d0) (v0 : Option Nat) (v1 : Int32) (v2 : Option Nat) (h : zH) : zCal D z d0 h yX0_damageOf [va_rf v0, .int v1, va_rf v2] (f_X0_damageOf v0 v1 v2 h) :=
  ⟨cX0_damageOf, 4, (some .int), [(0, 9, 12, 21)], 11, (show lv_args 0 [va_rf v0, .int v1, va_rf v2] = [(0, va_rf v0), (1, .int v1), (2, va_rf v2)] by simp [lv_args, zcat_rf, zcat_i, zcat_l, zcat_f, zcat_d]) ▸ w_X0_damageOf v0 v1 v2 h, (plainFor_of_name (by decide)), by simp [lg_sl, zcat_rf, zcat_i, zcat_l, zcat_f, zcat_d], q2586, q94, hd0, by decide, by decide⟩
theorem w_X1_hoursAfloat (v0 : Option Nat) (v1 : Int32) (h : zH) : zS D z yX1_hoursAfloat cX1_hoursAfloat 2 (some .int) [] 10 h 0 [(0, va_rf v0), (1, .int v1)] [] (f_X1_hoursAfloat v0 v1 h) := by
  unfold f_X1_hoursAfloat
  refine s_aload_n (pc := 0) 0 dX1_hoursAfloat_0 rfl rfl ?_
  refine s_gR (pc := 1) dX1_hoursAfloat_1 gf_X1_30 (fun r1 => ?_)
  refine s_iload_n (pc := 4) 1 dX1_hoursAfloat_4 rfl rfl ?_
  refine zS_ite (fun ht => ?_) (fun _ => zS_none)
  refine s_callV (pc := 5) (np := 1) (as := [.int v1]) (rest := []) dX1_hoursAfloat_5 ht (q := (RX2, TX2, 10)) rfl (c_X2_ship (by decide) r1 v1 h) rfl rfl q2564 q2387 q2388 rfl (by decide) (zkR (fun r2 h3 => ?_)) zxo
  refine s_gI (pc := 8) dX1_hoursAfloat_8 gf_X1_181 (fun x4 => ?_)
  exact s_iret (pc := 11) dX1_hoursAfloat_11 rfl
theorem c_X1_hoursAfloat {d0 : Nat} (hd0 : 10 < d0) (v0 : Option Nat) (v1 : Int32) (h : zH) : zCal D z d0 h yX1_hoursAfloat [va_rf v0, .int v1] (f_X1_hoursAfloat v0 v1 h) :=
  ⟨cX1_hoursAfloat, 2, (some .int), [], 10, (show lv_args 0 [va_rf v0, .int v1] = [(0, va_rf v0), (1, .int v1)] by simp [lv_args, zcat_rf, zcat_i, zcat_l, zcat_f, zcat_d]) ▸ w_X1_hoursAfloat v0 v1 h, (plainFor_of_name (by decide)), by simp [lg_sl, zcat_rf, zcat_i, zcat_l, zcat_f, zcat_d], q2597, q95, hd0, by decide, by decide⟩
theorem w_X0_hoursAfloat_12 (s0 : Option Nat) (h : zH) : zS D z yX0_hoursAfloat cX0_hoursAfloat 4 (some .int) [(0, 9, 12, 21)] 11 h 12 [] [va_rf s0] (f_X0_hoursAfloat_12 s0 h) := by
  unfold f_X0_hoursAfloat_12
  refine s_ast_n (pc := 12) (L2 := []) [] dX0_hoursAfloat_12 rfl (by decide) rfl rfl (zcA rfl) ?_
  refine s_iconst (pc := 13) (v := 1) dX0_hoursAfloat_13 (by decide) ?_
  exact s_iret (pc := 14) dX0_hoursAfloat_14 rfl
theorem w_X0_hoursAfloat (v0 : Option Nat) (v1 : Int32) (v2 : Option Nat) (h : zH) : zS D z yX0_hoursAfloat cX0_hoursAfloat 4 (some .int) [(0, 9, 12, 21)] 11 h 0 [(0, va_rf v0), (1, .int v1), (2, va_rf v2)] [] (f_X0_hoursAfloat v0 v1 v2 h) := by
  unfold f_X0_hoursAfloat
  refine s_aload_n (pc := 0) 2 dX0_hoursAfloat_0 rfl rfl ?_
  refine s_iconst (pc := 1) (v := 0) dX0_hoursAfloat_1 (by decide) ?_
  refine s_aload_n (pc := 2) 0 dX0_hoursAfloat_2 rfl rfl ?_
  refine s_iload_n (pc := 3) 1 dX0_hoursAfloat_3 rfl rfl ?_
  refine zS_ite (fun ht => ?_) (fun _ => zS_none)
  refine s_callV (pc := 4) (np := 1) (as := [.int v1]) (rest := [.int 0, va_rf v2]) dX0_hoursAfloat_4 ht (q := (RX1, TX1, 11)) rfl (c_X1_hoursAfloat (by decide) v0 v1 h) rfl rfl q2594 q2595 q2596 rfl (by simp [zcat_rf, zcat_i, zcat_l, zcat_f, zcat_d]) (zkI (fun x3 h4 => ?_)) (fun e2 h1 => zT_ite (fun hx => (zT_out (fun q hq => by rw [hx] at hq; cases hq; exact (zpn (by decide) q2375 (by decide +kernel) zp0)))) (fun _ => zT_ite (fun hx => (zT_out (fun q hq => by rw [hx] at hq; cases hq; exact (zpn (by decide) q2375 (by decide +kernel) zp0)))) (fun _ => zT_ite (fun hx => (zT_catch (q := (RJ28, TJ28, 0)) [] (0, 9, 12, 21) [] rfl (by rw [hx]; rfl) zp0 rfl (by decide) q2375 (Or.inl rfl) rfl (by exact s_sub (pc := 12) [] rfl (w_X0_hoursAfloat_12 (some e2.2) h1)))) (fun _ => zT_ite (fun hx => (zT_out (fun q hq => by rw [hx] at hq; cases hq; exact (zpn (by decide) q2375 (by decide +kernel) zp0)))) (fun _ => zT_ite (fun hx => (zT_out (fun q hq => by rw [hx] at hq; cases hq; exact (zpn (by decide) q2375 (by decide +kernel) zp0)))) (fun _ => zT_ite (fun hx => (zT_out (fun q hq => by rw [hx] at hq; cases hq; exact (zpn (by decide) q2375 (by decide +kernel) zp0)))) (fun _ => zT_ite (fun hx => (zT_out (fun q hq => by rw [hx] at hq; cases hq; exact (zpn (by decide) q2375 (by decide +kernel) zp0)))) (fun _ => zT_ite (fun hx => (zT_out (fun q hq => by rw [hx] at hq; cases hq; exact (zpn (by decide) q2375 (by decide +kernel) zp0)))) (fun _ => zT_none)))))))))
  refine s_i2l (pc := 7) dX0_hoursAfloat_7 ?_
  refine s_last (pc := 8) dX0_hoursAfloat_8 (ztc rfl zt0) (fun h5 => ?_)
  refine s_goto (pc := 9) (tgt := 15) dX0_hoursAfloat_9 (by decide) ?_
  refine s_iconst (pc := 15) (v := 0) dX0_hoursAfloat_15 (by decide) ?_
  exact s_iret (pc := 16) dX0_hoursAfloat_16 rfl
theorem c_X0_hoursAfloat {d0 : Nat} (hd0 : 11 < d0) (v0 : Option Nat) (v1 : Int32) (v2 : Option Nat) (h : zH) : zCal D z d0 h yX0_hoursAfloat [va_rf v0, .int v1, va_rf v2] (f_X0_hoursAfloat v0 v1 v2 h) :=
  ⟨cX0_hoursAfloat, 4, (some .int), [(0, 9, 12, 21)], 11, (show lv_args 0 [va_rf v0, .int v1, va_rf v2] = [(0, va_rf v0), (1, .int v1), (2, va_rf v2)] by simp [lv_args, zcat_rf, zcat_i, zcat_l, zcat_f, zcat_d]) ▸ w_X0_hoursAfloat v0 v1 v2 h, (plainFor_of_name (by decide)), by simp [lg_sl, zcat_rf, zcat_i, zcat_l, zcat_f, zcat_d], q2593, q94, hd0, by decide, by decide⟩
theorem w_X1_isAfloat (v0 : Option Nat) (v1 : Int32) (h : zH) : zS D z yX1_isAfloat cX1_isAfloat 2 (some .boolean) [] 10 h 0 [(0, va_rf v0), (1, .int v1)] [] (f_X1_isAfloat v0 v1 h) := by
  unfold f_X1_isAfloat
  refine s_aload_n (pc := 0) 0 dX1_isAfloat_0 rfl rfl ?_
  refine s_gR (pc := 1) dX1_isAfloat_1 gf_X1_30 (fun r1 => ?_)
  refine s_iload_n (pc := 4) 1 dX1_isAfloat_4 rfl rfl ?_
  refine zS_ite (fun ht => ?_) (fun _ => zS_none)
  refine s_callV (pc := 5) (np := 1) (as := [.int v1]) (rest := []) dX1_isAfloat_5 ht (q := (RX2, TX2, 10)) rfl (c_X2_ship (by decide) r1 v1 h) rfl rfl q2564 q2387 q2388 rfl (by decide) (zkR (fun r2 h3 => ?_)) zxo
  refine s_aload_n (pc := 8) 0 dX1_isAfloat_8 rfl rfl ?_
  refine s_gR (pc := 9) dX1_isAfloat_9 gf_X1_30 (fun r4 => ?_)
  refine s_gI (pc := 12) dX1_isAfloat_12 gf_X1_184 (fun x5 => ?_)
  refine zS_ite (fun ht => ?_) (fun _ => zS_none)
  refine s_callV (pc := 15) (np := 1) (as := [.int x5]) (rest := []) dX1_isAfloat_15 ht (q := (RX6, TX6, 9)) rfl (c_X6_rests (by decide) r2 x5 h3) rfl rfl q362 q363 q364 rfl (by decide) (zkI (fun x6 h7 => ?_)) zxo
  refine s_if_ne (pc := 18) (tgt := 25) dX1_isAfloat_18 (by decide) (fun _ => ?_) (fun _ => ?_)
  · refine s_iconst (pc := 25) (v := 0) dX1_isAfloat_25 (by decide) ?_
    exact s_nret (pc := 26) dX1_isAfloat_26 rfl
  · refine s_iconst (pc := 21) (v := 1) dX1_isAfloat_21 (by decide) ?_
    refine s_goto (pc := 22) (tgt := 26) dX1_isAfloat_22 (by decide) ?_
    exact s_nret (pc := 26) dX1_isAfloat_26 rfl
theorem c_X1_isAfloat {d0 : Nat} (hd0 : 10 < d0) (v0 : Option Nat) (v1 : Int32) (h : zH) : zCal D z d0 h yX1_isAfloat [va_rf v0, .int v1] (f_X1_isAfloat v0 v1 h) :=
  ⟨cX1_isAfloat, 2, (some .boolean), [], 10, (show lv_args 0 [va_rf v0, .int v1] = [(0, va_rf v0), (1, .int v1)] by simp [lv_args, zcat_rf, zcat_i, zcat_l, zcat_f, zcat_d]) ▸ w_X1_isAfloat v0 v1 h, (plainFor_of_name (by decide)), by simp [lg_sl, zcat_rf, zcat_i, zcat_l, zcat_f, zcat_d], q2604, q95, hd0, by decide, by decide⟩
theorem w_X0_isAfloat_19 (s0 : Option Nat) (h : zH) : zS D z yX0_isAfloat cX0_isAfloat 4 (some .int) [(0, 16, 19, 21)] 11 h 19 [] [va_rf s0] (f_X0_isAfloat_19 s0 h) := by
  unfold f_X0_isAfloat_19
  refine s_ast_n (pc := 19) (L2 := []) [] dX0_isAfloat_19 rfl (by decide) rfl rfl (zcA rfl) ?_
  refine s_iconst (pc := 20) (v := 1) dX0_isAfloat_20 (by decide) ?_
  exact s_iret (pc := 21) dX0_isAfloat_21 rfl
theorem w_X0_isAfloat (v0 : Option Nat) (v1 : Int32) (v2 : Option Nat) (h : zH) : zS D z yX0_isAfloat cX0_isAfloat 4 (some .int) [(0, 16, 19, 21)] 11 h 0 [(0, va_rf v0), (1, .int v1), (2, va_rf v2)] [] (f_X0_isAfloat v0 v1 v2 h) := by
  unfold f_X0_isAfloat
  refine s_aload_n (pc := 0) 2 dX0_isAfloat_0 rfl rfl ?_
  refine s_iconst (pc := 1) (v := 0) dX0_isAfloat_1 (by decide) ?_
  refine s_aload_n (pc := 2) 0 dX0_isAfloat_2 rfl rfl ?_
  refine s_iload_n (pc := 3) 1 dX0_isAfloat_3 rfl rfl ?_
  refine zS_ite (fun ht => ?_) (fun _ => zS_none)
  refine s_callV (pc := 4) (np := 1) (as := [.int v1]) (rest := [.int 0, va_rf v2]) dX0_isAfloat_4 ht (q := (RX1, TX1, 11)) rfl (c_X1_isAfloat (by decide) v0 v1 h) rfl rfl q2601 q2602 q2603 rfl (by simp [zcat_rf, zcat_i, zcat_l, zcat_f, zcat_d]) (zkI (fun x3 h4 => ?_)) (fun e2 h1 => zT_ite (fun hx => (zT_out (fun q hq => by rw [hx] at hq; cases hq; exact (zpn (by decide) q2375 (by decide +kernel) zp0)))) (fun _ => zT_ite (fun hx => (zT_out (fun q hq => by rw [hx] at hq; cases hq; exact (zpn (by decide) q2375 (by decide +kernel) zp0)))) (fun _ => zT_ite (fun hx => (zT_catch (q := (RJ28, TJ28, 0)) [] (0, 16, 19, 21) [] rfl (by rw [hx]; rfl) zp0 rfl (by decide) q2375 (Or.inl rfl) rfl (by exact s_sub (pc := 19) [] rfl (w_X0_isAfloat_19 (some e2.2) h1)))) (fun _ => zT_ite (fun hx => (zT_out (fun q hq => by rw [hx] at hq; cases hq; exact (zpn (by decide) q2375 (by decide +kernel) zp0)))) (fun _ => zT_ite (fun hx => (zT_out (fun q hq => by rw [hx] at hq; cases hq; exact (zpn (by decide) q2375 (by decide +kernel) zp0)))) (fun _ => zT_ite (fun hx => (zT_out (fun q hq => by rw [hx] at hq; cases hq; exact (zpn (by decide) q2375 (by decide +kernel) zp0)))) (fun _ => zT_ite (fun hx => (zT_out (fun q hq => by rw [hx] at hq; cases hq; exact (zpn (by decide) q2375 (by decide +kernel) zp0)))) (fun _ => zT_ite (fun hx => (zT_out (fun q hq => by rw [hx] at hq; cases hq; exact (zpn (by decide) q2375 (by decide +kernel) zp0)))) (fun _ => zT_none)))))))))
  refine s_if_eq (pc := 7) (tgt := 14) dX0_isAfloat_7 (by decide) (fun _ => ?_) (fun _ => ?_)
  · refine s_lconst (pc := 14) (v := 0) dX0_isAfloat_14 (by decide) ?_
    refine s_last (pc := 15) dX0_isAfloat_15 (ztc rfl zt0) (fun h5 => ?_)
    refine s_goto (pc := 16) (tgt := 22) dX0_isAfloat_16 (by decide) ?_
    refine s_iconst (pc := 22) (v := 0) dX0_isAfloat_22 (by decide) ?_
    exact s_iret (pc := 23) dX0_isAfloat_23 rfl
  · refine s_lconst (pc := 10) (v := 1) dX0_isAfloat_10 (by decide) ?_
    refine s_goto (pc := 11) (tgt := 15) dX0_isAfloat_11 (by decide) ?_
    refine s_last (pc := 15) dX0_isAfloat_15 (ztc rfl zt0) (fun h6 => ?_)
    refine s_goto (pc := 16) (tgt := 22) dX0_isAfloat_16 (by decide) ?_
    refine s_iconst (pc := 22) (v := 0) dX0_isAfloat_22 (by decide) ?_
    exact s_iret (pc := 23) dX0_isAfloat_23 rfl
theorem c_X0_isAfloat {d0 : Nat} (hd0 : 11 < d0) (v0 : Option Nat) (v1 : Int32) (v2 : Option Nat) (h : zH) : zCal D z d0 h yX0_isAfloat [va_rf v0, .int v1, va_rf v2] (f_X0_isAfloat v0 v1 v2 h) :=
  ⟨cX0_isAfloat, 4, (some .int), [(0, 16, 19, 21)], 11, (show lv_args 0 [va_rf v0, .int v1, va_rf v2] = [(0, va_rf v0), (1, .int v1), (2, va_rf v2)] by simp [lv_args, zcat_rf, zcat_i, zcat_l, zcat_f, zcat_d]) ▸ w_X0_isAfloat v0 v1 v2 h, (plainFor_of_name (by decide)), by simp [lg_sl, zcat_rf, zcat_i, zcat_l, zcat_f, zcat_d], q2600, q94, hd0, by decide, by decide⟩
theorem w_X1_refusalReason_12 (a0 : Option Nat) (s0 : Int32) (h : zH) : zS D z yX1_refusalReason cX1_refusalReason 1 (some .int) [] 9 h 12 [(0, va_rf a0)] [.int s0] (f_X1_refusalReason_12 a0 s0 h) := by
  unfold f_X1_refusalReason_12
  refine s_callSS (pc := 12) (np := 1) (as := [.int s0]) (rest := []) dX1_refusalReason_12 (c_X1_checkElement (by decide) s0 h) rfl rfl q2612 q2395 rfl (by decide) (zkV (fun h2 => ?_)) zxo
  refine s_aload_n (pc := 15) 0 dX1_refusalReason_15 rfl rfl ?_
  refine s_gI (pc := 16) dX1_refusalReason_16 gf_X1_119 (fun x3 => ?_)
  exact s_iret (pc := 19) dX1_refusalReason_19 rfl
theorem w_X1_refusalReason (v0 : Option Nat) (h : zH) : zS D z yX1_refusalReason cX1_refusalReason 1 (some .int) [] 9 h 0 [(0, va_rf v0)] [] (f_X1_refusalReason v0 h) := by
  unfold f_X1_refusalReason
  refine s_aload_n (pc := 0) 0 dX1_refusalReason_0 rfl rfl ?_
  refine s_gI (pc := 1) dX1_refusalReason_1 gf_X1_119 (fun x1 => ?_)
  refine s_if_le (pc := 4) (tgt := 11) dX1_refusalReason_4 (by decide) (fun _ => ?_) (fun _ => ?_)
  · refine s_iconst (pc := 11) (v := 0) dX1_refusalReason_11 (by decide) ?_
    exact s_sub (pc := 12) [0] rfl (w_X1_refusalReason_12 v0 0 h)
  · refine s_iconst (pc := 7) (v := 1) dX1_refusalReason_7 (by decide) ?_
    refine s_goto (pc := 8) (tgt := 12) dX1_refusalReason_8 (by decide) ?_
    exact s_sub (pc := 12) [0] rfl (w_X1_refusalReason_12 v0 1 h)
theorem c_X1_refusalReason {d0 : Nat} (hd0 : 9 < d0) (v0 : Option Nat) (h : zH) : zCal D z d0 h yX1_refusalReason [va_rf v0] (f_X1_refusalReason v0 h) :=
  ⟨cX1_refusalReason, 1, (some .int), [], 9, (show lv_args 0 [va_rf v0] = [(0, va_rf v0)] by simp [lv_args, zcat_rf, zcat_i, zcat_l, zcat_f, zcat_d]) ▸ w_X1_refusalReason v0 h, (plainFor_of_name (by decide)), by simp [lg_sl, zcat_rf, zcat_i, zcat_l, zcat_f, zcat_d], q2611, q95, hd0, by decide, by decide⟩
theorem w_X0_refusalReason_11 (s0 : Option Nat) (h : zH) : zS D z yX0_refusalReason cX0_refusalReason 3 (some .int) [(0, 8, 11, 21)] 10 h 11 [] [va_rf s0] (f_X0_refusalReason_11 s0 h) := by
  unfold f_X0_refusalReason_11
  refine s_ast_n (pc := 11) (L2 := []) [] dX0_refusalReason_11 rfl (by decide) rfl rfl (zcA rfl) ?_
  refine s_iconst (pc := 12) (v := 1) dX0_refusalReason_12 (by decide) ?_
  exact s_iret (pc := 13) dX0_refusalReason_13 rfl
theorem w_X0_refusalReason (v0 : Option Nat) (v1 : Option Nat) (h : zH) : zS D z yX0_refusalReason cX0_refusalReason 3 (some .int) [(0, 8, 11, 21)] 10 h 0 [(0, va_rf v0), (1, va_rf v1)] [] (f_X0_refusalReason v0 v1 h) := by
  unfold f_X0_refusalReason
  refine s_aload_n (pc := 0) 1 dX0_refusalReason_0 rfl rfl ?_
  refine s_iconst (pc := 1) (v := 0) dX0_refusalReason_1 (by decide) ?_
  refine s_aload_n (pc := 2) 0 dX0_refusalReason_2 rfl rfl ?_
  refine zS_ite (fun ht => ?_) (fun _ => zS_none)
  refine s_callV (pc := 3) (np := 0) (as := []) (rest := [.int 0, va_rf v1]) dX0_refusalReason_3 ht (q := (RX1, TX1, 11)) rfl (c_X1_refusalReason (by decide) v0 h) rfl rfl q2608 q2609 q2610 rfl (by simp [zcat_rf, zcat_i, zcat_l, zcat_f, zcat_d]) (zkI (fun x3 h4 => ?_)) (fun e2 h1 => zT_ite (fun hx => (zT_out (fun q hq => by rw [hx] at hq; cases hq; exact (zpn (by decide) q2375 (by decide +kernel) zp0)))) (fun _ => zT_ite (fun hx => (zT_out (fun q hq => by rw [hx] at hq; cases hq; exact (zpn (by decide) q2375 (by decide +kernel) zp0)))) (fun _ => zT_ite (fun hx => (zT_catch (q := (RJ28, TJ28, 0)) [] (0, 8, 11, 21) [] rfl (by rw [hx]; rfl) zp0 rfl (by decide) q2375 (Or.inl rfl) rfl (by exact s_sub (pc := 11) [] rfl (w_X0_refusalReason_11 (some e2.2) h1)))) (fun _ => zT_ite (fun hx => (zT_out (fun q hq => by rw [hx] at hq; cases hq; exact (zpn (by decide) q2375 (by decide +kernel) zp0)))) (fun _ => zT_ite (fun hx => (zT_out (fun q hq => by rw [hx] at hq; cases hq; exact (zpn (by decide) q2375 (by decide +kernel) zp0)))) (fun _ => zT_ite (fun hx => (zT_out (fun q hq => by rw [hx] at hq; cases hq; exact (zpn (by decide) q2375 (by decide +kernel) zp0)))) (fun _ => zT_ite (fun hx => (zT_out (fun q hq => by rw [hx] at hq; cases hq; exact (zpn (by decide) q2375 (by decide +kernel) zp0)))) (fun _ => zT_ite (fun hx => (zT_out (fun q hq => by rw [hx] at hq; cases hq; exact (zpn (by decide) q2375 (by decide +kernel) zp0)))) (fun _ => zT_none)))))))))
  refine s_i2l (pc := 6) dX0_refusalReason_6 ?_
  refine s_last (pc := 7) dX0_refusalReason_7 (ztc rfl zt0) (fun h5 => ?_)
  refine s_goto (pc := 8) (tgt := 14) dX0_refusalReason_8 (by decide) ?_
  refine s_iconst (pc := 14) (v := 0) dX0_refusalReason_14 (by decide) ?_
  exact s_iret (pc := 15) dX0_refusalReason_15 rfl
theorem c_X0_refusalReason {d0 : Nat} (hd0 : 10 < d0) (v0 : Option Nat) (v1 : Option Nat) (h : zH) : zCal D z d0 h yX0_refusalReason [va_rf v0, va_rf v1] (f_X0_refusalReason v0 v1 h) :=
  ⟨cX0_refusalReason, 3, (some .int), [(0, 8, 11, 21)], 10, (show lv_args 0 [va_rf v0, va_rf v1] = [(0, va_rf v0), (1, va_rf v1)] by simp [lv_args, zcat_rf, zcat_i, zcat_l, zcat_f, zcat_d]) ▸ w_X0_refusalReason v0 v1 h, (plainFor_of_name (by decide)), by simp [lg_sl, zcat_rf, zcat_i, zcat_l, zcat_f, zcat_d], q2607, q94, hd0, by decide, by decide⟩
theorem w_X1_setGate (v0 : Option Nat) (v1 : Int32) (h : zH) : zS D z yX1_setGate cX1_setGate 2 (some .boolean) [] 50 h 0 [(0, va_rf v0), (1, .int v1)] [] (f_X1_setGate v0 v1 h) := by
  unfold f_X1_setGate
  refine s_aload_n (pc := 0) 0 dX1_setGate_0 rfl rfl ?_
  refine s_iload_n (pc := 1) 1 dX1_setGate_1 rfl rfl ?_
  refine zS_ite (fun hz => ?_) (fun _ => zS_none)
  refine s_lamM (pc := 2) (t := 312) (q := zSh siteWord_1_13) (vals := [.int v1]) (rest := [va_rf v0]) dX1_setGate_2 rfl rfl rfl rfl rfl rfl zk_12 ⟨hz, trivial⟩ rfl (by simp [zcat_rf, zcat_i, zcat_l, zcat_f, zcat_d]) (by decide) (fun r1 h2 => ?_)
  refine zS_ite (fun ht => ?_) (fun _ => zS_none)
  refine s_callV (pc := 7) (np := 1) (as := [va_rf r1]) (rest := []) dX1_setGate_7 ht (q := (RX1, TX1, 11)) rfl (c_X1_change (by decide) v0 r1 h2) rfl rfl q2307 q2309 qs17 rfl (by decide) (zkI (fun x3 h4 => ?_)) zxo
  refine s_iconst (pc := 10) (v := 1) dX1_setGate_10 (by decide) ?_
  refine s_icmp_ne (pc := 11) (tgt := 18) dX1_setGate_11 (by decide) (fun _ => ?_) (fun _ => ?_)
  · refine s_iconst (pc := 18) (v := 0) dX1_setGate_18 (by decide) ?_
    exact s_nret (pc := 19) dX1_setGate_19 rfl
  · refine s_iconst (pc := 14) (v := 1) dX1_setGate_14 (by decide) ?_
    refine s_goto (pc := 15) (tgt := 19) dX1_setGate_15 (by decide) ?_
    exact s_nret (pc := 19) dX1_setGate_19 rfl
theorem c_X1_setGate {d0 : Nat} (hd0 : 50 < d0) (v0 : Option Nat) (v1 : Int32) (h : zH) : zCal D z d0 h yX1_setGate [va_rf v0, .int v1] (f_X1_setGate v0 v1 h) :=
  ⟨cX1_setGate, 2, (some .boolean), [], 50, (show lv_args 0 [va_rf v0, .int v1] = [(0, va_rf v0), (1, .int v1)] by simp [lv_args, zcat_rf, zcat_i, zcat_l, zcat_f, zcat_d]) ▸ w_X1_setGate v0 v1 h, (plainFor_of_name (by decide)), by simp [lg_sl, zcat_rf, zcat_i, zcat_l, zcat_f, zcat_d], q2619, q95, hd0, by decide, by decide⟩
theorem w_X0_setGate_19 (s0 : Option Nat) (h : zH) : zS D z yX0_setGate cX0_setGate 4 (some .int) [(0, 16, 19, 27)] 51 h 19 [] [va_rf s0] (f_X0_setGate_19 s0 h) := by
  unfold f_X0_setGate_19
  refine s_ast_n (pc := 19) (L2 := []) [] dX0_setGate_19 rfl (by decide) rfl rfl (zcA rfl) ?_
  refine s_iconst (pc := 20) (v := 1) dX0_setGate_20 (by decide) ?_
  exact s_iret (pc := 21) dX0_setGate_21 rfl
theorem w_X0_setGate (v0 : Option Nat) (v1 : Int32) (v2 : Option Nat) (h : zH) : zS D z yX0_setGate cX0_setGate 4 (some .int) [(0, 16, 19, 27)] 51 h 0 [(0, va_rf v0), (1, .int v1), (2, va_rf v2)] [] (f_X0_setGate v0 v1 v2 h) := by
  unfold f_X0_setGate
  refine s_aload_n (pc := 0) 2 dX0_setGate_0 rfl rfl ?_
  refine s_iconst (pc := 1) (v := 0) dX0_setGate_1 (by decide) ?_
  refine s_aload_n (pc := 2) 0 dX0_setGate_2 rfl rfl ?_
  refine s_iload_n (pc := 3) 1 dX0_setGate_3 rfl rfl ?_
  refine zS_ite (fun ht => ?_) (fun _ => zS_none)
  refine s_callV (pc := 4) (np := 1) (as := [.int v1]) (rest := [.int 0, va_rf v2]) dX0_setGate_4 ht (q := (RX1, TX1, 11)) rfl (c_X1_setGate (by decide) v0 v1 h) rfl rfl q2616 q2617 q2618 rfl (by simp [zcat_rf, zcat_i, zcat_l, zcat_f, zcat_d]) (zkI (fun x3 h4 => ?_)) (fun e2 h1 => zT_ite (fun hx => (zT_out (fun q hq => by rw [hx] at hq; cases hq; exact (zpn (by decide) q2438 (by decide +kernel) zp0)))) (fun _ => zT_ite (fun hx => (zT_out (fun q hq => by rw [hx] at hq; cases hq; exact (zpn (by decide) q2438 (by decide +kernel) zp0)))) (fun _ => zT_ite (fun hx => (zT_out (fun q hq => by rw [hx] at hq; cases hq; exact (zpn (by decide) q2438 (by decide +kernel) zp0)))) (fun _ => zT_ite (fun hx => (zT_catch (q := (RJ44, TJ44, 0)) [] (0, 16, 19, 27) [] rfl (by rw [hx]; rfl) zp0 rfl (by decide) q2438 (Or.inl rfl) rfl (by exact s_sub (pc := 19) [] rfl (w_X0_setGate_19 (some e2.2) h1)))) (fun _ => zT_ite (fun hx => (zT_out (fun q hq => by rw [hx] at hq; cases hq; exact (zpn (by decide) q2438 (by decide +kernel) zp0)))) (fun _ => zT_ite (fun hx => (zT_out (fun q hq => by rw [hx] at hq; cases hq; exact (zpn (by decide) q2438 (by decide +kernel) zp0)))) (fun _ => zT_ite (fun hx => (zT_out (fun q hq => by rw [hx] at hq; cases hq; exact (zpn (by decide) q2438 (by decide +kernel) zp0)))) (fun _ => zT_ite (fun hx => (zT_out (fun q hq => by rw [hx] at hq; cases hq; exact (zpn (by decide) q2438 (by decide +kernel) zp0)))) (fun _ => zT_none)))))))))
  refine s_if_eq (pc := 7) (tgt := 14) dX0_setGate_7 (by decide) (fun _ => ?_) (fun _ => ?_)
  · refine s_lconst (pc := 14) (v := 0) dX0_setGate_14 (by decide) ?_
    refine s_last (pc := 15) dX0_setGate_15 (ztc rfl zt0) (fun h5 => ?_)
    refine s_goto (pc := 16) (tgt := 22) dX0_setGate_16 (by decide) ?_
    refine s_iconst (pc := 22) (v := 0) dX0_setGate_22 (by decide) ?_
    exact s_iret (pc := 23) dX0_setGate_23 rfl
  · refine s_lconst (pc := 10) (v := 1) dX0_setGate_10 (by decide) ?_
    refine s_goto (pc := 11) (tgt := 15) dX0_setGate_11 (by decide) ?_
    refine s_last (pc := 15) dX0_setGate_15 (ztc rfl zt0) (fun h6 => ?_)
    refine s_goto (pc := 16) (tgt := 22) dX0_setGate_16 (by decide) ?_
    refine s_iconst (pc := 22) (v := 0) dX0_setGate_22 (by decide) ?_
    exact s_iret (pc := 23) dX0_setGate_23 rfl
theorem c_X0_setGate {d0 : Nat} (hd0 : 51 < d0) (v0 : Option Nat) (v1 : Int32) (v2 : Option Nat) (h : zH) : zCal D z d0 h yX0_setGate [va_rf v0, .int v1, va_rf v2] (f_X0_setGate v0 v1 v2 h) :=
  ⟨cX0_setGate, 4, (some .int), [(0, 16, 19, 27)], 51, (show lv_args 0 [va_rf v0, .int v1, va_rf v2] = [(0, va_rf v0), (1, .int v1), (2, va_rf v2)] by simp [lv_args, zcat_rf, zcat_i, zcat_l, zcat_f, zcat_d]) ▸ w_X0_setGate v0 v1 v2 h, (plainFor_of_name (by decide)), by simp [lg_sl, zcat_rf, zcat_i, zcat_l, zcat_f, zcat_d], q2615, q94, hd0, by decide, by decide⟩
theorem w_X1_setPump (v0 : Option Nat) (v1 : Int32) (h : zH) : zS D z yX1_setPump cX1_setPump 2 (some .int) [] 50 h 0 [(0, va_rf v0), (1, .int v1)] [] (f_X1_setPump v0 v1 h) := by
  unfold f_X1_setPump
  refine s_aload_n (pc := 0) 0 dX1_setPump_0 rfl rfl ?_
  refine s_iload_n (pc := 1) 1 dX1_setPump_1 rfl rfl ?_
  refine s_lamM (pc := 2) (t := 313) (q := zSh siteWord_1_14) (vals := [.int v1]) (rest := [va_rf v0]) dX1_setPump_2 rfl rfl rfl rfl rfl rfl zk_13 ⟨zok_i _, trivial⟩ rfl (by simp [zcat_rf, zcat_i, zcat_l, zcat_f, zcat_d]) (by decide) (fun r1 h2 => ?_)
  refine zS_ite (fun ht => ?_) (fun _ => zS_none)
  refine s_callV (pc := 7) (np := 1) (as := [va_rf r1]) (rest := []) dX1_setPump_7 ht (q := (RX1, TX1, 11)) rfl (c_X1_change (by decide) v0 r1 h2) rfl rfl q2307 q2309 qs17 rfl (by decide) (zkI (fun x3 h4 => ?_)) zxo
  exact s_iret (pc := 10) dX1_setPump_10 rfl
theorem c_X1_setPump {d0 : Nat} (hd0 : 50 < d0) (v0 : Option Nat) (v1 : Int32) (h : zH) : zCal D z d0 h yX1_setPump [va_rf v0, .int v1] (f_X1_setPump v0 v1 h) :=
  ⟨cX1_setPump, 2, (some .int), [], 50, (show lv_args 0 [va_rf v0, .int v1] = [(0, va_rf v0), (1, .int v1)] by simp [lv_args, zcat_rf, zcat_i, zcat_l, zcat_f, zcat_d]) ▸ w_X1_setPump v0 v1 h, (plainFor_of_name (by decide)), by simp [lg_sl, zcat_rf, zcat_i, zcat_l, zcat_f, zcat_d], q2638, q95, hd0, by decide, by decide⟩
theorem w_X0_setPump_12 (s0 : Option Nat) (h : zH) : zS D z yX0_setPump cX0_setPump 4 (some .int) [(0, 9, 12, 13)] 51 h 12 [] [va_rf s0] (f_X0_setPump_12 s0 h) := by
  unfold f_X0_setPump_12
  refine s_ast_n (pc := 12) (L2 := []) [] dX0_setPump_12 rfl (by decide) rfl rfl (zcA rfl) ?_
  refine s_iconst (pc := 13) (v := 1) dX0_setPump_13 (by decide) ?_
  exact s_iret (pc := 14) dX0_setPump_14 rfl
theorem w_X0_setPump (v0 : Option Nat) (v1 : Int32) (v2 : Option Nat) (h : zH) : zS D z yX0_setPump cX0_setPump 4 (some .int) [(0, 9, 12, 13)] 51 h 0 [(0, va_rf v0), (1, .int v1), (2, va_rf v2)] [] (f_X0_setPump v0 v1 v2 h) := by
  unfold f_X0_setPump
  refine s_aload_n (pc := 0) 2 dX0_setPump_0 rfl rfl ?_
  refine s_iconst (pc := 1) (v := 0) dX0_setPump_1 (by decide) ?_
  refine s_aload_n (pc := 2) 0 dX0_setPump_2 rfl rfl ?_
  refine s_iload_n (pc := 3) 1 dX0_setPump_3 rfl rfl ?_
  refine zS_ite (fun ht => ?_) (fun _ => zS_none)
  refine s_callV (pc := 4) (np := 1) (as := [.int v1]) (rest := [.int 0, va_rf v2]) dX0_setPump_4 ht (q := (RX1, TX1, 11)) rfl (c_X1_setPump (by decide) v0 v1 h) rfl rfl q2635 q2636 q2637 rfl (by simp [zcat_rf, zcat_i, zcat_l, zcat_f, zcat_d]) (zkI (fun x3 h4 => ?_)) (fun e2 h1 => zT_ite (fun hx => (zT_catch (q := (RJ34, TJ34, 0)) [] (0, 9, 12, 13) [] rfl (by rw [hx]; rfl) zp0 rfl (by decide) q2266 (Or.inl rfl) rfl (by exact s_sub (pc := 12) [] rfl (w_X0_setPump_12 (some e2.2) h1)))) (fun _ => zT_ite (fun hx => (zT_out (fun q hq => by rw [hx] at hq; cases hq; exact (zpn (by decide) q2266 (by decide +kernel) zp0)))) (fun _ => zT_ite (fun hx => (zT_out (fun q hq => by rw [hx] at hq; cases hq; exact (zpn (by decide) q2266 (by decide +kernel) zp0)))) (fun _ => zT_ite (fun hx => (zT_out (fun q hq => by rw [hx] at hq; cases hq; exact (zpn (by decide) q2266 (by decide +kernel) zp0)))) (fun _ => zT_ite (fun hx => (zT_out (fun q hq => by rw [hx] at hq; cases hq; exact (zpn (by decide) q2266 (by decide +kernel) zp0)))) (fun _ => zT_ite (fun hx => (zT_out (fun q hq => by rw [hx] at hq; cases hq; exact (zpn (by decide) q2266 (by decide +kernel) zp0)))) (fun _ => zT_ite (fun hx => (zT_out (fun q hq => by rw [hx] at hq; cases hq; exact (zpn (by decide) q2266 (by decide +kernel) zp0)))) (fun _ => zT_ite (fun hx => (zT_out (fun q hq => by rw [hx] at hq; cases hq; exact (zpn (by decide) q2266 (by decide +kernel) zp0)))) (fun _ => zT_none)))))))))
  refine s_i2l (pc := 7) dX0_setPump_7 ?_
  refine s_last (pc := 8) dX0_setPump_8 (ztc rfl zt0) (fun h5 => ?_)
  refine s_goto (pc := 9) (tgt := 15) dX0_setPump_9 (by decide) ?_
  refine s_iconst (pc := 15) (v := 0) dX0_setPump_15 (by decide) ?_
  exact s_iret (pc := 16) dX0_setPump_16 rfl
theorem c_X0_setPump {d0 : Nat} (hd0 : 51 < d0) (v0 : Option Nat) (v1 : Int32) (v2 : Option Nat) (h : zH) : zCal D z d0 h yX0_setPump [va_rf v0, .int v1, va_rf v2] (f_X0_setPump v0 v1 v2 h) :=
  ⟨cX0_setPump, 4, (some .int), [(0, 9, 12, 13)], 51, (show lv_args 0 [va_rf v0, .int v1, va_rf v2] = [(0, va_rf v0), (1, .int v1), (2, va_rf v2)] by simp [lv_args, zcat_rf, zcat_i, zcat_l, zcat_f, zcat_d]) ▸ w_X0_setPump v0 v1 v2 h, (plainFor_of_name (by decide)), by simp [lg_sl, zcat_rf, zcat_i, zcat_l, zcat_f, zcat_d], q2634, q94, hd0, by decide, by decide⟩
theorem w_X1_seaLevel (v0 : Option Nat) (v1 : Int32) (h : zH) : zS D z yX1_seaLevel cX1_seaLevel 2 (some .int) [] 9 h 0 [(0, va_rf v0), (1, .int v1)] [] (f_X1_seaLevel v0 v1 h) := by
  unfold f_X1_seaLevel
  refine s_iload_n (pc := 0) 1 dX1_seaLevel_0 rfl rfl ?_
  refine s_iconst (pc := 1) (v := 0) dX1_seaLevel_1 (by decide) ?_
  refine s_sipush (pc := 2) (v := 9999) dX1_seaLevel_2 (by decide) ?_
  refine s_callSS (pc := 5) (np := 3) (as := [.int v1, .int 0, .int 9999]) (rest := []) dX1_seaLevel_5 (c_X1_isBetween (by decide) v1 0 9999 h) rfl rfl q2548 q1518 rfl (by decide) (zkI (fun x1 h2 => ?_)) zxo
  refine s_callSS (pc := 8) (np := 1) (as := [.int x1]) (rest := []) dX1_seaLevel_8 (c_X1_checkArgument (by decide) x1 h2) rfl rfl q2652 q2280 rfl (by decide) (zkV (fun h3 => ?_)) zxo
  refine s_iload_n (pc := 11) 1 dX1_seaLevel_11 rfl rfl ?_
  refine s_callSS (pc := 12) (np := 1) (as := [.int v1]) (rest := []) dX1_seaLevel_12 (c_X1_seaLevelOf (by decide) v1 h3) rfl rfl q2653 q1975 rfl (by decide) (zkI (fun x4 h5 => ?_)) zxo
  exact s_iret (pc := 15) dX1_seaLevel_15 rfl
theorem c_X1_seaLevel {d0 : Nat} (hd0 : 9 < d0) (v0 : Option Nat) (v1 : Int32) (h : zH) : zCal D z d0 h yX1_seaLevel [va_rf v0, .int v1] (f_X1_seaLevel v0 v1 h) :=
  ⟨cX1_seaLevel, 2, (some .int), [], 9, (show lv_args 0 [va_rf v0, .int v1] = [(0, va_rf v0), (1, .int v1)] by simp [lv_args, zcat_rf, zcat_i, zcat_l, zcat_f, zcat_d]) ▸ w_X1_seaLevel v0 v1 h, (plainFor_of_name (by decide)), by simp [lg_sl, zcat_rf, zcat_i, zcat_l, zcat_f, zcat_d], q2651, q95, hd0, by decide, by decide⟩
theorem w_X0_seaLevel_12 (s0 : Option Nat) (h : zH) : zS D z yX0_seaLevel cX0_seaLevel 4 (some .int) [(0, 9, 12, 13)] 10 h 12 [] [va_rf s0] (f_X0_seaLevel_12 s0 h) := by
  unfold f_X0_seaLevel_12
  refine s_ast_n (pc := 12) (L2 := []) [] dX0_seaLevel_12 rfl (by decide) rfl rfl (zcA rfl) ?_
  refine s_iconst (pc := 13) (v := 1) dX0_seaLevel_13 (by decide) ?_
  exact s_iret (pc := 14) dX0_seaLevel_14 rfl
theorem w_X0_seaLevel (v0 : Option Nat) (v1 : Int32) (v2 : Option Nat) (h : zH) : zS D z yX0_seaLevel cX0_seaLevel 4 (some .int) [(0, 9, 12, 13)] 10 h 0 [(0, va_rf v0), (1, .int v1), (2, va_rf v2)] [] (f_X0_seaLevel v0 v1 v2 h) := by
  unfold f_X0_seaLevel
  refine s_aload_n (pc := 0) 2 dX0_seaLevel_0 rfl rfl ?_
  refine s_iconst (pc := 1) (v := 0) dX0_seaLevel_1 (by decide) ?_
  refine s_aload_n (pc := 2) 0 dX0_seaLevel_2 rfl rfl ?_
  refine s_iload_n (pc := 3) 1 dX0_seaLevel_3 rfl rfl ?_
  refine zS_ite (fun ht => ?_) (fun _ => zS_none)
  refine s_callV (pc := 4) (np := 1) (as := [.int v1]) (rest := [.int 0, va_rf v2]) dX0_seaLevel_4 ht (q := (RX1, TX1, 11)) rfl (c_X1_seaLevel (by decide) v0 v1 h) rfl rfl q2648 q2649 q2650 rfl (by simp [zcat_rf, zcat_i, zcat_l, zcat_f, zcat_d]) (zkI (fun x3 h4 => ?_)) (fun e2 h1 => zT_ite (fun hx => (zT_catch (q := (RJ34, TJ34, 0)) [] (0, 9, 12, 13) [] rfl (by rw [hx]; rfl) zp0 rfl (by decide) q2266 (Or.inl rfl) rfl (by exact s_sub (pc := 12) [] rfl (w_X0_seaLevel_12 (some e2.2) h1)))) (fun _ => zT_ite (fun hx => (zT_out (fun q hq => by rw [hx] at hq; cases hq; exact (zpn (by decide) q2266 (by decide +kernel) zp0)))) (fun _ => zT_ite (fun hx => (zT_out (fun q hq => by rw [hx] at hq; cases hq; exact (zpn (by decide) q2266 (by decide +kernel) zp0)))) (fun _ => zT_ite (fun hx => (zT_out (fun q hq => by rw [hx] at hq; cases hq; exact (zpn (by decide) q2266 (by decide +kernel) zp0)))) (fun _ => zT_ite (fun hx => (zT_out (fun q hq => by rw [hx] at hq; cases hq; exact (zpn (by decide) q2266 (by decide +kernel) zp0)))) (fun _ => zT_ite (fun hx => (zT_out (fun q hq => by rw [hx] at hq; cases hq; exact (zpn (by decide) q2266 (by decide +kernel) zp0)))) (fun _ => zT_ite (fun hx => (zT_out (fun q hq => by rw [hx] at hq; cases hq; exact (zpn (by decide) q2266 (by decide +kernel) zp0)))) (fun _ => zT_ite (fun hx => (zT_out (fun q hq => by rw [hx] at hq; cases hq; exact (zpn (by decide) q2266 (by decide +kernel) zp0)))) (fun _ => zT_none)))))))))
  refine s_i2l (pc := 7) dX0_seaLevel_7 ?_
  refine s_last (pc := 8) dX0_seaLevel_8 (ztc rfl zt0) (fun h5 => ?_)
  refine s_goto (pc := 9) (tgt := 15) dX0_seaLevel_9 (by decide) ?_
  refine s_iconst (pc := 15) (v := 0) dX0_seaLevel_15 (by decide) ?_
  exact s_iret (pc := 16) dX0_seaLevel_16 rfl
theorem c_X0_seaLevel {d0 : Nat} (hd0 : 10 < d0) (v0 : Option Nat) (v1 : Int32) (v2 : Option Nat) (h : zH) : zCal D z d0 h yX0_seaLevel [va_rf v0, .int v1, va_rf v2] (f_X0_seaLevel v0 v1 v2 h) :=
  ⟨cX0_seaLevel, 4, (some .int), [(0, 9, 12, 13)], 10, (show lv_args 0 [va_rf v0, .int v1, va_rf v2] = [(0, va_rf v0), (1, .int v1), (2, va_rf v2)] by simp [lv_args, zcat_rf, zcat_i, zcat_l, zcat_f, zcat_d]) ▸ w_X0_seaLevel v0 v1 v2 h, (plainFor_of_name (by decide)), by simp [lg_sl, zcat_rf, zcat_i, zcat_l, zcat_f, zcat_d], q2647, q94, hd0, by decide, by decide⟩
theorem w_X1_seaLevelSteps_41 (K8 : Int32 → Int32 → Int32 → Int32 → zH → zO) (hK8 : ∀ (a0 : Int32) (a1 : Int32) (a2 : Int32) (a3 : Int32) (h : zH), zS D z yX1_seaLevelSteps cX1_seaLevelSteps 4 (some .int) [] 1 h 8 [(0, .int a0), (1, .int a1), (2, .int a2), (3, .int a3)] [] (K8 a0 a1 a2 a3 h)) (a0 : Int32) (a1 : Int32) (a3 : Int32) (s0 : Int32) (h : zH) : zS D z yX1_seaLevelSteps cX1_seaLevelSteps 4 (some .int) [] 1 h 41 [(0, .int a0), (1, .int a1), (3, .int a3)] [.int s0] (f_X1_seaLevelSteps_41 K8 a0 a1 a3 s0 h) := by
  unfold f_X1_seaLevelSteps_41
  refine s_ist_n (pc := 41) (L2 := [(0, .int a0), (1, .int a1), (3, .int a3)]) [0, 1, 2] dX1_seaLevelSteps_41 rfl (by decide) rfl rfl (zcB (j := 1) rfl rfl rfl) ?_
  refine s_inc (pc := 42) (v := 1) (L2 := [(2, .int s0), (0, .int a0), (1, .int a1)]) 3 [0, 1, 2] dX1_seaLevelSteps_42 rfl (by decide) (by decide) rfl rfl (zcB (j := 0) rfl rfl rfl) (fun x2 => ?_)
  refine s_goto (pc := 45) (tgt := 8) dX1_seaLevelSteps_45 (by decide) ?_
  exact s_sub (pc := 8) [2, 3, 1, 0] rfl (hK8 a0 a1 s0 x2 h)
theorem w_X1_seaLevelSteps_8 : ∀ (n : Nat) (a0 : Int32) (a1 : Int32) (a2 : Int32) (a3 : Int32) (h : zH), zS D z yX1_seaLevelSteps cX1_seaLevelSteps 4 (some .int) [] 1 h 8 [(0, .int a0), (1, .int a1), (2, .int a2), (3, .int a3)] [] (f_X1_seaLevelSteps_8 n a0 a1 a2 a3 h) := by
  intro n
  induction n with
  | zero => intros; exact zS_none
  | succ n ih =>
    intro a0 a1 a2 a3 h
    rw [f_X1_seaLevelSteps_8.eq_2]
    refine s_iload_n (pc := 8) 3 dX1_seaLevelSteps_8 rfl rfl ?_
    refine s_iload_n (pc := 9) 0 dX1_seaLevelSteps_9 rfl rfl ?_
    refine s_icmp_ge (pc := 10) (tgt := 48) dX1_seaLevelSteps_10 (by decide) (fun _ => ?_) (fun _ => ?_)
    · refine s_iload_n (pc := 48) 1 dX1_seaLevelSteps_48 rfl rfl ?_
      exact s_iret (pc := 49) dX1_seaLevelSteps_49 rfl
    · refine s_iload_n (pc := 13) 1 dX1_seaLevelSteps_13 rfl rfl ?_
      refine s_iload_n (pc := 14) 2 dX1_seaLevelSteps_14 rfl rfl ?_
      refine s_iadd (pc := 15) dX1_seaLevelSteps_15 ?_
      refine s_nm (pc := 16) Value.int (fun x1 => ?_)
      refine s_ist_n (pc := 16) (L2 := [(0, .int a0), (2, .int a2), (3, .int a3)]) [0, 2, 3] dX1_seaLevelSteps_16 rfl (by decide) rfl rfl (zcB (j := 0) rfl rfl rfl) ?_
      refine s_iload_n (pc := 17) 0 dX1_seaLevelSteps_17 rfl rfl ?_
      refine s_sipush (pc := 18) (v := 160) dX1_seaLevelSteps_18 (by decide) ?_
      refine s_icmp_ne (pc := 21) (tgt := 29) dX1_seaLevelSteps_21 (by decide) (fun _ => ?_) (fun _ => ?_)
      · refine s_iload_n (pc := 29) 0 dX1_seaLevelSteps_29 rfl rfl ?_
        refine s_bipush (pc := 30) (v := 40) dX1_seaLevelSteps_30 (by decide) ?_
        refine s_icmp_ne (pc := 32) (tgt := 40) dX1_seaLevelSteps_32 (by decide) (fun _ => ?_) (fun _ => ?_)
        · refine s_iload_n (pc := 40) 2 dX1_seaLevelSteps_40 rfl rfl ?_
          exact s_sub (pc := 41) [1, 0, 3] rfl (w_X1_seaLevelSteps_41 (f_X1_seaLevelSteps_8 n) ih a0 x1 a3 a2 h)
        · refine s_bipush (pc := 35) (v := 20) dX1_seaLevelSteps_35 (by decide) ?_
          refine s_goto (pc := 37) (tgt := 41) dX1_seaLevelSteps_37 (by decide) ?_
          exact s_sub (pc := 41) [1, 0, 3] rfl (w_X1_seaLevelSteps_41 (f_X1_seaLevelSteps_8 n) ih a0 x1 a3 20 h)
      · refine s_bipush (pc := 24) (v := -20) dX1_seaLevelSteps_24 (by decide) ?_
        refine s_goto (pc := 26) (tgt := 41) dX1_seaLevelSteps_26 (by decide) ?_
        exact s_sub (pc := 41) [1, 0, 3] rfl (w_X1_seaLevelSteps_41 (f_X1_seaLevelSteps_8 n) ih a0 x1 a3 (-20) h)
theorem w_X1_seaLevelSteps (v0 : Int32) (h : zH) : zS D z yX1_seaLevelSteps cX1_seaLevelSteps 4 (some .int) [] 1 h 0 [(0, .int v0)] [] (f_X1_seaLevelSteps v0 h) := by
  unfold f_X1_seaLevelSteps
  refine s_bipush (pc := 0) (v := 40) dX1_seaLevelSteps_0 (by decide) ?_
  refine s_ist_n (pc := 2) (L2 := [(0, .int v0)]) [0] dX1_seaLevelSteps_2 rfl (by decide) rfl rfl (zcB (j := 0) rfl rfl rfl) ?_
  refine s_bipush (pc := 3) (v := 20) dX1_seaLevelSteps_3 (by decide) ?_
  refine s_ist_n (pc := 5) (L2 := [(1, .int 40), (0, .int v0)]) [0, 1] dX1_seaLevelSteps_5 rfl (by decide) rfl rfl (zcB (j := 0) rfl rfl rfl) ?_
  refine s_iconst (pc := 6) (v := 0) dX1_seaLevelSteps_6 (by decide) ?_
  refine s_ist_n (pc := 7) (L2 := [(2, .int 20), (1, .int 40), (0, .int v0)]) [0, 1, 2] dX1_seaLevelSteps_7 rfl (by decide) rfl rfl (zcB (j := 0) rfl rfl rfl) ?_
  exact s_sub (pc := 8) [3, 2, 1, 0] rfl (w_X1_seaLevelSteps_8 zfuel v0 40 20 0 h)
theorem c_X1_seaLevelSteps {d0 : Nat} (hd0 : 1 < d0) (v0 : Int32) (h : zH) : zCal D z d0 h yX1_seaLevelSteps [.int v0] (f_X1_seaLevelSteps v0 h) :=
  ⟨cX1_seaLevelSteps, 4, (some .int), [], 1, (show lv_args 0 [.int v0] = [(0, .int v0)] by simp [lv_args, zcat_rf, zcat_i, zcat_l, zcat_f, zcat_d]) ▸ w_X1_seaLevelSteps v0 h, (plainFor_of_name (by decide)), by simp [lg_sl, zcat_rf, zcat_i, zcat_l, zcat_f, zcat_d], q1979, q95, hd0, by decide, by decide⟩
theorem w_X1_seaLevelByHours (v0 : Option Nat) (v1 : Int32) (h : zH) : zS D z yX1_seaLevelByHours cX1_seaLevelByHours 2 (some .int) [] 9 h 0 [(0, va_rf v0), (1, .int v1)] [] (f_X1_seaLevelByHours v0 v1 h) := by
  unfold f_X1_seaLevelByHours
  refine s_iload_n (pc := 0) 1 dX1_seaLevelByHours_0 rfl rfl ?_
  refine s_iconst (pc := 1) (v := 0) dX1_seaLevelByHours_1 (by decide) ?_
  refine s_sipush (pc := 2) (v := 9999) dX1_seaLevelByHours_2 (by decide) ?_
  refine s_callSS (pc := 5) (np := 3) (as := [.int v1, .int 0, .int 9999]) (rest := []) dX1_seaLevelByHours_5 (c_X1_isBetween (by decide) v1 0 9999 h) rfl rfl q2548 q1518 rfl (by decide) (zkI (fun x1 h2 => ?_)) zxo
  refine s_callSS (pc := 8) (np := 1) (as := [.int x1]) (rest := []) dX1_seaLevelByHours_8 (c_X1_checkArgument (by decide) x1 h2) rfl rfl q2652 q2280 rfl (by decide) (zkV (fun h3 => ?_)) zxo
  refine s_iload_n (pc := 11) 1 dX1_seaLevelByHours_11 rfl rfl ?_
  refine s_callSS (pc := 12) (np := 1) (as := [.int v1]) (rest := []) dX1_seaLevelByHours_12 (c_X1_seaLevelSteps (by decide) v1 h3) rfl rfl q2661 q1978 rfl (by decide) (zkI (fun x4 h5 => ?_)) zxo
  exact s_iret (pc := 15) dX1_seaLevelByHours_15 rfl
theorem c_X1_seaLevelByHours {d0 : Nat} (hd0 : 9 < d0) (v0 : Option Nat) (v1 : Int32) (h : zH) : zCal D z d0 h yX1_seaLevelByHours [va_rf v0, .int v1] (f_X1_seaLevelByHours v0 v1 h) :=
  ⟨cX1_seaLevelByHours, 2, (some .int), [], 9, (show lv_args 0 [va_rf v0, .int v1] = [(0, va_rf v0), (1, .int v1)] by simp [lv_args, zcat_rf, zcat_i, zcat_l, zcat_f, zcat_d]) ▸ w_X1_seaLevelByHours v0 v1 h, (plainFor_of_name (by decide)), by simp [lg_sl, zcat_rf, zcat_i, zcat_l, zcat_f, zcat_d], q2660, q95, hd0, by decide, by decide⟩
end WW3
