set_option maxRecDepth 100000
theorem nf_X2_289 : zFn RX2 289 18 [.null, .int 0, .int 0] := ⟨_, tyJ12, rfl, q389, q390, q109, in_J12, tyJ12_ok, rfl⟩
theorem pf_J36_7 {nm : String} : zFp RJ36 7 [27] 0 nm (.int) := ⟨_, _, _, .inl q1170, by decide +kernel, ztc ⟨_, tyJ37, rfl, by decide, rfl, rfl, .inl rfl, in_J37, tyJ37_ok, nmJ37, .inl rfl⟩ (zt0)⟩
theorem pf_J37_9 {nm : String} : zFp RJ37 9 [27] 1 nm (.array (.object "java/lang/Object")) := ⟨_, _, _, .inl q1166, by decide +kernel, ztc ⟨_, tyJ37, rfl, by decide, rfl, rfl, .inl rfl, in_J37, tyJ37_ok, nmJ37, .inl rfl⟩ (zt0)⟩
theorem gf_J37_48 : zFg RJ37 48 [27] 2 := ⟨_, _, _, .inl q1169, ztc ⟨_, rfl, by decide, rfl, rfl, .inl rfl, in_J37⟩ (zt0)⟩
theorem gf_J37_9 : zFg RJ37 9 [27] 1 := ⟨_, _, _, .inl q1166, ztc ⟨_, rfl, by decide, rfl, rfl, .inl rfl, in_J37⟩ (zt0)⟩
theorem gf_J37_63 : zFg RJ37 63 [27] 0 := ⟨_, _, _, .inl q1173, ztc ⟨_, rfl, by decide, rfl, rfl, .inr q1172, in_J37⟩ (zt0)⟩
theorem pf_J37_63 {nm : String} : zFp RJ37 63 [27] 0 nm (.int) := ⟨_, _, _, .inl q1173, by decide +kernel, ztc ⟨_, tyJ37, rfl, by decide, rfl, rfl, .inr q1172, in_J37, tyJ37_ok, nmJ37, .inl rfl⟩ (zt0)⟩
theorem pf_J37_48 {nm : String} : zFp RJ37 48 [27] 2 nm (.int) := ⟨_, _, _, .inl q1169, by decide +kernel, ztc ⟨_, tyJ37, rfl, by decide, rfl, rfl, .inl rfl, in_J37, tyJ37_ok, nmJ37, .inl rfl⟩ (zt0)⟩
theorem nf_X2_135 : zFn RX2 135 27 [.int 0, .null, .int 0] := ⟨_, tyJ37, rfl, q1146, q1147, q136, in_J37, tyJ37_ok, rfl⟩
theorem pf_J15_1 : zFp RJ15 1 [20] 3 "<init>" (.object "java/util/ArrayList") := ⟨_, _, _, .inl q486, by decide +kernel, ztc ⟨_, tyJ15, rfl, by decide, rfl, rfl, .inl rfl, in_J15, tyJ15_ok, nmJ15, .inr ⟨rfl, rfl, rfl, q486⟩⟩ (zt0)⟩
theorem pf_J15_22 {nm : String} : zFp RJ15 22 [20] 2 nm (.int) := ⟨_, _, _, .inl q485, by decide +kernel, ztc ⟨_, tyJ15, rfl, by decide, rfl, rfl, .inl rfl, in_J15, tyJ15_ok, nmJ15, .inl rfl⟩ (zt0)⟩
theorem nf_J37_267 : zFn RJ37 267 20 [.int 0, .int 0, .int 0, .null] := ⟨_, tyJ15, rfl, q477, q478, q112, in_J15, tyJ15_ok, rfl⟩
section WW5
variable {D : va_G} {z : Nat}
theorem w_X2_taken_67 (K23 : Option Nat → Option Nat → zH → zO) (hK23 : ∀ (a1 : Option Nat) (a2 : Option Nat) (h : zH), zS D z yX2_taken cX2_taken 4 (some (.object "java/util/BitSet")) [] 10 h 23 [(1, va_rf a1), (2, va_rf a2)] [] (K23 a1 a2 h)) (a1 : Option Nat) (a2 : Option Nat) (h : zH) : zS D z yX2_taken cX2_taken 4 (some (.object "java/util/BitSet")) [] 10 h 67 [(1, va_rf a1), (2, va_rf a2)] [] (f_X2_taken_67 K23 a1 a2 h) := by
  unfold f_X2_taken_67
  refine s_goto (pc := 67) (tgt := 23) dX2_taken_67 (by decide) ?_
  exact s_sub (pc := 23) [0, 1] rfl (hK23 a1 a2 h)
theorem w_X2_taken_23 : ∀ (n : Nat) (a1 : Option Nat) (a2 : Option Nat) (h : zH), zS D z yX2_taken cX2_taken 4 (some (.object "java/util/BitSet")) [] 10 h 23 [(1, va_rf a1), (2, va_rf a2)] [] (f_X2_taken_23 n a1 a2 h) := by
  intro n
  induction n with
  | zero => intros; exact zS_none
  | succ n ih =>
    intro a1 a2 h
    rw [f_X2_taken_23.eq_2]
    refine s_aload_n (pc := 23) 1 dX2_taken_23 rfl rfl ?_
    refine zS_ite (fun ht => ?_) (fun _ => ?_)
    · refine s_callF (pc := 24) (np := 0) (as := []) (rest := []) dX2_taken_24 ht (q := (RX9, TX9, 2)) rfl (c_X9_hasNext (by decide) a2 h) ⟨_, _, _, q637⟩ rfl rfl q629 (by decide +kernel) q635 q633 rfl (by decide) (zkI (fun x9 h10 => ?_)) zxo
      refine s_if_eq (pc := 29) (tgt := 70) dX2_taken_29 (by decide) (fun _ => ?_) (fun _ => ?_)
      · refine s_aload_n (pc := 70) 0 dX2_taken_70 rfl rfl ?_
        exact s_aret (pc := 71) dX2_taken_71 rfl (Or.inl ⟨_, rfl⟩)
      · refine s_aload_n (pc := 32) 1 dX2_taken_32 rfl rfl ?_
        refine zS_ite (fun ht => ?_) (fun _ => ?_)
        · refine s_callF (pc := 33) (np := 0) (as := []) (rest := []) dX2_taken_33 ht (q := (RX9, TX9, 2)) rfl (c_X9_next (by decide) a2 h10) ⟨_, _, _, q677⟩ rfl rfl q670 (by decide +kernel) q675 q673 rfl (by decide) (zkR (fun r11 h12 => ?_)) zxo
          refine s_cast (pc := 38) dX2_taken_38 q836 zcs_FloatingDock_Ship ?_
          refine s_ast_n (pc := 41) (L2 := [(1, va_rf a1), (2, va_rf a2)]) [0, 1] dX2_taken_41 rfl (by decide) rfl rfl (zcB (j := 1) rfl (zcat_rf a2) rfl) ?_
          refine s_aload_n (pc := 42) 0 dX2_taken_42 rfl rfl ?_
          refine zS_ite (fun ht => ?_) (fun _ => zS_none)
          refine s_callV (pc := 43) (np := 0) (as := []) (rest := []) dX2_taken_43 ht (q := (RX6, TX6, 9)) rfl (c_X6_isInDock (by decide) r11 h12) rfl rfl q837 q367 q368 rfl (by decide) (zkI (fun x13 h14 => ?_)) zxo
          refine s_if_eq (pc := 46) (tgt := 67) dX2_taken_46 (by decide) (fun _ => ?_) (fun _ => ?_)
          · exact s_sub (pc := 67) [1, 2] rfl (w_X2_taken_67 (f_X2_taken_23 n) ih a1 a2 h14)
          · refine s_aload_n (pc := 49) 1 dX2_taken_49 rfl rfl ?_
            refine s_aload_n (pc := 50) 0 dX2_taken_50 rfl rfl ?_
            refine s_gR (pc := 51) dX2_taken_51 gf_X2_144 (fun r15 => ?_)
            refine s_gI (pc := 54) dX2_taken_54 gf_X2_148 (fun x16 => ?_)
            refine s_aload_n (pc := 57) 0 dX2_taken_57 rfl rfl ?_
            refine s_gR (pc := 58) dX2_taken_58 gf_X2_144 (fun r17 => ?_)
            refine zS_ite (fun ht => ?_) (fun _ => zS_none)
            refine s_callV (pc := 61) (np := 0) (as := []) (rest := [.int x16, va_rf a1]) dX2_taken_61 ht (q := (RX3, TX3, 2)) rfl (c_X3_end (by decide) r17 h14) rfl rfl q838 q639 q640 rfl (by simp [zcat_rf, zcat_i, zcat_l, zcat_f, zcat_d]) (zkI (fun x18 h19 => ?_)) zxo
            refine zS_ite (fun ht => ?_) (fun _ => zS_none)
            refine s_callV (pc := 64) (np := 2) (as := [.int x16, .int x18]) (rest := []) dX2_taken_64 ht (q := (RJ12, TJ12, 3)) rfl (c_J12_set (by decide) a1 x16 x18 h19) rfl rfl q839 q840 q841 rfl (by decide) (zkV (fun h20 => ?_)) zxo
            exact s_sub (pc := 67) [1, 2] rfl (w_X2_taken_67 (f_X2_taken_23 n) ih a1 a2 h20)
        refine zS_ite (fun ht => ?_) (fun _ => ?_)
        · refine s_callF (pc := 33) (np := 0) (as := []) (rest := []) dX2_taken_33 ht (q := (RJ15, TJ15, 4)) rfl (c_J15_next (by decide) a2 h10) ⟨_, _, _, q788⟩ rfl rfl q670 (by decide +kernel) q786 q784 rfl (by decide) (zkR (fun r11 h12 => ?_)) zxo
          refine s_cast (pc := 38) dX2_taken_38 q836 zcs_FloatingDock_Ship ?_
          refine s_ast_n (pc := 41) (L2 := [(1, va_rf a1), (2, va_rf a2)]) [0, 1] dX2_taken_41 rfl (by decide) rfl rfl (zcB (j := 1) rfl (zcat_rf a2) rfl) ?_
          refine s_aload_n (pc := 42) 0 dX2_taken_42 rfl rfl ?_
          refine zS_ite (fun ht => ?_) (fun _ => zS_none)
          refine s_callV (pc := 43) (np := 0) (as := []) (rest := []) dX2_taken_43 ht (q := (RX6, TX6, 9)) rfl (c_X6_isInDock (by decide) r11 h12) rfl rfl q837 q367 q368 rfl (by decide) (zkI (fun x21 h22 => ?_)) zxo
          refine s_if_eq (pc := 46) (tgt := 67) dX2_taken_46 (by decide) (fun _ => ?_) (fun _ => ?_)
          · exact s_sub (pc := 67) [1, 2] rfl (w_X2_taken_67 (f_X2_taken_23 n) ih a1 a2 h22)
          · refine s_aload_n (pc := 49) 1 dX2_taken_49 rfl rfl ?_
            refine s_aload_n (pc := 50) 0 dX2_taken_50 rfl rfl ?_
            refine s_gR (pc := 51) dX2_taken_51 gf_X2_144 (fun r23 => ?_)
            refine s_gI (pc := 54) dX2_taken_54 gf_X2_148 (fun x24 => ?_)
            refine s_aload_n (pc := 57) 0 dX2_taken_57 rfl rfl ?_
            refine s_gR (pc := 58) dX2_taken_58 gf_X2_144 (fun r25 => ?_)
            refine zS_ite (fun ht => ?_) (fun _ => zS_none)
            refine s_callV (pc := 61) (np := 0) (as := []) (rest := [.int x24, va_rf a1]) dX2_taken_61 ht (q := (RX3, TX3, 2)) rfl (c_X3_end (by decide) r25 h22) rfl rfl q838 q639 q640 rfl (by simp [zcat_rf, zcat_i, zcat_l, zcat_f, zcat_d]) (zkI (fun x26 h27 => ?_)) zxo
            refine zS_ite (fun ht => ?_) (fun _ => zS_none)
            refine s_callV (pc := 64) (np := 2) (as := [.int x24, .int x26]) (rest := []) dX2_taken_64 ht (q := (RJ12, TJ12, 3)) rfl (c_J12_set (by decide) a1 x24 x26 h27) rfl rfl q839 q840 q841 rfl (by decide) (zkV (fun h28 => ?_)) zxo
            exact s_sub (pc := 67) [1, 2] rfl (w_X2_taken_67 (f_X2_taken_23 n) ih a1 a2 h28)
        refine zS_ite (fun ht => ?_) (fun _ => ?_)
        · refine s_callF (pc := 33) (np := 0) (as := []) (rest := []) dX2_taken_33 ht (q := (RJ17, TJ17, 5)) rfl (c_J17_next (by decide) a2 h10) ⟨_, _, _, q799⟩ rfl rfl q670 (by decide +kernel) q797 q795 rfl (by decide) (zkR (fun r11 h12 => ?_)) zxo
          refine s_cast (pc := 38) dX2_taken_38 q836 zcs_FloatingDock_Ship ?_
          refine s_ast_n (pc := 41) (L2 := [(1, va_rf a1), (2, va_rf a2)]) [0, 1] dX2_taken_41 rfl (by decide) rfl rfl (zcB (j := 1) rfl (zcat_rf a2) rfl) ?_
          refine s_aload_n (pc := 42) 0 dX2_taken_42 rfl rfl ?_
          refine zS_ite (fun ht => ?_) (fun _ => zS_none)
          refine s_callV (pc := 43) (np := 0) (as := []) (rest := []) dX2_taken_43 ht (q := (RX6, TX6, 9)) rfl (c_X6_isInDock (by decide) r11 h12) rfl rfl q837 q367 q368 rfl (by decide) (zkI (fun x29 h30 => ?_)) zxo
          refine s_if_eq (pc := 46) (tgt := 67) dX2_taken_46 (by decide) (fun _ => ?_) (fun _ => ?_)
          · exact s_sub (pc := 67) [1, 2] rfl (w_X2_taken_67 (f_X2_taken_23 n) ih a1 a2 h30)
          · refine s_aload_n (pc := 49) 1 dX2_taken_49 rfl rfl ?_
            refine s_aload_n (pc := 50) 0 dX2_taken_50 rfl rfl ?_
            refine s_gR (pc := 51) dX2_taken_51 gf_X2_144 (fun r31 => ?_)
            refine s_gI (pc := 54) dX2_taken_54 gf_X2_148 (fun x32 => ?_)
            refine s_aload_n (pc := 57) 0 dX2_taken_57 rfl rfl ?_
            refine s_gR (pc := 58) dX2_taken_58 gf_X2_144 (fun r33 => ?_)
            refine zS_ite (fun ht => ?_) (fun _ => zS_none)
            refine s_callV (pc := 61) (np := 0) (as := []) (rest := [.int x32, va_rf a1]) dX2_taken_61 ht (q := (RX3, TX3, 2)) rfl (c_X3_end (by decide) r33 h30) rfl rfl q838 q639 q640 rfl (by simp [zcat_rf, zcat_i, zcat_l, zcat_f, zcat_d]) (zkI (fun x34 h35 => ?_)) zxo
            refine zS_ite (fun ht => ?_) (fun _ => zS_none)
            refine s_callV (pc := 64) (np := 2) (as := [.int x32, .int x34]) (rest := []) dX2_taken_64 ht (q := (RJ12, TJ12, 3)) rfl (c_J12_set (by decide) a1 x32 x34 h35) rfl rfl q839 q840 q841 rfl (by decide) (zkV (fun h36 => ?_)) zxo
            exact s_sub (pc := 67) [1, 2] rfl (w_X2_taken_67 (f_X2_taken_23 n) ih a1 a2 h36)
        refine zS_ite (fun ht => ?_) (fun _ => ?_)
        · refine s_callF (pc := 33) (np := 0) (as := []) (rest := []) dX2_taken_33 ht (q := (RJ21, TJ21, 5)) rfl (c_J21_next (by decide) a2 h10) ⟨_, _, _, q812⟩ rfl rfl q670 (by decide +kernel) q810 q808 rfl (by decide) (zkR (fun r11 h12 => ?_)) zxo
          refine s_cast (pc := 38) dX2_taken_38 q836 zcs_FloatingDock_Ship ?_
          refine s_ast_n (pc := 41) (L2 := [(1, va_rf a1), (2, va_rf a2)]) [0, 1] dX2_taken_41 rfl (by decide) rfl rfl (zcB (j := 1) rfl (zcat_rf a2) rfl) ?_
          refine s_aload_n (pc := 42) 0 dX2_taken_42 rfl rfl ?_
          refine zS_ite (fun ht => ?_) (fun _ => zS_none)
          refine s_callV (pc := 43) (np := 0) (as := []) (rest := []) dX2_taken_43 ht (q := (RX6, TX6, 9)) rfl (c_X6_isInDock (by decide) r11 h12) rfl rfl q837 q367 q368 rfl (by decide) (zkI (fun x37 h38 => ?_)) zxo
          refine s_if_eq (pc := 46) (tgt := 67) dX2_taken_46 (by decide) (fun _ => ?_) (fun _ => ?_)
          · exact s_sub (pc := 67) [1, 2] rfl (w_X2_taken_67 (f_X2_taken_23 n) ih a1 a2 h38)
          · refine s_aload_n (pc := 49) 1 dX2_taken_49 rfl rfl ?_
            refine s_aload_n (pc := 50) 0 dX2_taken_50 rfl rfl ?_
            refine s_gR (pc := 51) dX2_taken_51 gf_X2_144 (fun r39 => ?_)
            refine s_gI (pc := 54) dX2_taken_54 gf_X2_148 (fun x40 => ?_)
            refine s_aload_n (pc := 57) 0 dX2_taken_57 rfl rfl ?_
            refine s_gR (pc := 58) dX2_taken_58 gf_X2_144 (fun r41 => ?_)
            refine zS_ite (fun ht => ?_) (fun _ => zS_none)
            refine s_callV (pc := 61) (np := 0) (as := []) (rest := [.int x40, va_rf a1]) dX2_taken_61 ht (q := (RX3, TX3, 2)) rfl (c_X3_end (by decide) r41 h38) rfl rfl q838 q639 q640 rfl (by simp [zcat_rf, zcat_i, zcat_l, zcat_f, zcat_d]) (zkI (fun x42 h43 => ?_)) zxo
            refine zS_ite (fun ht => ?_) (fun _ => zS_none)
            refine s_callV (pc := 64) (np := 2) (as := [.int x40, .int x42]) (rest := []) dX2_taken_64 ht (q := (RJ12, TJ12, 3)) rfl (c_J12_set (by decide) a1 x40 x42 h43) rfl rfl q839 q840 q841 rfl (by decide) (zkV (fun h44 => ?_)) zxo
            exact s_sub (pc := 67) [1, 2] rfl (w_X2_taken_67 (f_X2_taken_23 n) ih a1 a2 h44)
        refine zS_ite (fun ht => ?_) (fun _ => zS_none)
        refine s_callF (pc := 33) (np := 0) (as := []) (rest := []) dX2_taken_33 ht (q := (RJ22, TJ22, 5)) rfl (c_J22_next (by decide) a2 h10) ⟨_, _, _, q832⟩ rfl rfl q670 (by decide +kernel) q830 q828 rfl (by decide) (zkR (fun r11 h12 => ?_)) zxo
        refine s_cast (pc := 38) dX2_taken_38 q836 zcs_FloatingDock_Ship ?_
        refine s_ast_n (pc := 41) (L2 := [(1, va_rf a1), (2, va_rf a2)]) [0, 1] dX2_taken_41 rfl (by decide) rfl rfl (zcB (j := 1) rfl (zcat_rf a2) rfl) ?_
        refine s_aload_n (pc := 42) 0 dX2_taken_42 rfl rfl ?_
        refine zS_ite (fun ht => ?_) (fun _ => zS_none)
        refine s_callV (pc := 43) (np := 0) (as := []) (rest := []) dX2_taken_43 ht (q := (RX6, TX6, 9)) rfl (c_X6_isInDock (by decide) r11 h12) rfl rfl q837 q367 q368 rfl (by decide) (zkI (fun x45 h46 => ?_)) zxo
        refine s_if_eq (pc := 46) (tgt := 67) dX2_taken_46 (by decide) (fun _ => ?_) (fun _ => ?_)
        · exact s_sub (pc := 67) [1, 2] rfl (w_X2_taken_67 (f_X2_taken_23 n) ih a1 a2 h46)
        · refine s_aload_n (pc := 49) 1 dX2_taken_49 rfl rfl ?_
          refine s_aload_n (pc := 50) 0 dX2_taken_50 rfl rfl ?_
          refine s_gR (pc := 51) dX2_taken_51 gf_X2_144 (fun r47 => ?_)
          refine s_gI (pc := 54) dX2_taken_54 gf_X2_148 (fun x48 => ?_)
          refine s_aload_n (pc := 57) 0 dX2_taken_57 rfl rfl ?_
          refine s_gR (pc := 58) dX2_taken_58 gf_X2_144 (fun r49 => ?_)
          refine zS_ite (fun ht => ?_) (fun _ => zS_none)
          refine s_callV (pc := 61) (np := 0) (as := []) (rest := [.int x48, va_rf a1]) dX2_taken_61 ht (q := (RX3, TX3, 2)) rfl (c_X3_end (by decide) r49 h46) rfl rfl q838 q639 q640 rfl (by simp [zcat_rf, zcat_i, zcat_l, zcat_f, zcat_d]) (zkI (fun x50 h51 => ?_)) zxo
          refine zS_ite (fun ht => ?_) (fun _ => zS_none)
          refine s_callV (pc := 64) (np := 2) (as := [.int x48, .int x50]) (rest := []) dX2_taken_64 ht (q := (RJ12, TJ12, 3)) rfl (c_J12_set (by decide) a1 x48 x50 h51) rfl rfl q839 q840 q841 rfl (by decide) (zkV (fun h52 => ?_)) zxo
          exact s_sub (pc := 67) [1, 2] rfl (w_X2_taken_67 (f_X2_taken_23 n) ih a1 a2 h52)
    refine zS_ite (fun ht => ?_) (fun _ => ?_)
    · refine s_callF (pc := 24) (np := 0) (as := []) (rest := []) dX2_taken_24 ht (q := (RJ15, TJ15, 4)) rfl (c_J15_hasNext (by decide) a2 h) ⟨_, _, _, q653⟩ rfl rfl q629 (by decide +kernel) q651 q649 rfl (by decide) (zkI (fun x9 h10 => ?_)) zxo
      refine s_if_eq (pc := 29) (tgt := 70) dX2_taken_29 (by decide) (fun _ => ?_) (fun _ => ?_)
      · refine s_aload_n (pc := 70) 0 dX2_taken_70 rfl rfl ?_
        exact s_aret (pc := 71) dX2_taken_71 rfl (Or.inl ⟨_, rfl⟩)
      · refine s_aload_n (pc := 32) 1 dX2_taken_32 rfl rfl ?_
        refine zS_ite (fun ht => ?_) (fun _ => ?_)
        · refine s_callF (pc := 33) (np := 0) (as := []) (rest := []) dX2_taken_33 ht (q := (RX9, TX9, 2)) rfl (c_X9_next (by decide) a2 h10) ⟨_, _, _, q677⟩ rfl rfl q670 (by decide +kernel) q675 q673 rfl (by decide) (zkR (fun r53 h54 => ?_)) zxo
          refine s_cast (pc := 38) dX2_taken_38 q836 zcs_FloatingDock_Ship ?_
          refine s_ast_n (pc := 41) (L2 := [(1, va_rf a1), (2, va_rf a2)]) [0, 1] dX2_taken_41 rfl (by decide) rfl rfl (zcB (j := 1) rfl (zcat_rf a2) rfl) ?_
          refine s_aload_n (pc := 42) 0 dX2_taken_42 rfl rfl ?_
          refine zS_ite (fun ht => ?_) (fun _ => zS_none)
          refine s_callV (pc := 43) (np := 0) (as := []) (rest := []) dX2_taken_43 ht (q := (RX6, TX6, 9)) rfl (c_X6_isInDock (by decide) r53 h54) rfl rfl q837 q367 q368 rfl (by decide) (zkI (fun x55 h56 => ?_)) zxo
          refine s_if_eq (pc := 46) (tgt := 67) dX2_taken_46 (by decide) (fun _ => ?_) (fun _ => ?_)
          · exact s_sub (pc := 67) [1, 2] rfl (w_X2_taken_67 (f_X2_taken_23 n) ih a1 a2 h56)
          · refine s_aload_n (pc := 49) 1 dX2_taken_49 rfl rfl ?_
            refine s_aload_n (pc := 50) 0 dX2_taken_50 rfl rfl ?_
            refine s_gR (pc := 51) dX2_taken_51 gf_X2_144 (fun r57 => ?_)
            refine s_gI (pc := 54) dX2_taken_54 gf_X2_148 (fun x58 => ?_)
            refine s_aload_n (pc := 57) 0 dX2_taken_57 rfl rfl ?_
            refine s_gR (pc := 58) dX2_taken_58 gf_X2_144 (fun r59 => ?_)
            refine zS_ite (fun ht => ?_) (fun _ => zS_none)
            refine s_callV (pc := 61) (np := 0) (as := []) (rest := [.int x58, va_rf a1]) dX2_taken_61 ht (q := (RX3, TX3, 2)) rfl (c_X3_end (by decide) r59 h56) rfl rfl q838 q639 q640 rfl (by simp [zcat_rf, zcat_i, zcat_l, zcat_f, zcat_d]) (zkI (fun x60 h61 => ?_)) zxo
            refine zS_ite (fun ht => ?_) (fun _ => zS_none)
            refine s_callV (pc := 64) (np := 2) (as := [.int x58, .int x60]) (rest := []) dX2_taken_64 ht (q := (RJ12, TJ12, 3)) rfl (c_J12_set (by decide) a1 x58 x60 h61) rfl rfl q839 q840 q841 rfl (by decide) (zkV (fun h62 => ?_)) zxo
            exact s_sub (pc := 67) [1, 2] rfl (w_X2_taken_67 (f_X2_taken_23 n) ih a1 a2 h62)
        refine zS_ite (fun ht => ?_) (fun _ => ?_)
        · refine s_callF (pc := 33) (np := 0) (as := []) (rest := []) dX2_taken_33 ht (q := (RJ15, TJ15, 4)) rfl (c_J15_next (by decide) a2 h10) ⟨_, _, _, q788⟩ rfl rfl q670 (by decide +kernel) q786 q784 rfl (by decide) (zkR (fun r53 h54 => ?_)) zxo
          refine s_cast (pc := 38) dX2_taken_38 q836 zcs_FloatingDock_Ship ?_
          refine s_ast_n (pc := 41) (L2 := [(1, va_rf a1), (2, va_rf a2)]) [0, 1] dX2_taken_41 rfl (by decide) rfl rfl (zcB (j := 1) rfl (zcat_rf a2) rfl) ?_
          refine s_aload_n (pc := 42) 0 dX2_taken_42 rfl rfl ?_
          refine zS_ite (fun ht => ?_) (fun _ => zS_none)
          refine s_callV (pc := 43) (np := 0) (as := []) (rest := []) dX2_taken_43 ht (q := (RX6, TX6, 9)) rfl (c_X6_isInDock (by decide) r53 h54) rfl rfl q837 q367 q368 rfl (by decide) (zkI (fun x63 h64 => ?_)) zxo
          refine s_if_eq (pc := 46) (tgt := 67) dX2_taken_46 (by decide) (fun _ => ?_) (fun _ => ?_)
          · exact s_sub (pc := 67) [1, 2] rfl (w_X2_taken_67 (f_X2_taken_23 n) ih a1 a2 h64)
          · refine s_aload_n (pc := 49) 1 dX2_taken_49 rfl rfl ?_
            refine s_aload_n (pc := 50) 0 dX2_taken_50 rfl rfl ?_
            refine s_gR (pc := 51) dX2_taken_51 gf_X2_144 (fun r65 => ?_)
            refine s_gI (pc := 54) dX2_taken_54 gf_X2_148 (fun x66 => ?_)
            refine s_aload_n (pc := 57) 0 dX2_taken_57 rfl rfl ?_
            refine s_gR (pc := 58) dX2_taken_58 gf_X2_144 (fun r67 => ?_)
            refine zS_ite (fun ht => ?_) (fun _ => zS_none)
            refine s_callV (pc := 61) (np := 0) (as := []) (rest := [.int x66, va_rf a1]) dX2_taken_61 ht (q := (RX3, TX3, 2)) rfl (c_X3_end (by decide) r67 h64) rfl rfl q838 q639 q640 rfl (by simp [zcat_rf, zcat_i, zcat_l, zcat_f, zcat_d]) (zkI (fun x68 h69 => ?_)) zxo
            refine zS_ite (fun ht => ?_) (fun _ => zS_none)
            refine s_callV (pc := 64) (np := 2) (as := [.int x66, .int x68]) (rest := []) dX2_taken_64 ht (q := (RJ12, TJ12, 3)) rfl (c_J12_set (by decide) a1 x66 x68 h69) rfl rfl q839 q840 q841 rfl (by decide) (zkV (fun h70 => ?_)) zxo
            exact s_sub (pc := 67) [1, 2] rfl (w_X2_taken_67 (f_X2_taken_23 n) ih a1 a2 h70)
        refine zS_ite (fun ht => ?_) (fun _ => ?_)
        · refine s_callF (pc := 33) (np := 0) (as := []) (rest := []) dX2_taken_33 ht (q := (RJ17, TJ17, 5)) rfl (c_J17_next (by decide) a2 h10) ⟨_, _, _, q799⟩ rfl rfl q670 (by decide +kernel) q797 q795 rfl (by decide) (zkR (fun r53 h54 => ?_)) zxo
          refine s_cast (pc := 38) dX2_taken_38 q836 zcs_FloatingDock_Ship ?_
          refine s_ast_n (pc := 41) (L2 := [(1, va_rf a1), (2, va_rf a2)]) [0, 1] dX2_taken_41 rfl (by decide) rfl rfl (zcB (j := 1) rfl (zcat_rf a2) rfl) ?_
          refine s_aload_n (pc := 42) 0 dX2_taken_42 rfl rfl ?_
          refine zS_ite (fun ht => ?_) (fun _ => zS_none)
          refine s_callV (pc := 43) (np := 0) (as := []) (rest := []) dX2_taken_43 ht (q := (RX6, TX6, 9)) rfl (c_X6_isInDock (by decide) r53 h54) rfl rfl q837 q367 q368 rfl (by decide) (zkI (fun x71 h72 => ?_)) zxo
          refine s_if_eq (pc := 46) (tgt := 67) dX2_taken_46 (by decide) (fun _ => ?_) (fun _ => ?_)
          · exact s_sub (pc := 67) [1, 2] rfl (w_X2_taken_67 (f_X2_taken_23 n) ih a1 a2 h72)
          · refine s_aload_n (pc := 49) 1 dX2_taken_49 rfl rfl ?_
            refine s_aload_n (pc := 50) 0 dX2_taken_50 rfl rfl ?_
            refine s_gR (pc := 51) dX2_taken_51 gf_X2_144 (fun r73 => ?_)
            refine s_gI (pc := 54) dX2_taken_54 gf_X2_148 (fun x74 => ?_)
            refine s_aload_n (pc := 57) 0 dX2_taken_57 rfl rfl ?_
            refine s_gR (pc := 58) dX2_taken_58 gf_X2_144 (fun r75 => ?_)
            refine zS_ite (fun ht => ?_) (fun _ => zS_none)
            refine s_callV (pc := 61) (np := 0) (as := []) (rest := [.int x74, va_rf a1]) dX2_taken_61 ht (q := (RX3, TX3, 2)) rfl (c_X3_end (by decide) r75 h72) rfl rfl q838 q639 q640 rfl (by simp [zcat_rf, zcat_i, zcat_l, zcat_f, zcat_d]) (zkI (fun x76 h77 => ?_)) zxo
            refine zS_ite (fun ht => ?_) (fun _ => zS_none)
            refine s_callV (pc := 64) (np := 2) (as := [.int x74, .int x76]) (rest := []) dX2_taken_64 ht (q := (RJ12, TJ12, 3)) rfl (c_J12_set (by decide) a1 x74 x76 h77) rfl rfl q839 q840 q841 rfl (by decide) (zkV (fun h78 => ?_)) zxo
            exact s_sub (pc := 67) [1, 2] rfl (w_X2_taken_67 (f_X2_taken_23 n) ih a1 a2 h78)
        refine zS_ite (fun ht => ?_) (fun _ => ?_)
        · refine s_callF (pc := 33) (np := 0) (as := []) (rest := []) dX2_taken_33 ht (q := (RJ21, TJ21, 5)) rfl (c_J21_next (by decide) a2 h10) ⟨_, _, _, q812⟩ rfl rfl q670 (by decide +kernel) q810 q808 rfl (by decide) (zkR (fun r53 h54 => ?_)) zxo
          refine s_cast (pc := 38) dX2_taken_38 q836 zcs_FloatingDock_Ship ?_
          refine s_ast_n (pc := 41) (L2 := [(1, va_rf a1), (2, va_rf a2)]) [0, 1] dX2_taken_41 rfl (by decide) rfl rfl (zcB (j := 1) rfl (zcat_rf a2) rfl) ?_
          refine s_aload_n (pc := 42) 0 dX2_taken_42 rfl rfl ?_
          refine zS_ite (fun ht => ?_) (fun _ => zS_none)
          refine s_callV (pc := 43) (np := 0) (as := []) (rest := []) dX2_taken_43 ht (q := (RX6, TX6, 9)) rfl (c_X6_isInDock (by decide) r53 h54) rfl rfl q837 q367 q368 rfl (by decide) (zkI (fun x79 h80 => ?_)) zxo
          refine s_if_eq (pc := 46) (tgt := 67) dX2_taken_46 (by decide) (fun _ => ?_) (fun _ => ?_)
          · exact s_sub (pc := 67) [1, 2] rfl (w_X2_taken_67 (f_X2_taken_23 n) ih a1 a2 h80)
          · refine s_aload_n (pc := 49) 1 dX2_taken_49 rfl rfl ?_
            refine s_aload_n (pc := 50) 0 dX2_taken_50 rfl rfl ?_
            refine s_gR (pc := 51) dX2_taken_51 gf_X2_144 (fun r81 => ?_)
            refine s_gI (pc := 54) dX2_taken_54 gf_X2_148 (fun x82 => ?_)
            refine s_aload_n (pc := 57) 0 dX2_taken_57 rfl rfl ?_
            refine s_gR (pc := 58) dX2_taken_58 gf_X2_144 (fun r83 => ?_)
            refine zS_ite (fun ht => ?_) (fun _ => zS_none)
            refine s_callV (pc := 61) (np := 0) (as := []) (rest := [.int x82, va_rf a1]) dX2_taken_61 ht (q := (RX3, TX3, 2)) rfl (c_X3_end (by decide) r83 h80) rfl rfl q838 q639 q640 rfl (by simp [zcat_rf, zcat_i, zcat_l, zcat_f, zcat_d]) (zkI (fun x84 h85 => ?_)) zxo
            refine zS_ite (fun ht => ?_) (fun _ => zS_none)
            refine s_callV (pc := 64) (np := 2) (as := [.int x82, .int x84]) (rest := []) dX2_taken_64 ht (q := (RJ12, TJ12, 3)) rfl (c_J12_set (by decide) a1 x82 x84 h85) rfl rfl q839 q840 q841 rfl (by decide) (zkV (fun h86 => ?_)) zxo
            exact s_sub (pc := 67) [1, 2] rfl (w_X2_taken_67 (f_X2_taken_23 n) ih a1 a2 h86)
        refine zS_ite (fun ht => ?_) (fun _ => zS_none)
        refine s_callF (pc := 33) (np := 0) (as := []) (rest := []) dX2_taken_33 ht (q := (RJ22, TJ22, 5)) rfl (c_J22_next (by decide) a2 h10) ⟨_, _, _, q832⟩ rfl rfl q670 (by decide +kernel) q830 q828 rfl (by decide) (zkR (fun r53 h54 => ?_)) zxo
        refine s_cast (pc := 38) dX2_taken_38 q836 zcs_FloatingDock_Ship ?_
        refine s_ast_n (pc := 41) (L2 := [(1, va_rf a1), (2, va_rf a2)]) [0, 1] dX2_taken_41 rfl (by decide) rfl rfl (zcB (j := 1) rfl (zcat_rf a2) rfl) ?_
        refine s_aload_n (pc := 42) 0 dX2_taken_42 rfl rfl ?_
        refine zS_ite (fun ht => ?_) (fun _ => zS_none)
        refine s_callV (pc := 43) (np := 0) (as := []) (rest := []) dX2_taken_43 ht (q := (RX6, TX6, 9)) rfl (c_X6_isInDock (by decide) r53 h54) rfl rfl q837 q367 q368 rfl (by decide) (zkI (fun x87 h88 => ?_)) zxo
        refine s_if_eq (pc := 46) (tgt := 67) dX2_taken_46 (by decide) (fun _ => ?_) (fun _ => ?_)
        · exact s_sub (pc := 67) [1, 2] rfl (w_X2_taken_67 (f_X2_taken_23 n) ih a1 a2 h88)
        · refine s_aload_n (pc := 49) 1 dX2_taken_49 rfl rfl ?_
          refine s_aload_n (pc := 50) 0 dX2_taken_50 rfl rfl ?_
          refine s_gR (pc := 51) dX2_taken_51 gf_X2_144 (fun r89 => ?_)
          refine s_gI (pc := 54) dX2_taken_54 gf_X2_148 (fun x90 => ?_)
          refine s_aload_n (pc := 57) 0 dX2_taken_57 rfl rfl ?_
          refine s_gR (pc := 58) dX2_taken_58 gf_X2_144 (fun r91 => ?_)
          refine zS_ite (fun ht => ?_) (fun _ => zS_none)
          refine s_callV (pc := 61) (np := 0) (as := []) (rest := [.int x90, va_rf a1]) dX2_taken_61 ht (q := (RX3, TX3, 2)) rfl (c_X3_end (by decide) r91 h88) rfl rfl q838 q639 q640 rfl (by simp [zcat_rf, zcat_i, zcat_l, zcat_f, zcat_d]) (zkI (fun x92 h93 => ?_)) zxo
          refine zS_ite (fun ht => ?_) (fun _ => zS_none)
          refine s_callV (pc := 64) (np := 2) (as := [.int x90, .int x92]) (rest := []) dX2_taken_64 ht (q := (RJ12, TJ12, 3)) rfl (c_J12_set (by decide) a1 x90 x92 h93) rfl rfl q839 q840 q841 rfl (by decide) (zkV (fun h94 => ?_)) zxo
          exact s_sub (pc := 67) [1, 2] rfl (w_X2_taken_67 (f_X2_taken_23 n) ih a1 a2 h94)
    refine zS_ite (fun ht => ?_) (fun _ => ?_)
    · refine s_callF (pc := 24) (np := 0) (as := []) (rest := []) dX2_taken_24 ht (q := (RJ17, TJ17, 5)) rfl (c_J16_hasNext (by decide) a2 h) ⟨_, _, _, q659⟩ rfl rfl q629 (by decide +kernel) q657 q655 rfl (by decide) (zkI (fun x9 h10 => ?_)) zxo
      refine s_if_eq (pc := 29) (tgt := 70) dX2_taken_29 (by decide) (fun _ => ?_) (fun _ => ?_)
      · refine s_aload_n (pc := 70) 0 dX2_taken_70 rfl rfl ?_
        exact s_aret (pc := 71) dX2_taken_71 rfl (Or.inl ⟨_, rfl⟩)
      · refine s_aload_n (pc := 32) 1 dX2_taken_32 rfl rfl ?_
        refine zS_ite (fun ht => ?_) (fun _ => ?_)
        · refine s_callF (pc := 33) (np := 0) (as := []) (rest := []) dX2_taken_33 ht (q := (RX9, TX9, 2)) rfl (c_X9_next (by decide) a2 h10) ⟨_, _, _, q677⟩ rfl rfl q670 (by decide +kernel) q675 q673 rfl (by decide) (zkR (fun r95 h96 => ?_)) zxo
          refine s_cast (pc := 38) dX2_taken_38 q836 zcs_FloatingDock_Ship ?_
          refine s_ast_n (pc := 41) (L2 := [(1, va_rf a1), (2, va_rf a2)]) [0, 1] dX2_taken_41 rfl (by decide) rfl rfl (zcB (j := 1) rfl (zcat_rf a2) rfl) ?_
          refine s_aload_n (pc := 42) 0 dX2_taken_42 rfl rfl ?_
          refine zS_ite (fun ht => ?_) (fun _ => zS_none)
          refine s_callV (pc := 43) (np := 0) (as := []) (rest := []) dX2_taken_43 ht (q := (RX6, TX6, 9)) rfl (c_X6_isInDock (by decide) r95 h96) rfl rfl q837 q367 q368 rfl (by decide) (zkI (fun x97 h98 => ?_)) zxo
          refine s_if_eq (pc := 46) (tgt := 67) dX2_taken_46 (by decide) (fun _ => ?_) (fun _ => ?_)
          · exact s_sub (pc := 67) [1, 2] rfl (w_X2_taken_67 (f_X2_taken_23 n) ih a1 a2 h98)
          · refine s_aload_n (pc := 49) 1 dX2_taken_49 rfl rfl ?_
            refine s_aload_n (pc := 50) 0 dX2_taken_50 rfl rfl ?_
            refine s_gR (pc := 51) dX2_taken_51 gf_X2_144 (fun r99 => ?_)
            refine s_gI (pc := 54) dX2_taken_54 gf_X2_148 (fun x100 => ?_)
            refine s_aload_n (pc := 57) 0 dX2_taken_57 rfl rfl ?_
            refine s_gR (pc := 58) dX2_taken_58 gf_X2_144 (fun r101 => ?_)
            refine zS_ite (fun ht => ?_) (fun _ => zS_none)
            refine s_callV (pc := 61) (np := 0) (as := []) (rest := [.int x100, va_rf a1]) dX2_taken_61 ht (q := (RX3, TX3, 2)) rfl (c_X3_end (by decide) r101 h98) rfl rfl q838 q639 q640 rfl (by simp [zcat_rf, zcat_i, zcat_l, zcat_f, zcat_d]) (zkI (fun x102 h103 => ?_)) zxo
            refine zS_ite (fun ht => ?_) (fun _ => zS_none)
            refine s_callV (pc := 64) (np := 2) (as := [.int x100, .int x102]) (rest := []) dX2_taken_64 ht (q := (RJ12, TJ12, 3)) rfl (c_J12_set (by decide) a1 x100 x102 h103) rfl rfl q839 q840 q841 rfl (by decide) (zkV (fun h104 => ?_)) zxo
            exact s_sub (pc := 67) [1, 2] rfl (w_X2_taken_67 (f_X2_taken_23 n) ih a1 a2 h104)
        refine zS_ite (fun ht => ?_) (fun _ => ?_)
        · refine s_callF (pc := 33) (np := 0) (as := []) (rest := []) dX2_taken_33 ht (q := (RJ15, TJ15, 4)) rfl (c_J15_next (by decide) a2 h10) ⟨_, _, _, q788⟩ rfl rfl q670 (by decide +kernel) q786 q784 rfl (by decide) (zkR (fun r95 h96 => ?_)) zxo
          refine s_cast (pc := 38) dX2_taken_38 q836 zcs_FloatingDock_Ship ?_
          refine s_ast_n (pc := 41) (L2 := [(1, va_rf a1), (2, va_rf a2)]) [0, 1] dX2_taken_41 rfl (by decide) rfl rfl (zcB (j := 1) rfl (zcat_rf a2) rfl) ?_
          refine s_aload_n (pc := 42) 0 dX2_taken_42 rfl rfl ?_
          refine zS_ite (fun ht => ?_) (fun _ => zS_none)
          refine s_callV (pc := 43) (np := 0) (as := []) (rest := []) dX2_taken_43 ht (q := (RX6, TX6, 9)) rfl (c_X6_isInDock (by decide) r95 h96) rfl rfl q837 q367 q368 rfl (by decide) (zkI (fun x105 h106 => ?_)) zxo
          refine s_if_eq (pc := 46) (tgt := 67) dX2_taken_46 (by decide) (fun _ => ?_) (fun _ => ?_)
          · exact s_sub (pc := 67) [1, 2] rfl (w_X2_taken_67 (f_X2_taken_23 n) ih a1 a2 h106)
          · refine s_aload_n (pc := 49) 1 dX2_taken_49 rfl rfl ?_
            refine s_aload_n (pc := 50) 0 dX2_taken_50 rfl rfl ?_
            refine s_gR (pc := 51) dX2_taken_51 gf_X2_144 (fun r107 => ?_)
            refine s_gI (pc := 54) dX2_taken_54 gf_X2_148 (fun x108 => ?_)
            refine s_aload_n (pc := 57) 0 dX2_taken_57 rfl rfl ?_
            refine s_gR (pc := 58) dX2_taken_58 gf_X2_144 (fun r109 => ?_)
            refine zS_ite (fun ht => ?_) (fun _ => zS_none)
            refine s_callV (pc := 61) (np := 0) (as := []) (rest := [.int x108, va_rf a1]) dX2_taken_61 ht (q := (RX3, TX3, 2)) rfl (c_X3_end (by decide) r109 h106) rfl rfl q838 q639 q640 rfl (by simp [zcat_rf, zcat_i, zcat_l, zcat_f, zcat_d]) (zkI (fun x110 h111 => ?_)) zxo
            refine zS_ite (fun ht => ?_) (fun _ => zS_none)
            refine s_callV (pc := 64) (np := 2) (as := [.int x108, .int x110]) (rest := []) dX2_taken_64 ht (q := (RJ12, TJ12, 3)) rfl (c_J12_set (by decide) a1 x108 x110 h111) rfl rfl q839 q840 q841 rfl (by decide) (zkV (fun h112 => ?_)) zxo
            exact s_sub (pc := 67) [1, 2] rfl (w_X2_taken_67 (f_X2_taken_23 n) ih a1 a2 h112)
        refine zS_ite (fun ht => ?_) (fun _ => ?_)
        · refine s_callF (pc := 33) (np := 0) (as := []) (rest := []) dX2_taken_33 ht (q := (RJ17, TJ17, 5)) rfl (c_J17_next (by decide) a2 h10) ⟨_, _, _, q799⟩ rfl rfl q670 (by decide +kernel) q797 q795 rfl (by decide) (zkR (fun r95 h96 => ?_)) zxo
          refine s_cast (pc := 38) dX2_taken_38 q836 zcs_FloatingDock_Ship ?_
          refine s_ast_n (pc := 41) (L2 := [(1, va_rf a1), (2, va_rf a2)]) [0, 1] dX2_taken_41 rfl (by decide) rfl rfl (zcB (j := 1) rfl (zcat_rf a2) rfl) ?_
          refine s_aload_n (pc := 42) 0 dX2_taken_42 rfl rfl ?_
          refine zS_ite (fun ht => ?_) (fun _ => zS_none)
          refine s_callV (pc := 43) (np := 0) (as := []) (rest := []) dX2_taken_43 ht (q := (RX6, TX6, 9)) rfl (c_X6_isInDock (by decide) r95 h96) rfl rfl q837 q367 q368 rfl (by decide) (zkI (fun x113 h114 => ?_)) zxo
          refine s_if_eq (pc := 46) (tgt := 67) dX2_taken_46 (by decide) (fun _ => ?_) (fun _ => ?_)
          · exact s_sub (pc := 67) [1, 2] rfl (w_X2_taken_67 (f_X2_taken_23 n) ih a1 a2 h114)
          · refine s_aload_n (pc := 49) 1 dX2_taken_49 rfl rfl ?_
            refine s_aload_n (pc := 50) 0 dX2_taken_50 rfl rfl ?_
            refine s_gR (pc := 51) dX2_taken_51 gf_X2_144 (fun r115 => ?_)
            refine s_gI (pc := 54) dX2_taken_54 gf_X2_148 (fun x116 => ?_)
            refine s_aload_n (pc := 57) 0 dX2_taken_57 rfl rfl ?_
            refine s_gR (pc := 58) dX2_taken_58 gf_X2_144 (fun r117 => ?_)
            refine zS_ite (fun ht => ?_) (fun _ => zS_none)
            refine s_callV (pc := 61) (np := 0) (as := []) (rest := [.int x116, va_rf a1]) dX2_taken_61 ht (q := (RX3, TX3, 2)) rfl (c_X3_end (by decide) r117 h114) rfl rfl q838 q639 q640 rfl (by simp [zcat_rf, zcat_i, zcat_l, zcat_f, zcat_d]) (zkI (fun x118 h119 => ?_)) zxo
            refine zS_ite (fun ht => ?_) (fun _ => zS_none)
            refine s_callV (pc := 64) (np := 2) (as := [.int x116, .int x118]) (rest := []) dX2_taken_64 ht (q := (RJ12, TJ12, 3)) rfl (c_J12_set (by decide) a1 x116 x118 h119) rfl rfl q839 q840 q841 rfl (by decide) (zkV (fun h120 => ?_)) zxo
            exact s_sub (pc := 67) [1, 2] rfl (w_X2_taken_67 (f_X2_taken_23 n) ih a1 a2 h120)
        refine zS_ite (fun ht => ?_) (fun _ => ?_)
        · refine s_callF (pc := 33) (np := 0) (as := []) (rest := []) dX2_taken_33 ht (q := (RJ21, TJ21, 5)) rfl (c_J21_next (by decide) a2 h10) ⟨_, _, _, q812⟩ rfl rfl q670 (by decide +kernel) q810 q808 rfl (by decide) (zkR (fun r95 h96 => ?_)) zxo
          refine s_cast (pc := 38) dX2_taken_38 q836 zcs_FloatingDock_Ship ?_
          refine s_ast_n (pc := 41) (L2 := [(1, va_rf a1), (2, va_rf a2)]) [0, 1] dX2_taken_41 rfl (by decide) rfl rfl (zcB (j := 1) rfl (zcat_rf a2) rfl) ?_
          refine s_aload_n (pc := 42) 0 dX2_taken_42 rfl rfl ?_
          refine zS_ite (fun ht => ?_) (fun _ => zS_none)
          refine s_callV (pc := 43) (np := 0) (as := []) (rest := []) dX2_taken_43 ht (q := (RX6, TX6, 9)) rfl (c_X6_isInDock (by decide) r95 h96) rfl rfl q837 q367 q368 rfl (by decide) (zkI (fun x121 h122 => ?_)) zxo
          refine s_if_eq (pc := 46) (tgt := 67) dX2_taken_46 (by decide) (fun _ => ?_) (fun _ => ?_)
          · exact s_sub (pc := 67) [1, 2] rfl (w_X2_taken_67 (f_X2_taken_23 n) ih a1 a2 h122)
          · refine s_aload_n (pc := 49) 1 dX2_taken_49 rfl rfl ?_
            refine s_aload_n (pc := 50) 0 dX2_taken_50 rfl rfl ?_
            refine s_gR (pc := 51) dX2_taken_51 gf_X2_144 (fun r123 => ?_)
            refine s_gI (pc := 54) dX2_taken_54 gf_X2_148 (fun x124 => ?_)
            refine s_aload_n (pc := 57) 0 dX2_taken_57 rfl rfl ?_
            refine s_gR (pc := 58) dX2_taken_58 gf_X2_144 (fun r125 => ?_)
            refine zS_ite (fun ht => ?_) (fun _ => zS_none)
            refine s_callV (pc := 61) (np := 0) (as := []) (rest := [.int x124, va_rf a1]) dX2_taken_61 ht (q := (RX3, TX3, 2)) rfl (c_X3_end (by decide) r125 h122) rfl rfl q838 q639 q640 rfl (by simp [zcat_rf, zcat_i, zcat_l, zcat_f, zcat_d]) (zkI (fun x126 h127 => ?_)) zxo
            refine zS_ite (fun ht => ?_) (fun _ => zS_none)
            refine s_callV (pc := 64) (np := 2) (as := [.int x124, .int x126]) (rest := []) dX2_taken_64 ht (q := (RJ12, TJ12, 3)) rfl (c_J12_set (by decide) a1 x124 x126 h127) rfl rfl q839 q840 q841 rfl (by decide) (zkV (fun h128 => ?_)) zxo
            exact s_sub (pc := 67) [1, 2] rfl (w_X2_taken_67 (f_X2_taken_23 n) ih a1 a2 h128)
        refine zS_ite (fun ht => ?_) (fun _ => zS_none)
        refine s_callF (pc := 33) (np := 0) (as := []) (rest := []) dX2_taken_33 ht (q := (RJ22, TJ22, 5)) rfl (c_J22_next (by decide) a2 h10) ⟨_, _, _, q832⟩ rfl rfl q670 (by decide +kernel) q830 q828 rfl (by decide) (zkR (fun r95 h96 => ?_)) zxo
        refine s_cast (pc := 38) dX2_taken_38 q836 zcs_FloatingDock_Ship ?_
        refine s_ast_n (pc := 41) (L2 := [(1, va_rf a1), (2, va_rf a2)]) [0, 1] dX2_taken_41 rfl (by decide) rfl rfl (zcB (j := 1) rfl (zcat_rf a2) rfl) ?_
        refine s_aload_n (pc := 42) 0 dX2_taken_42 rfl rfl ?_
        refine zS_ite (fun ht => ?_) (fun _ => zS_none)
        refine s_callV (pc := 43) (np := 0) (as := []) (rest := []) dX2_taken_43 ht (q := (RX6, TX6, 9)) rfl (c_X6_isInDock (by decide) r95 h96) rfl rfl q837 q367 q368 rfl (by decide) (zkI (fun x129 h130 => ?_)) zxo
        refine s_if_eq (pc := 46) (tgt := 67) dX2_taken_46 (by decide) (fun _ => ?_) (fun _ => ?_)
        · exact s_sub (pc := 67) [1, 2] rfl (w_X2_taken_67 (f_X2_taken_23 n) ih a1 a2 h130)
        · refine s_aload_n (pc := 49) 1 dX2_taken_49 rfl rfl ?_
          refine s_aload_n (pc := 50) 0 dX2_taken_50 rfl rfl ?_
          refine s_gR (pc := 51) dX2_taken_51 gf_X2_144 (fun r131 => ?_)
          refine s_gI (pc := 54) dX2_taken_54 gf_X2_148 (fun x132 => ?_)
          refine s_aload_n (pc := 57) 0 dX2_taken_57 rfl rfl ?_
          refine s_gR (pc := 58) dX2_taken_58 gf_X2_144 (fun r133 => ?_)
          refine zS_ite (fun ht => ?_) (fun _ => zS_none)
          refine s_callV (pc := 61) (np := 0) (as := []) (rest := [.int x132, va_rf a1]) dX2_taken_61 ht (q := (RX3, TX3, 2)) rfl (c_X3_end (by decide) r133 h130) rfl rfl q838 q639 q640 rfl (by simp [zcat_rf, zcat_i, zcat_l, zcat_f, zcat_d]) (zkI (fun x134 h135 => ?_)) zxo
          refine zS_ite (fun ht => ?_) (fun _ => zS_none)
          refine s_callV (pc := 64) (np := 2) (as := [.int x132, .int x134]) (rest := []) dX2_taken_64 ht (q := (RJ12, TJ12, 3)) rfl (c_J12_set (by decide) a1 x132 x134 h135) rfl rfl q839 q840 q841 rfl (by decide) (zkV (fun h136 => ?_)) zxo
          exact s_sub (pc := 67) [1, 2] rfl (w_X2_taken_67 (f_X2_taken_23 n) ih a1 a2 h136)
    refine zS_ite (fun ht => ?_) (fun _ => ?_)
    · refine s_callF (pc := 24) (np := 0) (as := []) (rest := []) dX2_taken_24 ht (q := (RJ21, TJ21, 5)) rfl (c_J20_hasNext (by decide) a2 h) ⟨_, _, _, q665⟩ rfl rfl q629 (by decide +kernel) q663 q661 rfl (by decide) (zkI (fun x9 h10 => ?_)) zxo
      refine s_if_eq (pc := 29) (tgt := 70) dX2_taken_29 (by decide) (fun _ => ?_) (fun _ => ?_)
      · refine s_aload_n (pc := 70) 0 dX2_taken_70 rfl rfl ?_
        exact s_aret (pc := 71) dX2_taken_71 rfl (Or.inl ⟨_, rfl⟩)
      · refine s_aload_n (pc := 32) 1 dX2_taken_32 rfl rfl ?_
        refine zS_ite (fun ht => ?_) (fun _ => ?_)
        · refine s_callF (pc := 33) (np := 0) (as := []) (rest := []) dX2_taken_33 ht (q := (RX9, TX9, 2)) rfl (c_X9_next (by decide) a2 h10) ⟨_, _, _, q677⟩ rfl rfl q670 (by decide +kernel) q675 q673 rfl (by decide) (zkR (fun r137 h138 => ?_)) zxo
          refine s_cast (pc := 38) dX2_taken_38 q836 zcs_FloatingDock_Ship ?_
          refine s_ast_n (pc := 41) (L2 := [(1, va_rf a1), (2, va_rf a2)]) [0, 1] dX2_taken_41 rfl (by decide) rfl rfl (zcB (j := 1) rfl (zcat_rf a2) rfl) ?_
          refine s_aload_n (pc := 42) 0 dX2_taken_42 rfl rfl ?_
          refine zS_ite (fun ht => ?_) (fun _ => zS_none)
          refine s_callV (pc := 43) (np := 0) (as := []) (rest := []) dX2_taken_43 ht (q := (RX6, TX6, 9)) rfl (c_X6_isInDock (by decide) r137 h138) rfl rfl q837 q367 q368 rfl (by decide) (zkI (fun x139 h140 => ?_)) zxo
          refine s_if_eq (pc := 46) (tgt := 67) dX2_taken_46 (by decide) (fun _ => ?_) (fun _ => ?_)
          · exact s_sub (pc := 67) [1, 2] rfl (w_X2_taken_67 (f_X2_taken_23 n) ih a1 a2 h140)
          · refine s_aload_n (pc := 49) 1 dX2_taken_49 rfl rfl ?_
            refine s_aload_n (pc := 50) 0 dX2_taken_50 rfl rfl ?_
            refine s_gR (pc := 51) dX2_taken_51 gf_X2_144 (fun r141 => ?_)
            refine s_gI (pc := 54) dX2_taken_54 gf_X2_148 (fun x142 => ?_)
            refine s_aload_n (pc := 57) 0 dX2_taken_57 rfl rfl ?_
            refine s_gR (pc := 58) dX2_taken_58 gf_X2_144 (fun r143 => ?_)
            refine zS_ite (fun ht => ?_) (fun _ => zS_none)
            refine s_callV (pc := 61) (np := 0) (as := []) (rest := [.int x142, va_rf a1]) dX2_taken_61 ht (q := (RX3, TX3, 2)) rfl (c_X3_end (by decide) r143 h140) rfl rfl q838 q639 q640 rfl (by simp [zcat_rf, zcat_i, zcat_l, zcat_f, zcat_d]) (zkI (fun x144 h145 => ?_)) zxo
            refine zS_ite (fun ht => ?_) (fun _ => zS_none)
            refine s_callV (pc := 64) (np := 2) (as := [.int x142, .int x144]) (rest := []) dX2_taken_64 ht (q := (RJ12, TJ12, 3)) rfl (c_J12_set (by decide) a1 x142 x144 h145) rfl rfl q839 q840 q841 rfl (by decide) (zkV (fun h146 => ?_)) zxo
            exact s_sub (pc := 67) [1, 2] rfl (w_X2_taken_67 (f_X2_taken_23 n) ih a1 a2 h146)
        refine zS_ite (fun ht => ?_) (fun _ => ?_)
        · refine s_callF (pc := 33) (np := 0) (as := []) (rest := []) dX2_taken_33 ht (q := (RJ15, TJ15, 4)) rfl (c_J15_next (by decide) a2 h10) ⟨_, _, _, q788⟩ rfl rfl q670 (by decide +kernel) q786 q784 rfl (by decide) (zkR (fun r137 h138 => ?_)) zxo
          refine s_cast (pc := 38) dX2_taken_38 q836 zcs_FloatingDock_Ship ?_
          refine s_ast_n (pc := 41) (L2 := [(1, va_rf a1), (2, va_rf a2)]) [0, 1] dX2_taken_41 rfl (by decide) rfl rfl (zcB (j := 1) rfl (zcat_rf a2) rfl) ?_
          refine s_aload_n (pc := 42) 0 dX2_taken_42 rfl rfl ?_
          refine zS_ite (fun ht => ?_) (fun _ => zS_none)
          refine s_callV (pc := 43) (np := 0) (as := []) (rest := []) dX2_taken_43 ht (q := (RX6, TX6, 9)) rfl (c_X6_isInDock (by decide) r137 h138) rfl rfl q837 q367 q368 rfl (by decide) (zkI (fun x147 h148 => ?_)) zxo
          refine s_if_eq (pc := 46) (tgt := 67) dX2_taken_46 (by decide) (fun _ => ?_) (fun _ => ?_)
          · exact s_sub (pc := 67) [1, 2] rfl (w_X2_taken_67 (f_X2_taken_23 n) ih a1 a2 h148)
          · refine s_aload_n (pc := 49) 1 dX2_taken_49 rfl rfl ?_
            refine s_aload_n (pc := 50) 0 dX2_taken_50 rfl rfl ?_
            refine s_gR (pc := 51) dX2_taken_51 gf_X2_144 (fun r149 => ?_)
            refine s_gI (pc := 54) dX2_taken_54 gf_X2_148 (fun x150 => ?_)
            refine s_aload_n (pc := 57) 0 dX2_taken_57 rfl rfl ?_
            refine s_gR (pc := 58) dX2_taken_58 gf_X2_144 (fun r151 => ?_)
            refine zS_ite (fun ht => ?_) (fun _ => zS_none)
            refine s_callV (pc := 61) (np := 0) (as := []) (rest := [.int x150, va_rf a1]) dX2_taken_61 ht (q := (RX3, TX3, 2)) rfl (c_X3_end (by decide) r151 h148) rfl rfl q838 q639 q640 rfl (by simp [zcat_rf, zcat_i, zcat_l, zcat_f, zcat_d]) (zkI (fun x152 h153 => ?_)) zxo
            refine zS_ite (fun ht => ?_) (fun _ => zS_none)
            refine s_callV (pc := 64) (np := 2) (as := [.int x150, .int x152]) (rest := []) dX2_taken_64 ht (q := (RJ12, TJ12, 3)) rfl (c_J12_set (by decide) a1 x150 x152 h153) rfl rfl q839 q840 q841 rfl (by decide) (zkV (fun h154 => ?_)) zxo
            exact s_sub (pc := 67) [1, 2] rfl (w_X2_taken_67 (f_X2_taken_23 n) ih a1 a2 h154)
        refine zS_ite (fun ht => ?_) (fun _ => ?_)
        · refine s_callF (pc := 33) (np := 0) (as := []) (rest := []) dX2_taken_33 ht (q := (RJ17, TJ17, 5)) rfl (c_J17_next (by decide) a2 h10) ⟨_, _, _, q799⟩ rfl rfl q670 (by decide +kernel) q797 q795 rfl (by decide) (zkR (fun r137 h138 => ?_)) zxo
          refine s_cast (pc := 38) dX2_taken_38 q836 zcs_FloatingDock_Ship ?_
          refine s_ast_n (pc := 41) (L2 := [(1, va_rf a1), (2, va_rf a2)]) [0, 1] dX2_taken_41 rfl (by decide) rfl rfl (zcB (j := 1) rfl (zcat_rf a2) rfl) ?_
          refine s_aload_n (pc := 42) 0 dX2_taken_42 rfl rfl ?_
          refine zS_ite (fun ht => ?_) (fun _ => zS_none)
          refine s_callV (pc := 43) (np := 0) (as := []) (rest := []) dX2_taken_43 ht (q := (RX6, TX6, 9)) rfl (c_X6_isInDock (by decide) r137 h138) rfl rfl q837 q367 q368 rfl (by decide) (zkI (fun x155 h156 => ?_)) zxo
          refine s_if_eq (pc := 46) (tgt := 67) dX2_taken_46 (by decide) (fun _ => ?_) (fun _ => ?_)
          · exact s_sub (pc := 67) [1, 2] rfl (w_X2_taken_67 (f_X2_taken_23 n) ih a1 a2 h156)
          · refine s_aload_n (pc := 49) 1 dX2_taken_49 rfl rfl ?_
            refine s_aload_n (pc := 50) 0 dX2_taken_50 rfl rfl ?_
            refine s_gR (pc := 51) dX2_taken_51 gf_X2_144 (fun r157 => ?_)
            refine s_gI (pc := 54) dX2_taken_54 gf_X2_148 (fun x158 => ?_)
            refine s_aload_n (pc := 57) 0 dX2_taken_57 rfl rfl ?_
            refine s_gR (pc := 58) dX2_taken_58 gf_X2_144 (fun r159 => ?_)
            refine zS_ite (fun ht => ?_) (fun _ => zS_none)
            refine s_callV (pc := 61) (np := 0) (as := []) (rest := [.int x158, va_rf a1]) dX2_taken_61 ht (q := (RX3, TX3, 2)) rfl (c_X3_end (by decide) r159 h156) rfl rfl q838 q639 q640 rfl (by simp [zcat_rf, zcat_i, zcat_l, zcat_f, zcat_d]) (zkI (fun x160 h161 => ?_)) zxo
            refine zS_ite (fun ht => ?_) (fun _ => zS_none)
            refine s_callV (pc := 64) (np := 2) (as := [.int x158, .int x160]) (rest := []) dX2_taken_64 ht (q := (RJ12, TJ12, 3)) rfl (c_J12_set (by decide) a1 x158 x160 h161) rfl rfl q839 q840 q841 rfl (by decide) (zkV (fun h162 => ?_)) zxo
            exact s_sub (pc := 67) [1, 2] rfl (w_X2_taken_67 (f_X2_taken_23 n) ih a1 a2 h162)
        refine zS_ite (fun ht => ?_) (fun _ => ?_)
        · refine s_callF (pc := 33) (np := 0) (as := []) (rest := []) dX2_taken_33 ht (q := (RJ21, TJ21, 5)) rfl (c_J21_next (by decide) a2 h10) ⟨_, _, _, q812⟩ rfl rfl q670 (by decide +kernel) q810 q808 rfl (by decide) (zkR (fun r137 h138 => ?_)) zxo
          refine s_cast (pc := 38) dX2_taken_38 q836 zcs_FloatingDock_Ship ?_
          refine s_ast_n (pc := 41) (L2 := [(1, va_rf a1), (2, va_rf a2)]) [0, 1] dX2_taken_41 rfl (by decide) rfl rfl (zcB (j := 1) rfl (zcat_rf a2) rfl) ?_
          refine s_aload_n (pc := 42) 0 dX2_taken_42 rfl rfl ?_
          refine zS_ite (fun ht => ?_) (fun _ => zS_none)
          refine s_callV (pc := 43) (np := 0) (as := []) (rest := []) dX2_taken_43 ht (q := (RX6, TX6, 9)) rfl (c_X6_isInDock (by decide) r137 h138) rfl rfl q837 q367 q368 rfl (by decide) (zkI (fun x163 h164 => ?_)) zxo
          refine s_if_eq (pc := 46) (tgt := 67) dX2_taken_46 (by decide) (fun _ => ?_) (fun _ => ?_)
          · exact s_sub (pc := 67) [1, 2] rfl (w_X2_taken_67 (f_X2_taken_23 n) ih a1 a2 h164)
          · refine s_aload_n (pc := 49) 1 dX2_taken_49 rfl rfl ?_
            refine s_aload_n (pc := 50) 0 dX2_taken_50 rfl rfl ?_
            refine s_gR (pc := 51) dX2_taken_51 gf_X2_144 (fun r165 => ?_)
            refine s_gI (pc := 54) dX2_taken_54 gf_X2_148 (fun x166 => ?_)
            refine s_aload_n (pc := 57) 0 dX2_taken_57 rfl rfl ?_
            refine s_gR (pc := 58) dX2_taken_58 gf_X2_144 (fun r167 => ?_)
            refine zS_ite (fun ht => ?_) (fun _ => zS_none)
            refine s_callV (pc := 61) (np := 0) (as := []) (rest := [.int x166, va_rf a1]) dX2_taken_61 ht (q := (RX3, TX3, 2)) rfl (c_X3_end (by decide) r167 h164) rfl rfl q838 q639 q640 rfl (by simp [zcat_rf, zcat_i, zcat_l, zcat_f, zcat_d]) (zkI (fun x168 h169 => ?_)) zxo
            refine zS_ite (fun ht => ?_) (fun _ => zS_none)
            refine s_callV (pc := 64) (np := 2) (as := [.int x166, .int x168]) (rest := []) dX2_taken_64 ht (q := (RJ12, TJ12, 3)) rfl (c_J12_set (by decide) a1 x166 x168 h169) rfl rfl q839 q840 q841 rfl (by decide) (zkV (fun h170 => ?_)) zxo
            exact s_sub (pc := 67) [1, 2] rfl (w_X2_taken_67 (f_X2_taken_23 n) ih a1 a2 h170)
        refine zS_ite (fun ht => ?_) (fun _ => zS_none)
        refine s_callF (pc := 33) (np := 0) (as := []) (rest := []) dX2_taken_33 ht (q := (RJ22, TJ22, 5)) rfl (c_J22_next (by decide) a2 h10) ⟨_, _, _, q832⟩ rfl rfl q670 (by decide +kernel) q830 q828 rfl (by decide) (zkR (fun r137 h138 => ?_)) zxo
        refine s_cast (pc := 38) dX2_taken_38 q836 zcs_FloatingDock_Ship ?_
        refine s_ast_n (pc := 41) (L2 := [(1, va_rf a1), (2, va_rf a2)]) [0, 1] dX2_taken_41 rfl (by decide) rfl rfl (zcB (j := 1) rfl (zcat_rf a2) rfl) ?_
        refine s_aload_n (pc := 42) 0 dX2_taken_42 rfl rfl ?_
        refine zS_ite (fun ht => ?_) (fun _ => zS_none)
        refine s_callV (pc := 43) (np := 0) (as := []) (rest := []) dX2_taken_43 ht (q := (RX6, TX6, 9)) rfl (c_X6_isInDock (by decide) r137 h138) rfl rfl q837 q367 q368 rfl (by decide) (zkI (fun x171 h172 => ?_)) zxo
        refine s_if_eq (pc := 46) (tgt := 67) dX2_taken_46 (by decide) (fun _ => ?_) (fun _ => ?_)
        · exact s_sub (pc := 67) [1, 2] rfl (w_X2_taken_67 (f_X2_taken_23 n) ih a1 a2 h172)
        · refine s_aload_n (pc := 49) 1 dX2_taken_49 rfl rfl ?_
          refine s_aload_n (pc := 50) 0 dX2_taken_50 rfl rfl ?_
          refine s_gR (pc := 51) dX2_taken_51 gf_X2_144 (fun r173 => ?_)
          refine s_gI (pc := 54) dX2_taken_54 gf_X2_148 (fun x174 => ?_)
          refine s_aload_n (pc := 57) 0 dX2_taken_57 rfl rfl ?_
          refine s_gR (pc := 58) dX2_taken_58 gf_X2_144 (fun r175 => ?_)
          refine zS_ite (fun ht => ?_) (fun _ => zS_none)
          refine s_callV (pc := 61) (np := 0) (as := []) (rest := [.int x174, va_rf a1]) dX2_taken_61 ht (q := (RX3, TX3, 2)) rfl (c_X3_end (by decide) r175 h172) rfl rfl q838 q639 q640 rfl (by simp [zcat_rf, zcat_i, zcat_l, zcat_f, zcat_d]) (zkI (fun x176 h177 => ?_)) zxo
          refine zS_ite (fun ht => ?_) (fun _ => zS_none)
          refine s_callV (pc := 64) (np := 2) (as := [.int x174, .int x176]) (rest := []) dX2_taken_64 ht (q := (RJ12, TJ12, 3)) rfl (c_J12_set (by decide) a1 x174 x176 h177) rfl rfl q839 q840 q841 rfl (by decide) (zkV (fun h178 => ?_)) zxo
          exact s_sub (pc := 67) [1, 2] rfl (w_X2_taken_67 (f_X2_taken_23 n) ih a1 a2 h178)
    refine zS_ite (fun ht => ?_) (fun _ => zS_none)
    refine s_callF (pc := 24) (np := 0) (as := []) (rest := []) dX2_taken_24 ht (q := (RJ22, TJ22, 5)) rfl (c_J20_hasNext (by decide) a2 h) ⟨_, _, _, q665⟩ rfl rfl q629 (by decide +kernel) q663 q667 rfl (by decide) (zkI (fun x9 h10 => ?_)) zxo
    refine s_if_eq (pc := 29) (tgt := 70) dX2_taken_29 (by decide) (fun _ => ?_) (fun _ => ?_)
    · refine s_aload_n (pc := 70) 0 dX2_taken_70 rfl rfl ?_
      exact s_aret (pc := 71) dX2_taken_71 rfl (Or.inl ⟨_, rfl⟩)
    · refine s_aload_n (pc := 32) 1 dX2_taken_32 rfl rfl ?_
      refine zS_ite (fun ht => ?_) (fun _ => ?_)
      · refine s_callF (pc := 33) (np := 0) (as := []) (rest := []) dX2_taken_33 ht (q := (RX9, TX9, 2)) rfl (c_X9_next (by decide) a2 h10) ⟨_, _, _, q677⟩ rfl rfl q670 (by decide +kernel) q675 q673 rfl (by decide) (zkR (fun r179 h180 => ?_)) zxo
        refine s_cast (pc := 38) dX2_taken_38 q836 zcs_FloatingDock_Ship ?_
        refine s_ast_n (pc := 41) (L2 := [(1, va_rf a1), (2, va_rf a2)]) [0, 1] dX2_taken_41 rfl (by decide) rfl rfl (zcB (j := 1) rfl (zcat_rf a2) rfl) ?_
        refine s_aload_n (pc := 42) 0 dX2_taken_42 rfl rfl ?_
        refine zS_ite (fun ht => ?_) (fun _ => zS_none)
        refine s_callV (pc := 43) (np := 0) (as := []) (rest := []) dX2_taken_43 ht (q := (RX6, TX6, 9)) rfl (c_X6_isInDock (by decide) r179 h180) rfl rfl q837 q367 q368 rfl (by decide) (zkI (fun x181 h182 => ?_)) zxo
        refine s_if_eq (pc := 46) (tgt := 67) dX2_taken_46 (by decide) (fun _ => ?_) (fun _ => ?_)
        · exact s_sub (pc := 67) [1, 2] rfl (w_X2_taken_67 (f_X2_taken_23 n) ih a1 a2 h182)
        · refine s_aload_n (pc := 49) 1 dX2_taken_49 rfl rfl ?_
          refine s_aload_n (pc := 50) 0 dX2_taken_50 rfl rfl ?_
          refine s_gR (pc := 51) dX2_taken_51 gf_X2_144 (fun r183 => ?_)
          refine s_gI (pc := 54) dX2_taken_54 gf_X2_148 (fun x184 => ?_)
          refine s_aload_n (pc := 57) 0 dX2_taken_57 rfl rfl ?_
          refine s_gR (pc := 58) dX2_taken_58 gf_X2_144 (fun r185 => ?_)
          refine zS_ite (fun ht => ?_) (fun _ => zS_none)
          refine s_callV (pc := 61) (np := 0) (as := []) (rest := [.int x184, va_rf a1]) dX2_taken_61 ht (q := (RX3, TX3, 2)) rfl (c_X3_end (by decide) r185 h182) rfl rfl q838 q639 q640 rfl (by simp [zcat_rf, zcat_i, zcat_l, zcat_f, zcat_d]) (zkI (fun x186 h187 => ?_)) zxo
          refine zS_ite (fun ht => ?_) (fun _ => zS_none)
          refine s_callV (pc := 64) (np := 2) (as := [.int x184, .int x186]) (rest := []) dX2_taken_64 ht (q := (RJ12, TJ12, 3)) rfl (c_J12_set (by decide) a1 x184 x186 h187) rfl rfl q839 q840 q841 rfl (by decide) (zkV (fun h188 => ?_)) zxo
          exact s_sub (pc := 67) [1, 2] rfl (w_X2_taken_67 (f_X2_taken_23 n) ih a1 a2 h188)
      refine zS_ite (fun ht => ?_) (fun _ => ?_)
      · refine s_callF (pc := 33) (np := 0) (as := []) (rest := []) dX2_taken_33 ht (q := (RJ15, TJ15, 4)) rfl (c_J15_next (by decide) a2 h10) ⟨_, _, _, q788⟩ rfl rfl q670 (by decide +kernel) q786 q784 rfl (by decide) (zkR (fun r179 h180 => ?_)) zxo
        refine s_cast (pc := 38) dX2_taken_38 q836 zcs_FloatingDock_Ship ?_
        refine s_ast_n (pc := 41) (L2 := [(1, va_rf a1), (2, va_rf a2)]) [0, 1] dX2_taken_41 rfl (by decide) rfl rfl (zcB (j := 1) rfl (zcat_rf a2) rfl) ?_
        refine s_aload_n (pc := 42) 0 dX2_taken_42 rfl rfl ?_
        refine zS_ite (fun ht => ?_) (fun _ => zS_none)
        refine s_callV (pc := 43) (np := 0) (as := []) (rest := []) dX2_taken_43 ht (q := (RX6, TX6, 9)) rfl (c_X6_isInDock (by decide) r179 h180) rfl rfl q837 q367 q368 rfl (by decide) (zkI (fun x189 h190 => ?_)) zxo
        refine s_if_eq (pc := 46) (tgt := 67) dX2_taken_46 (by decide) (fun _ => ?_) (fun _ => ?_)
        · exact s_sub (pc := 67) [1, 2] rfl (w_X2_taken_67 (f_X2_taken_23 n) ih a1 a2 h190)
        · refine s_aload_n (pc := 49) 1 dX2_taken_49 rfl rfl ?_
          refine s_aload_n (pc := 50) 0 dX2_taken_50 rfl rfl ?_
          refine s_gR (pc := 51) dX2_taken_51 gf_X2_144 (fun r191 => ?_)
          refine s_gI (pc := 54) dX2_taken_54 gf_X2_148 (fun x192 => ?_)
          refine s_aload_n (pc := 57) 0 dX2_taken_57 rfl rfl ?_
          refine s_gR (pc := 58) dX2_taken_58 gf_X2_144 (fun r193 => ?_)
          refine zS_ite (fun ht => ?_) (fun _ => zS_none)
          refine s_callV (pc := 61) (np := 0) (as := []) (rest := [.int x192, va_rf a1]) dX2_taken_61 ht (q := (RX3, TX3, 2)) rfl (c_X3_end (by decide) r193 h190) rfl rfl q838 q639 q640 rfl (by simp [zcat_rf, zcat_i, zcat_l, zcat_f, zcat_d]) (zkI (fun x194 h195 => ?_)) zxo
          refine zS_ite (fun ht => ?_) (fun _ => zS_none)
          refine s_callV (pc := 64) (np := 2) (as := [.int x192, .int x194]) (rest := []) dX2_taken_64 ht (q := (RJ12, TJ12, 3)) rfl (c_J12_set (by decide) a1 x192 x194 h195) rfl rfl q839 q840 q841 rfl (by decide) (zkV (fun h196 => ?_)) zxo
          exact s_sub (pc := 67) [1, 2] rfl (w_X2_taken_67 (f_X2_taken_23 n) ih a1 a2 h196)
      refine zS_ite (fun ht => ?_) (fun _ => ?_)
      · refine s_callF (pc := 33) (np := 0) (as := []) (rest := []) dX2_taken_33 ht (q := (RJ17, TJ17, 5)) rfl (c_J17_next (by decide) a2 h10) ⟨_, _, _, q799⟩ rfl rfl q670 (by decide +kernel) q797 q795 rfl (by decide) (zkR (fun r179 h180 => ?_)) zxo
        refine s_cast (pc := 38) dX2_taken_38 q836 zcs_FloatingDock_Ship ?_
        refine s_ast_n (pc := 41) (L2 := [(1, va_rf a1), (2, va_rf a2)]) [0, 1] dX2_taken_41 rfl (by decide) rfl rfl (zcB (j := 1) rfl (zcat_rf a2) rfl) ?_
        refine s_aload_n (pc := 42) 0 dX2_taken_42 rfl rfl ?_
        refine zS_ite (fun ht => ?_) (fun _ => zS_none)
        refine s_callV (pc := 43) (np := 0) (as := []) (rest := []) dX2_taken_43 ht (q := (RX6, TX6, 9)) rfl (c_X6_isInDock (by decide) r179 h180) rfl rfl q837 q367 q368 rfl (by decide) (zkI (fun x197 h198 => ?_)) zxo
        refine s_if_eq (pc := 46) (tgt := 67) dX2_taken_46 (by decide) (fun _ => ?_) (fun _ => ?_)
        · exact s_sub (pc := 67) [1, 2] rfl (w_X2_taken_67 (f_X2_taken_23 n) ih a1 a2 h198)
        · refine s_aload_n (pc := 49) 1 dX2_taken_49 rfl rfl ?_
          refine s_aload_n (pc := 50) 0 dX2_taken_50 rfl rfl ?_
          refine s_gR (pc := 51) dX2_taken_51 gf_X2_144 (fun r199 => ?_)
          refine s_gI (pc := 54) dX2_taken_54 gf_X2_148 (fun x200 => ?_)
          refine s_aload_n (pc := 57) 0 dX2_taken_57 rfl rfl ?_
          refine s_gR (pc := 58) dX2_taken_58 gf_X2_144 (fun r201 => ?_)
          refine zS_ite (fun ht => ?_) (fun _ => zS_none)
          refine s_callV (pc := 61) (np := 0) (as := []) (rest := [.int x200, va_rf a1]) dX2_taken_61 ht (q := (RX3, TX3, 2)) rfl (c_X3_end (by decide) r201 h198) rfl rfl q838 q639 q640 rfl (by simp [zcat_rf, zcat_i, zcat_l, zcat_f, zcat_d]) (zkI (fun x202 h203 => ?_)) zxo
          refine zS_ite (fun ht => ?_) (fun _ => zS_none)
          refine s_callV (pc := 64) (np := 2) (as := [.int x200, .int x202]) (rest := []) dX2_taken_64 ht (q := (RJ12, TJ12, 3)) rfl (c_J12_set (by decide) a1 x200 x202 h203) rfl rfl q839 q840 q841 rfl (by decide) (zkV (fun h204 => ?_)) zxo
          exact s_sub (pc := 67) [1, 2] rfl (w_X2_taken_67 (f_X2_taken_23 n) ih a1 a2 h204)
      refine zS_ite (fun ht => ?_) (fun _ => ?_)
      · refine s_callF (pc := 33) (np := 0) (as := []) (rest := []) dX2_taken_33 ht (q := (RJ21, TJ21, 5)) rfl (c_J21_next (by decide) a2 h10) ⟨_, _, _, q812⟩ rfl rfl q670 (by decide +kernel) q810 q808 rfl (by decide) (zkR (fun r179 h180 => ?_)) zxo
        refine s_cast (pc := 38) dX2_taken_38 q836 zcs_FloatingDock_Ship ?_
        refine s_ast_n (pc := 41) (L2 := [(1, va_rf a1), (2, va_rf a2)]) [0, 1] dX2_taken_41 rfl (by decide) rfl rfl (zcB (j := 1) rfl (zcat_rf a2) rfl) ?_
        refine s_aload_n (pc := 42) 0 dX2_taken_42 rfl rfl ?_
        refine zS_ite (fun ht => ?_) (fun _ => zS_none)
        refine s_callV (pc := 43) (np := 0) (as := []) (rest := []) dX2_taken_43 ht (q := (RX6, TX6, 9)) rfl (c_X6_isInDock (by decide) r179 h180) rfl rfl q837 q367 q368 rfl (by decide) (zkI (fun x205 h206 => ?_)) zxo
        refine s_if_eq (pc := 46) (tgt := 67) dX2_taken_46 (by decide) (fun _ => ?_) (fun _ => ?_)
        · exact s_sub (pc := 67) [1, 2] rfl (w_X2_taken_67 (f_X2_taken_23 n) ih a1 a2 h206)
        · refine s_aload_n (pc := 49) 1 dX2_taken_49 rfl rfl ?_
          refine s_aload_n (pc := 50) 0 dX2_taken_50 rfl rfl ?_
          refine s_gR (pc := 51) dX2_taken_51 gf_X2_144 (fun r207 => ?_)
          refine s_gI (pc := 54) dX2_taken_54 gf_X2_148 (fun x208 => ?_)
          refine s_aload_n (pc := 57) 0 dX2_taken_57 rfl rfl ?_
          refine s_gR (pc := 58) dX2_taken_58 gf_X2_144 (fun r209 => ?_)
          refine zS_ite (fun ht => ?_) (fun _ => zS_none)
          refine s_callV (pc := 61) (np := 0) (as := []) (rest := [.int x208, va_rf a1]) dX2_taken_61 ht (q := (RX3, TX3, 2)) rfl (c_X3_end (by decide) r209 h206) rfl rfl q838 q639 q640 rfl (by simp [zcat_rf, zcat_i, zcat_l, zcat_f, zcat_d]) (zkI (fun x210 h211 => ?_)) zxo
          refine zS_ite (fun ht => ?_) (fun _ => zS_none)
          refine s_callV (pc := 64) (np := 2) (as := [.int x208, .int x210]) (rest := []) dX2_taken_64 ht (q := (RJ12, TJ12, 3)) rfl (c_J12_set (by decide) a1 x208 x210 h211) rfl rfl q839 q840 q841 rfl (by decide) (zkV (fun h212 => ?_)) zxo
          exact s_sub (pc := 67) [1, 2] rfl (w_X2_taken_67 (f_X2_taken_23 n) ih a1 a2 h212)
      refine zS_ite (fun ht => ?_) (fun _ => zS_none)
      refine s_callF (pc := 33) (np := 0) (as := []) (rest := []) dX2_taken_33 ht (q := (RJ22, TJ22, 5)) rfl (c_J22_next (by decide) a2 h10) ⟨_, _, _, q832⟩ rfl rfl q670 (by decide +kernel) q830 q828 rfl (by decide) (zkR (fun r179 h180 => ?_)) zxo
      refine s_cast (pc := 38) dX2_taken_38 q836 zcs_FloatingDock_Ship ?_
      refine s_ast_n (pc := 41) (L2 := [(1, va_rf a1), (2, va_rf a2)]) [0, 1] dX2_taken_41 rfl (by decide) rfl rfl (zcB (j := 1) rfl (zcat_rf a2) rfl) ?_
      refine s_aload_n (pc := 42) 0 dX2_taken_42 rfl rfl ?_
      refine zS_ite (fun ht => ?_) (fun _ => zS_none)
      refine s_callV (pc := 43) (np := 0) (as := []) (rest := []) dX2_taken_43 ht (q := (RX6, TX6, 9)) rfl (c_X6_isInDock (by decide) r179 h180) rfl rfl q837 q367 q368 rfl (by decide) (zkI (fun x213 h214 => ?_)) zxo
      refine s_if_eq (pc := 46) (tgt := 67) dX2_taken_46 (by decide) (fun _ => ?_) (fun _ => ?_)
      · exact s_sub (pc := 67) [1, 2] rfl (w_X2_taken_67 (f_X2_taken_23 n) ih a1 a2 h214)
      · refine s_aload_n (pc := 49) 1 dX2_taken_49 rfl rfl ?_
        refine s_aload_n (pc := 50) 0 dX2_taken_50 rfl rfl ?_
        refine s_gR (pc := 51) dX2_taken_51 gf_X2_144 (fun r215 => ?_)
        refine s_gI (pc := 54) dX2_taken_54 gf_X2_148 (fun x216 => ?_)
        refine s_aload_n (pc := 57) 0 dX2_taken_57 rfl rfl ?_
        refine s_gR (pc := 58) dX2_taken_58 gf_X2_144 (fun r217 => ?_)
        refine zS_ite (fun ht => ?_) (fun _ => zS_none)
        refine s_callV (pc := 61) (np := 0) (as := []) (rest := [.int x216, va_rf a1]) dX2_taken_61 ht (q := (RX3, TX3, 2)) rfl (c_X3_end (by decide) r217 h214) rfl rfl q838 q639 q640 rfl (by simp [zcat_rf, zcat_i, zcat_l, zcat_f, zcat_d]) (zkI (fun x218 h219 => ?_)) zxo
        refine zS_ite (fun ht => ?_) (fun _ => zS_none)
        refine s_callV (pc := 64) (np := 2) (as := [.int x216, .int x218]) (rest := []) dX2_taken_64 ht (q := (RJ12, TJ12, 3)) rfl (c_J12_set (by decide) a1 x216 x218 h219) rfl rfl q839 q840 q841 rfl (by decide) (zkV (fun h220 => ?_)) zxo
        exact s_sub (pc := 67) [1, 2] rfl (w_X2_taken_67 (f_X2_taken_23 n) ih a1 a2 h220)
theorem w_X2_taken (v0 : Option Nat) (h : zH) : zS D z yX2_taken cX2_taken 4 (some (.object "java/util/BitSet")) [] 10 h 0 [(0, va_rf v0)] [] (f_X2_taken v0 h) := by
  unfold f_X2_taken
  refine s_new (pc := 0) dX2_taken_0 nf_X2_289 (fun r1 h2 => ?_)
  refine s_dup (pc := 3) dX2_taken_3 (zcat_rf _) ?_
  refine s_bipush (pc := 4) (v := 60) dX2_taken_4 (by decide) ?_
  refine zS_ite (fun hr => ?_) (fun _ => zS_none)
  refine s_callC (pc := 6) (np := 1) (as := [.int 60]) (rest := [va_rf r1]) dX2_taken_6 hr (c_J12_init (by decide) r1 60 h2) ⟨_, _, q393⟩ rfl rfl rfl q391 q392 rfl (by simp [zcat_rf, zcat_i, zcat_l, zcat_f, zcat_d]) (zkV (fun h3 => ?_)) zxo
  refine s_ast_n (pc := 9) (L2 := [(0, va_rf v0)]) [0] dX2_taken_9 rfl (by decide) rfl rfl (zcB (j := 0) rfl (zcat_rf v0) rfl) ?_
  refine s_aload_n (pc := 10) 1 dX2_taken_10 rfl rfl ?_
  refine s_gR (pc := 11) dX2_taken_11 gf_X2_12 (fun r4 => ?_)
  refine zS_ite (fun ht => ?_) (fun _ => zS_none)
  refine s_callV (pc := 14) (np := 0) (as := []) (rest := []) dX2_taken_14 ht (q := (RJ2, TJ2, 12)) rfl (c_J2_values (by decide) r4 h3) rfl rfl q413 q414 q415 rfl (by decide) (zkR (fun r5 h6 => ?_)) zxo
  refine zS_ite (fun ht => ?_) (fun _ => zS_none)
  refine s_callF (pc := 17) (np := 0) (as := []) (rest := []) dX2_taken_17 ht (q := (RJ13, TJ13, 2)) rfl (c_J13_iterator (by decide) r5 h6) ⟨_, _, _, q615⟩ rfl rfl q436 (by decide +kernel) q613 q611 rfl (by decide) (zkR (fun r7 h8 => ?_)) zxo
  refine s_ast_n (pc := 22) (L2 := [(1, va_rf r1)]) [0] dX2_taken_22 rfl (by decide) rfl rfl (zcB (j := 0) rfl (zcat_rf r1) rfl) ?_
  exact s_sub (pc := 23) [1, 0] rfl (w_X2_taken_23 zfuel r1 r7 h8)
theorem c_X2_taken {d0 : Nat} (hd0 : 10 < d0) (v0 : Option Nat) (h : zH) : zCal D z d0 h yX2_taken [va_rf v0] (f_X2_taken v0 h) :=
  ⟨cX2_taken, 4, (some (.object "java/util/BitSet")), [], 10, (show lv_args 0 [va_rf v0] = [(0, va_rf v0)] by simp [lv_args, zcat_rf, zcat_i, zcat_l, zcat_f, zcat_d]) ▸ w_X2_taken v0 h, (plainFor_of_name (by decide)), by simp [lg_sl, zcat_rf, zcat_i, zcat_l, zcat_f, zcat_d], q388, q96, hd0, by decide, by decide⟩
theorem w_J24_numberOfTrailingZeros_74 (a0 : Int32) (a1 : Int32) (h : zH) : zS D z yJ24_numberOfTrailingZeros cJ24_numberOfTrailingZeros 2 (some .int) [] 1 h 74 [(0, .int a0), (1, .int a1)] [] (f_J24_numberOfTrailingZeros_74 a0 a1 h) := by
  unfold f_J24_numberOfTrailingZeros_74
  refine s_iload_n (pc := 74) 1 dJ24_numberOfTrailingZeros_74 rfl rfl ?_
  refine s_iload_n (pc := 75) 0 dJ24_numberOfTrailingZeros_75 rfl rfl ?_
  refine s_iconst (pc := 76) (v := 1) dJ24_numberOfTrailingZeros_76 (by decide) ?_
  refine s_iushr (pc := 77) dJ24_numberOfTrailingZeros_77 ?_
  refine s_iadd (pc := 78) dJ24_numberOfTrailingZeros_78 ?_
  exact s_iret (pc := 79) dJ24_numberOfTrailingZeros_79 rfl
theorem w_J24_numberOfTrailingZeros_62 (a0 : Int32) (a1 : Int32) (h : zH) : zS D z yJ24_numberOfTrailingZeros cJ24_numberOfTrailingZeros 2 (some .int) [] 1 h 62 [(0, .int a0), (1, .int a1)] [] (f_J24_numberOfTrailingZeros_62 a0 a1 h) := by
  unfold f_J24_numberOfTrailingZeros_62
  refine s_iload_n (pc := 62) 0 dJ24_numberOfTrailingZeros_62 rfl rfl ?_
  refine s_iconst (pc := 63) (v := 4) dJ24_numberOfTrailingZeros_63 (by decide) ?_
  refine s_icmp_le (pc := 64) (tgt := 74) dJ24_numberOfTrailingZeros_64 (by decide) (fun _ => ?_) (fun _ => ?_)
  · exact s_sub (pc := 74) [0, 1] rfl (w_J24_numberOfTrailingZeros_74 a0 a1 h)
  · refine s_inc (pc := 67) (v := 2) (L2 := [(0, .int a0)]) 1 [0] dJ24_numberOfTrailingZeros_67 rfl (by decide) (by decide) rfl rfl (zcB (j := 0) rfl rfl rfl) (fun x8 => ?_)
    refine s_iload_n (pc := 70) 1 dJ24_numberOfTrailingZeros_70 rfl rfl ?_
    refine s_iconst (pc := 71) (v := 2) dJ24_numberOfTrailingZeros_71 (by decide) ?_
    refine s_iushr (pc := 72) dJ24_numberOfTrailingZeros_72 ?_
    refine s_nm (pc := 73) Value.int (fun x9 => ?_)
    refine s_ist_n (pc := 73) (L2 := [(1, .int x8)]) [0] dJ24_numberOfTrailingZeros_73 rfl (by decide) rfl rfl (zcA rfl) ?_
    exact s_sub (pc := 74) [0, 1] rfl (w_J24_numberOfTrailingZeros_74 x9 x8 h)
theorem w_J24_numberOfTrailingZeros_49 (a0 : Int32) (a1 : Int32) (h : zH) : zS D z yJ24_numberOfTrailingZeros cJ24_numberOfTrailingZeros 2 (some .int) [] 1 h 49 [(0, .int a0), (1, .int a1)] [] (f_J24_numberOfTrailingZeros_49 a0 a1 h) := by
  unfold f_J24_numberOfTrailingZeros_49
  refine s_iload_n (pc := 49) 0 dJ24_numberOfTrailingZeros_49 rfl rfl ?_
  refine s_bipush (pc := 50) (v := 16) dJ24_numberOfTrailingZeros_50 (by decide) ?_
  refine s_icmp_le (pc := 52) (tgt := 62) dJ24_numberOfTrailingZeros_52 (by decide) (fun _ => ?_) (fun _ => ?_)
  · exact s_sub (pc := 62) [0, 1] rfl (w_J24_numberOfTrailingZeros_62 a0 a1 h)
  · refine s_inc (pc := 55) (v := 4) (L2 := [(0, .int a0)]) 1 [0] dJ24_numberOfTrailingZeros_55 rfl (by decide) (by decide) rfl rfl (zcB (j := 0) rfl rfl rfl) (fun x6 => ?_)
    refine s_iload_n (pc := 58) 1 dJ24_numberOfTrailingZeros_58 rfl rfl ?_
    refine s_iconst (pc := 59) (v := 4) dJ24_numberOfTrailingZeros_59 (by decide) ?_
    refine s_iushr (pc := 60) dJ24_numberOfTrailingZeros_60 ?_
    refine s_nm (pc := 61) Value.int (fun x7 => ?_)
    refine s_ist_n (pc := 61) (L2 := [(1, .int x6)]) [0] dJ24_numberOfTrailingZeros_61 rfl (by decide) rfl rfl (zcA rfl) ?_
    exact s_sub (pc := 62) [0, 1] rfl (w_J24_numberOfTrailingZeros_62 x7 x6 h)
theorem w_J24_numberOfTrailingZeros_34 (a0 : Int32) (a1 : Int32) (h : zH) : zS D z yJ24_numberOfTrailingZeros cJ24_numberOfTrailingZeros 2 (some .int) [] 1 h 34 [(0, .int a0), (1, .int a1)] [] (f_J24_numberOfTrailingZeros_34 a0 a1 h) := by
  unfold f_J24_numberOfTrailingZeros_34
  refine s_iload_n (pc := 34) 0 dJ24_numberOfTrailingZeros_34 rfl rfl ?_
  refine s_sipush (pc := 35) (v := 256) dJ24_numberOfTrailingZeros_35 (by decide) ?_
  refine s_icmp_le (pc := 38) (tgt := 49) dJ24_numberOfTrailingZeros_38 (by decide) (fun _ => ?_) (fun _ => ?_)
  · exact s_sub (pc := 49) [0, 1] rfl (w_J24_numberOfTrailingZeros_49 a0 a1 h)
  · refine s_inc (pc := 41) (v := 8) (L2 := [(0, .int a0)]) 1 [0] dJ24_numberOfTrailingZeros_41 rfl (by decide) (by decide) rfl rfl (zcB (j := 0) rfl rfl rfl) (fun x4 => ?_)
    refine s_iload_n (pc := 44) 1 dJ24_numberOfTrailingZeros_44 rfl rfl ?_
    refine s_bipush (pc := 45) (v := 8) dJ24_numberOfTrailingZeros_45 (by decide) ?_
    refine s_iushr (pc := 47) dJ24_numberOfTrailingZeros_47 ?_
    refine s_nm (pc := 48) Value.int (fun x5 => ?_)
    refine s_ist_n (pc := 48) (L2 := [(1, .int x4)]) [0] dJ24_numberOfTrailingZeros_48 rfl (by decide) rfl rfl (zcA rfl) ?_
    exact s_sub (pc := 49) [0, 1] rfl (w_J24_numberOfTrailingZeros_49 x5 x4 h)
theorem w_J24_numberOfTrailingZeros (v0 : Int32) (h : zH) : zS D z yJ24_numberOfTrailingZeros cJ24_numberOfTrailingZeros 2 (some .int) [] 1 h 0 [(0, .int v0)] [] (f_J24_numberOfTrailingZeros v0 h) := by
  unfold f_J24_numberOfTrailingZeros
  refine s_iload_n (pc := 0) 0 dJ24_numberOfTrailingZeros_0 rfl rfl ?_
  refine s_iconst (pc := 1) (v := -1) dJ24_numberOfTrailingZeros_1 (by decide) ?_
  refine s_ixor (pc := 2) dJ24_numberOfTrailingZeros_2 ?_
  refine s_iload_n (pc := 3) 0 dJ24_numberOfTrailingZeros_3 rfl rfl ?_
  refine s_iconst (pc := 4) (v := 1) dJ24_numberOfTrailingZeros_4 (by decide) ?_
  refine s_isub (pc := 5) dJ24_numberOfTrailingZeros_5 ?_
  refine s_iand (pc := 6) dJ24_numberOfTrailingZeros_6 ?_
  refine s_nm (pc := 7) Value.int (fun x1 => ?_)
  refine s_ist_n (pc := 7) (L2 := []) [] dJ24_numberOfTrailingZeros_7 rfl (by decide) rfl rfl (zcA rfl) ?_
  refine s_iload_n (pc := 8) 0 dJ24_numberOfTrailingZeros_8 rfl rfl ?_
  refine s_if_gt (pc := 9) (tgt := 17) dJ24_numberOfTrailingZeros_9 (by decide) (fun _ => ?_) (fun _ => ?_)
  · refine s_iconst (pc := 17) (v := 1) dJ24_numberOfTrailingZeros_17 (by decide) ?_
    refine s_ist_n (pc := 18) (L2 := [(0, .int x1)]) [0] dJ24_numberOfTrailingZeros_18 rfl (by decide) rfl rfl (zcB (j := 0) rfl rfl rfl) ?_
    refine s_iload_n (pc := 19) 1 dJ24_numberOfTrailingZeros_19 rfl rfl ?_
    refine s_ldcw (pc := 20) (v := 65536) dJ24_numberOfTrailingZeros_20 q1135 ?_
    refine s_icmp_le (pc := 23) (tgt := 34) dJ24_numberOfTrailingZeros_23 (by decide) (fun _ => ?_) (fun _ => ?_)
    · exact s_sub (pc := 34) [1, 0] rfl (w_J24_numberOfTrailingZeros_34 x1 1 h)
    · refine s_inc (pc := 26) (v := 16) (L2 := [(0, .int x1)]) 0 [1] dJ24_numberOfTrailingZeros_26 rfl (by decide) (by decide) rfl rfl (zcB (j := 0) rfl rfl rfl) (fun x2 => ?_)
      refine s_iload_n (pc := 29) 1 dJ24_numberOfTrailingZeros_29 rfl rfl ?_
      refine s_bipush (pc := 30) (v := 16) dJ24_numberOfTrailingZeros_30 (by decide) ?_
      refine s_iushr (pc := 32) dJ24_numberOfTrailingZeros_32 ?_
      refine s_nm (pc := 33) Value.int (fun x3 => ?_)
      refine s_ist_n (pc := 33) (L2 := [(1, .int x2)]) [0] dJ24_numberOfTrailingZeros_33 rfl (by decide) rfl rfl (zcA rfl) ?_
      exact s_sub (pc := 34) [0, 1] rfl (w_J24_numberOfTrailingZeros_34 x3 x2 h)
  · refine s_iload_n (pc := 12) 0 dJ24_numberOfTrailingZeros_12 rfl rfl ?_
    refine s_bipush (pc := 13) (v := 32) dJ24_numberOfTrailingZeros_13 (by decide) ?_
    refine s_iand (pc := 15) dJ24_numberOfTrailingZeros_15 ?_
    exact s_iret (pc := 16) dJ24_numberOfTrailingZeros_16 rfl
theorem c_J24_numberOfTrailingZeros {d0 : Nat} (hd0 : 1 < d0) (v0 : Int32) (h : zH) : zCal D z d0 h yJ24_numberOfTrailingZeros [.int v0] (f_J24_numberOfTrailingZeros v0 h) :=
  ⟨cJ24_numberOfTrailingZeros, 2, (some .int), [], 1, (show lv_args 0 [.int v0] = [(0, .int v0)] by simp [lv_args, zcat_rf, zcat_i, zcat_l, zcat_f, zcat_d]) ▸ w_J24_numberOfTrailingZeros v0 h, (plainFor_of_name (by decide)), by simp [lg_sl, zcat_rf, zcat_i, zcat_l, zcat_f, zcat_d], q1134, q121, hd0, by decide, by decide⟩
theorem w_J35_numberOfTrailingZeros (v0 : Int64) (h : zH) : zS D z yJ35_numberOfTrailingZeros cJ35_numberOfTrailingZeros 3 (some .int) [] 2 h 0 [(0, .long v0)] [] (f_J35_numberOfTrailingZeros v0 h) := by
  unfold f_J35_numberOfTrailingZeros
  refine s_lload_n (pc := 0) 0 dJ35_numberOfTrailingZeros_0 rfl rfl ?_
  refine s_l2i (pc := 1) dJ35_numberOfTrailingZeros_1 ?_
  refine s_nm (pc := 2) Value.int (fun x1 => ?_)
  refine s_ist_n (pc := 2) (L2 := [(0, .long v0)]) [0] dJ35_numberOfTrailingZeros_2 rfl (by decide) rfl rfl (zcA rfl) ?_
  refine s_iload_n (pc := 3) 0 dJ35_numberOfTrailingZeros_3 rfl rfl ?_
  refine s_if_ne (pc := 4) (tgt := 21) dJ35_numberOfTrailingZeros_4 (by decide) (fun _ => ?_) (fun _ => ?_)
  · refine s_iload_n (pc := 21) 0 dJ35_numberOfTrailingZeros_21 rfl rfl ?_
    refine s_callSS (pc := 22) (np := 1) (as := [.int x1]) (rest := []) dJ35_numberOfTrailingZeros_22 (c_J24_numberOfTrailingZeros (by decide) x1 h) rfl rfl q1132 q1133 rfl (by decide) (zkI (fun x2 h3 => ?_)) zxo
    exact s_iret (pc := 25) dJ35_numberOfTrailingZeros_25 rfl
  · refine s_bipush (pc := 7) (v := 32) dJ35_numberOfTrailingZeros_7 (by decide) ?_
    refine s_lload_n (pc := 9) 1 dJ35_numberOfTrailingZeros_9 rfl rfl ?_
    refine s_bipush (pc := 10) (v := 32) dJ35_numberOfTrailingZeros_10 (by decide) ?_
    refine s_lushr (pc := 12) dJ35_numberOfTrailingZeros_12 ?_
    refine s_l2i (pc := 13) dJ35_numberOfTrailingZeros_13 ?_
    refine s_callSS (pc := 14) (np := 1) (as := [.int (((v0.toUInt64 >>> ((32 : Int32).toInt64.toUInt64 &&& Int64.toUInt64 63)).toInt64).toInt32)]) (rest := [.int 32]) dJ35_numberOfTrailingZeros_14 (c_J24_numberOfTrailingZeros (by decide) (((v0.toUInt64 >>> ((32 : Int32).toInt64.toUInt64 &&& Int64.toUInt64 63)).toInt64).toInt32) h) rfl rfl q1132 q1133 rfl (by simp [zcat_rf, zcat_i, zcat_l, zcat_f, zcat_d]) (zkI (fun x4 h5 => ?_)) zxo
    refine s_iadd (pc := 17) dJ35_numberOfTrailingZeros_17 ?_
    refine s_goto (pc := 18) (tgt := 25) dJ35_numberOfTrailingZeros_18 (by decide) ?_
    exact s_iret (pc := 25) dJ35_numberOfTrailingZeros_25 rfl
theorem c_J35_numberOfTrailingZeros {d0 : Nat} (hd0 : 2 < d0) (v0 : Int64) (h : zH) : zCal D z d0 h yJ35_numberOfTrailingZeros [.long v0] (f_J35_numberOfTrailingZeros v0 h) :=
  ⟨cJ35_numberOfTrailingZeros, 3, (some .int), [], 2, (show lv_args 0 [.long v0] = [(0, .long v0)] by simp [lv_args, zcat_rf, zcat_i, zcat_l, zcat_f, zcat_d]) ▸ w_J35_numberOfTrailingZeros v0 h, (plainFor_of_name (by decide)), by simp [lg_sl, zcat_rf, zcat_i, zcat_l, zcat_f, zcat_d], q1131, q134, hd0, by decide, by decide⟩
theorem w_J12_nextSetBit_69 (a2 : Int32) (a3 : Int64) (h : zH) : zS D z yJ12_nextSetBit cJ12_nextSetBit 5 (some .int) [] 3 h 69 [(2, .int a2), (3, .long a3)] [] (f_J12_nextSetBit_69 a2 a3 h) := by
  unfold f_J12_nextSetBit_69
  refine s_iload_n (pc := 69) 0 dJ12_nextSetBit_69 rfl rfl ?_
  refine s_bipush (pc := 70) (v := 64) dJ12_nextSetBit_70 (by decide) ?_
  refine s_imul (pc := 72) dJ12_nextSetBit_72 ?_
  refine s_lload_n (pc := 73) 1 dJ12_nextSetBit_73 rfl rfl ?_
  refine s_callSS (pc := 74) (np := 1) (as := [.long a3]) (rest := [.int (a2 * 64)]) dJ12_nextSetBit_74 (c_J35_numberOfTrailingZeros (by decide) a3 h) rfl rfl q1129 q1130 rfl (by simp [zcat_rf, zcat_i, zcat_l, zcat_f, zcat_d]) (zkI (fun x12 h13 => ?_)) zxo
  refine s_iadd (pc := 77) dJ12_nextSetBit_77 ?_
  exact s_iret (pc := 78) dJ12_nextSetBit_78 rfl
theorem w_J12_nextSetBit_63 : ∀ (n : Nat) (a0 : Option Nat) (a2 : Int32) (a3 : Int64) (h : zH), zS D z yJ12_nextSetBit cJ12_nextSetBit 5 (some .int) [] 3 h 63 [(0, va_rf a0), (2, .int a2), (3, .long a3)] [] (f_J12_nextSetBit_63 n a0 a2 a3 h) := by
  intro n
  induction n with
  | zero => intros; exact zS_none
  | succ n ih =>
    intro a0 a2 a3 h
    rw [f_J12_nextSetBit_63.eq_2]
    refine s_lload_n (pc := 63) 2 dJ12_nextSetBit_63 rfl rfl ?_
    refine s_lconst (pc := 64) (v := 0) dJ12_nextSetBit_64 (by decide) ?_
    refine s_lcmp (pc := 65) dJ12_nextSetBit_65 ?_
    refine s_if_eq (pc := 66) (tgt := 79) dJ12_nextSetBit_66 (by decide) (fun _ => ?_) (fun _ => ?_)
    · refine s_inc (pc := 79) (v := 1) (L2 := [(0, va_rf a0)]) 1 [0] dJ12_nextSetBit_79 rfl (by decide) (by decide) rfl rfl (zcA rfl) (fun x8 => ?_)
      refine s_iload_n (pc := 82) 0 dJ12_nextSetBit_82 rfl rfl ?_
      refine s_aload_n (pc := 83) 1 dJ12_nextSetBit_83 rfl rfl ?_
      refine s_gI (pc := 84) dJ12_nextSetBit_84 gf_J12_7 (fun x9 => ?_)
      refine s_icmp_ne (pc := 87) (tgt := 92) dJ12_nextSetBit_87 (by decide) (fun _ => ?_) (fun _ => ?_)
      · refine s_aload_n (pc := 92) 1 dJ12_nextSetBit_92 rfl rfl ?_
        refine s_gR (pc := 93) dJ12_nextSetBit_93 gf_J12_11 (fun r10 => ?_)
        refine s_iload_n (pc := 96) 0 dJ12_nextSetBit_96 rfl rfl ?_
        refine s_lald (pc := 97) dJ12_nextSetBit_97 (ztc rfl zt0) (fun x11 => ?_)
        refine s_lst_n (pc := 98) (L2 := [(2, .int x8), (0, va_rf a0)]) [0, 1] dJ12_nextSetBit_98 rfl (by decide) rfl rfl (zcB (j := 0) rfl rfl rfl) ?_
        refine s_goto (pc := 99) (tgt := 63) dJ12_nextSetBit_99 (by decide) ?_
        exact s_sub (pc := 63) [2, 1, 0] rfl (ih a0 x8 x11 h)
      · refine s_iconst (pc := 90) (v := -1) dJ12_nextSetBit_90 (by decide) ?_
        exact s_iret (pc := 91) dJ12_nextSetBit_91 rfl
    · exact s_sub (pc := 69) [1, 2] rfl (w_J12_nextSetBit_69 a2 a3 h)
theorem w_J12_nextSetBit (v0 : Option Nat) (v1 : Int32) (h : zH) : zS D z yJ12_nextSetBit cJ12_nextSetBit 5 (some .int) [] 3 h 0 [(0, va_rf v0), (1, .int v1)] [] (f_J12_nextSetBit v0 v1 h) := by
  unfold f_J12_nextSetBit
  refine s_iload_n (pc := 0) 1 dJ12_nextSetBit_0 rfl rfl ?_
  refine s_if_ge (pc := 1) (tgt := 31) dJ12_nextSetBit_1 (by decide) (fun _ => ?_) (fun _ => ?_)
  · refine s_aload_n (pc := 31) 0 dJ12_nextSetBit_31 rfl rfl ?_
    refine zS_ite (fun ht => ?_) (fun _ => zS_none)
    refine s_callV (pc := 32) (np := 0) (as := []) (rest := []) dJ12_nextSetBit_32 ht (q := (RJ12, TJ12, 3)) rfl (c_J12_checkInvariants (by decide) v0 h) rfl rfl q1119 q1121 qs4 rfl (by decide) (zkV (fun h1 => ?_)) zxo
    refine s_iload_n (pc := 35) 1 dJ12_nextSetBit_35 rfl rfl ?_
    refine s_callSS (pc := 36) (np := 1) (as := [.int v1]) (rest := []) dJ12_nextSetBit_36 (c_J12_wordIndex (by decide) v1 h1) rfl rfl q399 q400 rfl (by decide) (zkI (fun x2 h3 => ?_)) zxo
    refine s_ist_n (pc := 39) (L2 := [(0, va_rf v0), (1, .int v1)]) [0, 1] dJ12_nextSetBit_39 rfl (by decide) rfl rfl (zcB (j := 1) rfl rfl rfl) ?_
    refine s_iload_n (pc := 40) 0 dJ12_nextSetBit_40 rfl rfl ?_
    refine s_aload_n (pc := 41) 1 dJ12_nextSetBit_41 rfl rfl ?_
    refine s_gI (pc := 42) dJ12_nextSetBit_42 gf_J12_7 (fun x4 => ?_)
    refine s_icmp_lt (pc := 45) (tgt := 50) dJ12_nextSetBit_45 (by decide) (fun _ => ?_) (fun _ => ?_)
    · refine s_aload_n (pc := 50) 1 dJ12_nextSetBit_50 rfl rfl ?_
      refine s_gR (pc := 51) dJ12_nextSetBit_51 gf_J12_11 (fun r5 => ?_)
      refine s_iload_n (pc := 54) 0 dJ12_nextSetBit_54 rfl rfl ?_
      refine s_lald (pc := 55) dJ12_nextSetBit_55 (ztc rfl zt0) (fun x6 => ?_)
      refine s_ldc2 (pc := 56) (v := -1) dJ12_nextSetBit_56 q1118 ?_
      refine s_iload_n (pc := 59) 2 dJ12_nextSetBit_59 rfl rfl ?_
      refine s_lshl (pc := 60) dJ12_nextSetBit_60 ?_
      refine s_land (pc := 61) dJ12_nextSetBit_61 ?_
      refine s_nm (pc := 62) Value.long (fun x7 => ?_)
      refine s_lst_n (pc := 62) (L2 := [(2, .int x2), (0, va_rf v0)]) [0, 1] dJ12_nextSetBit_62 rfl (by decide) rfl rfl (zcB (j := 0) rfl rfl rfl) ?_
      exact s_sub (pc := 63) [2, 1, 0] rfl (w_J12_nextSetBit_63 zfuel v0 x2 x7 h3)
    · refine s_iconst (pc := 48) (v := -1) dJ12_nextSetBit_48 (by decide) ?_
      exact s_iret (pc := 49) dJ12_nextSetBit_49 rfl
  · exact zS_none
theorem c_J12_nextSetBit {d0 : Nat} (hd0 : 3 < d0) (v0 : Option Nat) (v1 : Int32) (h : zH) : zCal D z d0 h yJ12_nextSetBit [va_rf v0, .int v1] (f_J12_nextSetBit v0 v1 h) :=
  ⟨cJ12_nextSetBit, 5, (some .int), [], 3, (show lv_args 0 [va_rf v0, .int v1] = [(0, va_rf v0), (1, .int v1)] by simp [lv_args, zcat_rf, zcat_i, zcat_l, zcat_f, zcat_d]) ▸ w_J12_nextSetBit v0 v1 h, (plainFor_of_name (by decide)), by simp [lg_sl, zcat_rf, zcat_i, zcat_l, zcat_f, zcat_d], q1128, q109, hd0, by decide, by decide⟩
theorem w_X2_firstGapByTrying_7 : ∀ (n : Nat) (a1 : Int32) (a2 : Option Nat) (a3 : Int32) (h : zH), zS D z yX2_firstGapByTrying cX2_firstGapByTrying 5 (some .int) [] 11 h 7 [(1, .int a1), (2, va_rf a2), (3, .int a3)] [] (f_X2_firstGapByTrying_7 n a1 a2 a3 h) := by
  intro n
  induction n with
  | zero => intros; exact zS_none
  | succ n ih =>
    intro a1 a2 a3 h
    rw [f_X2_firstGapByTrying_7.eq_2]
    refine s_iload_n (pc := 7) 2 dX2_firstGapByTrying_7 rfl rfl ?_
    refine s_iload_n (pc := 8) 0 dX2_firstGapByTrying_8 rfl rfl ?_
    refine s_iadd (pc := 9) dX2_firstGapByTrying_9 ?_
    refine s_bipush (pc := 10) (v := 60) dX2_firstGapByTrying_10 (by decide) ?_
    refine s_icmp_gt (pc := 12) (tgt := 44) dX2_firstGapByTrying_12 (by decide) (fun _ => ?_) (fun _ => ?_)
    · refine s_iconst (pc := 44) (v := -1) dX2_firstGapByTrying_44 (by decide) ?_
      exact s_iret (pc := 45) dX2_firstGapByTrying_45 rfl
    · refine s_aload_n (pc := 15) 1 dX2_firstGapByTrying_15 rfl rfl ?_
      refine s_iload_n (pc := 16) 2 dX2_firstGapByTrying_16 rfl rfl ?_
      refine zS_ite (fun ht => ?_) (fun _ => zS_none)
      refine s_callV (pc := 17) (np := 1) (as := [.int a3]) (rest := []) dX2_firstGapByTrying_17 ht (q := (RJ12, TJ12, 3)) rfl (c_J12_nextSetBit (by decide) a2 a3 h) rfl rfl q1125 q1126 q1127 rfl (by decide) (zkI (fun x3 h4 => ?_)) zxo
      refine s_ist (pc := 20) (L2 := [(1, .int a1), (2, va_rf a2), (3, .int a3)]) [0, 1, 2] dX2_firstGapByTrying_20 (by decide) rfl rfl (zcB (j := 2) rfl rfl rfl) ?_
      refine s_iload (pc := 22) 0 dX2_firstGapByTrying_22 rfl ?_
      refine s_iconst (pc := 24) (v := -1) dX2_firstGapByTrying_24 (by decide) ?_
      refine s_icmp_eq (pc := 25) (tgt := 36) dX2_firstGapByTrying_25 (by decide) (fun _ => ?_) (fun _ => ?_)
      · refine s_iload_n (pc := 36) 3 dX2_firstGapByTrying_36 rfl rfl ?_
        exact s_iret (pc := 37) dX2_firstGapByTrying_37 rfl
      · refine s_iload (pc := 28) 0 dX2_firstGapByTrying_28 rfl ?_
        refine s_iload_n (pc := 30) 3 dX2_firstGapByTrying_30 rfl rfl ?_
        refine s_iload_n (pc := 31) 1 dX2_firstGapByTrying_31 rfl rfl ?_
        refine s_iadd (pc := 32) dX2_firstGapByTrying_32 ?_
        refine s_icmp_lt (pc := 33) (tgt := 38) dX2_firstGapByTrying_33 (by decide) (fun _ => ?_) (fun _ => ?_)
        · refine s_inc (pc := 38) (v := 1) (L2 := [(1, .int a1), (2, va_rf a2)]) 3 [1, 2] dX2_firstGapByTrying_38 rfl (by decide) (by decide) rfl rfl (zcB (j := 1) rfl (zcat_rf a2) rfl) (fun x5 => ?_)
          refine s_goto (pc := 41) (tgt := 7) dX2_firstGapByTrying_41 (by decide) ?_
          exact s_sub (pc := 7) [1, 2, 0] rfl (ih a1 a2 x5 h4)
        · refine s_iload_n (pc := 36) 3 dX2_firstGapByTrying_36 rfl rfl ?_
          exact s_iret (pc := 37) dX2_firstGapByTrying_37 rfl
theorem w_X2_firstGapByTrying (v0 : Option Nat) (v1 : Int32) (h : zH) : zS D z yX2_firstGapByTrying cX2_firstGapByTrying 5 (some .int) [] 11 h 0 [(0, va_rf v0), (1, .int v1)] [] (f_X2_firstGapByTrying v0 v1 h) := by
  unfold f_X2_firstGapByTrying
  refine s_aload_n (pc := 0) 0 dX2_firstGapByTrying_0 rfl rfl ?_
  refine zS_ite (fun ht => ?_) (fun _ => zS_none)
  refine s_callV (pc := 1) (np := 0) (as := []) (rest := []) dX2_firstGapByTrying_1 ht (q := (RX2, TX2, 10)) rfl (c_X2_taken (by decide) v0 h) rfl rfl q385 q386 q387 rfl (by decide) (zkR (fun r1 h2 => ?_)) zxo
  refine s_ast_n (pc := 4) (L2 := [(1, .int v1)]) [1] dX2_firstGapByTrying_4 rfl (by decide) rfl rfl (zcB (j := 0) rfl rfl rfl) ?_
  refine s_iconst (pc := 5) (v := 0) dX2_firstGapByTrying_5 (by decide) ?_
  refine s_ist_n (pc := 6) (L2 := [(2, va_rf r1), (1, .int v1)]) [0, 1] dX2_firstGapByTrying_6 rfl (by decide) rfl rfl (zcB (j := 0) rfl (zcat_rf r1) rfl) ?_
  exact s_sub (pc := 7) [2, 1, 0] rfl (w_X2_firstGapByTrying_7 zfuel v1 r1 0 h2)
theorem c_X2_firstGapByTrying {d0 : Nat} (hd0 : 11 < d0) (v0 : Option Nat) (v1 : Int32) (h : zH) : zCal D z d0 h yX2_firstGapByTrying [va_rf v0, .int v1] (f_X2_firstGapByTrying v0 v1 h) :=
  ⟨cX2_firstGapByTrying, 5, (some .int), [], 11, (show lv_args 0 [va_rf v0, .int v1] = [(0, va_rf v0), (1, .int v1)] by simp [lv_args, zcat_rf, zcat_i, zcat_l, zcat_f, zcat_d]) ▸ w_X2_firstGapByTrying v0 v1 h, (plainFor_of_name (by decide)), by simp [lg_sl, zcat_rf, zcat_i, zcat_l, zcat_f, zcat_d], q384, q96, hd0, by decide, by decide⟩
theorem w_X1_lambda_new_3 (v0 : Option Nat) (v1 : Int32) (h : zH) : zS D z yX1_lambda_new_3 cX1_lambda_new_3 2 (some .int) [] 12 h 0 [(0, va_rf v0), (1, .int v1)] [] (f_X1_lambda_new_3 v0 v1 h) := by
  unfold f_X1_lambda_new_3
  refine s_aload_n (pc := 0) 0 dX1_lambda_new_3_0 rfl rfl ?_
  refine s_iload_n (pc := 1) 1 dX1_lambda_new_3_1 rfl rfl ?_
  refine zS_ite (fun ht => ?_) (fun _ => zS_none)
  refine s_callV (pc := 2) (np := 1) (as := [.int v1]) (rest := []) dX1_lambda_new_3_2 ht (q := (RX2, TX2, 10)) rfl (c_X2_firstGapByTrying (by decide) v0 v1 h) rfl rfl q381 q382 q383 rfl (by decide) (zkI (fun x1 h2 => ?_)) zxo
  exact s_iret (pc := 5) dX1_lambda_new_3_5 rfl
theorem c_X1_lambda_new_3 {d0 : Nat} (hd0 : 12 < d0) (v0 : Option Nat) (v1 : Int32) (h : zH) : zCal D z d0 h yX1_lambda_new_3 [va_rf v0, .int v1] (f_X1_lambda_new_3 v0 v1 h) :=
  ⟨cX1_lambda_new_3, 2, (some .int), [], 12, (show lv_args 0 [va_rf v0, .int v1] = [(0, va_rf v0), (1, .int v1)] by simp [lv_args, zcat_rf, zcat_i, zcat_l, zcat_f, zcat_d]) ▸ w_X1_lambda_new_3 v0 v1 h, (plainFor_of_name (by decide)), by simp [lg_sl, zcat_rf, zcat_i, zcat_l, zcat_f, zcat_d], q380, q95, hd0, by decide, by decide⟩
theorem w_J36_init (v0 : Option Nat) (h : zH) : zS D z yJ36_init cJ36_init 1 none [] 2 h 0 [(0, va_rf v0)] [] (f_J36_init v0 h) := by
  unfold f_J36_init
  refine s_aload_n (pc := 0) 0 dJ36_init_0 rfl rfl ?_
  refine zS_ite (fun hr => ?_) (fun _ => zS_none)
  refine s_callC (pc := 1) (np := 0) (as := []) (rest := []) dJ36_init_1 hr (c_J3_init (by decide) v0 h) ⟨_, _, q249⟩ rfl rfl rfl q1154 q248 rfl (by decide) (zkV (fun h1 => ?_)) zxo
  refine s_aload_n (pc := 4) 0 dJ36_init_4 rfl rfl ?_
  refine s_iconst (pc := 5) (v := 0) dJ36_init_5 (by decide) ?_
  refine s_putI (pc := 6) dJ36_init_6 pf_J36_7 (fun h2 => ?_)
  exact s_vret (pc := 9) dJ36_init_9 rfl
theorem c_J36_init {d0 : Nat} (hd0 : 2 < d0) (v0 : Option Nat) (h : zH) : zCal D z d0 h yJ36_init [va_rf v0] (f_J36_init v0 h) :=
  ⟨cJ36_init, 1, none, [], 2, (show lv_args 0 [va_rf v0] = [(0, va_rf v0)] by simp [lv_args, zcat_rf, zcat_i, zcat_l, zcat_f, zcat_d]) ▸ w_J36_init v0 h, (plainFor_of_name (by decide)), by simp [lg_sl, zcat_rf, zcat_i, zcat_l, zcat_f, zcat_d], q1153, q135, hd0, by decide, by decide⟩
theorem w_J37_init (v0 : Option Nat) (v1 : Int32) (h : zH) : zS D z yJ37_init cJ37_init 2 none [] 3 h 0 [(0, va_rf v0), (1, .int v1)] [] (f_J37_init v0 v1 h) := by
  unfold f_J37_init
  refine s_aload_n (pc := 0) 0 dJ37_init_0 rfl rfl ?_
  refine zS_ite (fun hr => ?_) (fun _ => zS_none)
  refine s_callC (pc := 1) (np := 0) (as := []) (rest := []) dJ37_init_1 hr (c_J36_init (by decide) v0 h) ⟨_, _, q1153⟩ rfl rfl rfl q1151 q1152 rfl (by decide) (zkV (fun h1 => ?_)) zxo
  refine s_iload_n (pc := 4) 1 dJ37_init_4 rfl rfl ?_
  refine s_if_le (pc := 5) (tgt := 19) dJ37_init_5 (by decide) (fun _ => ?_) (fun _ => ?_)
  · refine s_iload_n (pc := 19) 1 dJ37_init_19 rfl rfl ?_
    refine s_if_ne (pc := 20) (tgt := 33) dJ37_init_20 (by decide) (fun _ => ?_) (fun _ => ?_)
    · exact zS_none
    · refine s_aload_n (pc := 23) 0 dJ37_init_23 rfl rfl ?_
      refine s_getsR (pc := 24) (n := "EMPTY_ELEMENTDATA") (i := 3) dJ37_init_24 (List.mem_of_getElem? (i := 4) rfl) q1156 ?_
      refine s_putA (pc := 27) dJ37_init_27 pf_J37_9 (fun h2 => ?_)
      refine s_goto (pc := 30) (tgt := 60) dJ37_init_30 (by decide) ?_
      exact s_vret (pc := 60) dJ37_init_60 rfl
  · refine s_aload_n (pc := 8) 0 dJ37_init_8 rfl rfl ?_
    refine s_iload_n (pc := 9) 1 dJ37_init_9 rfl rfl ?_
    refine s_newq (pc := 10) (E := "java/lang/Object") dJ37_init_10 ⟨rfl, by decide⟩ q1155 q311 (fun r3 h4 => ?_)
    refine s_putA (pc := 13) dJ37_init_13 pf_J37_9 (fun h5 => ?_)
    refine s_goto (pc := 16) (tgt := 60) dJ37_init_16 (by decide) ?_
    exact s_vret (pc := 60) dJ37_init_60 rfl
theorem c_J37_init {d0 : Nat} (hd0 : 3 < d0) (v0 : Option Nat) (v1 : Int32) (h : zH) : zCal D z d0 h yJ37_init [va_rf v0, .int v1] (f_J37_init v0 v1 h) :=
  ⟨cJ37_init, 2, none, [], 3, (show lv_args 0 [va_rf v0, .int v1] = [(0, va_rf v0), (1, .int v1)] by simp [lv_args, zcat_rf, zcat_i, zcat_l, zcat_f, zcat_d]) ▸ w_J37_init v0 v1 h, (plainFor_of_name (by decide)), by simp [lg_sl, zcat_rf, zcat_i, zcat_l, zcat_f, zcat_d], q1150, q136, hd0, by decide, by decide⟩
theorem w_J37_size (v0 : Option Nat) (h : zH) : zS D z yJ37_size cJ37_size 1 (some .int) [] 1 h 0 [(0, va_rf v0)] [] (f_J37_size v0 h) := by
  unfold f_J37_size
  refine s_aload_n (pc := 0) 0 dJ37_size_0 rfl rfl ?_
  refine s_gI (pc := 1) dJ37_size_1 gf_J37_48 (fun x1 => ?_)
  exact s_iret (pc := 4) dJ37_size_4 rfl
theorem c_J37_size {d0 : Nat} (hd0 : 1 < d0) (v0 : Option Nat) (h : zH) : zCal D z d0 h yJ37_size [va_rf v0] (f_J37_size v0 h) :=
  ⟨cJ37_size, 1, (some .int), [], 1, (show lv_args 0 [va_rf v0] = [(0, va_rf v0)] by simp [lv_args, zcat_rf, zcat_i, zcat_l, zcat_f, zcat_d]) ▸ w_J37_size v0 h, (plainFor_of_name (by decide)), by simp [lg_sl, zcat_rf, zcat_i, zcat_l, zcat_f, zcat_d], q1188, q136, hd0, by decide, by decide⟩
theorem w_J32_checkIndex_9 (a0 : Int32) (a1 : Int32) (a2 : Option Nat) (h : zH) : zS D z yJ32_checkIndex cJ32_checkIndex 3 (some .int) [] 1 h 9 [(0, .int a0), (1, .int a1), (2, va_rf a2)] [] (f_J32_checkIndex_9 a0 a1 a2 h) := by
  unfold f_J32_checkIndex_9
  refine s_aload_n (pc := 9) 2 dJ32_checkIndex_9 rfl rfl ?_
  refine s_iload_n (pc := 10) 0 dJ32_checkIndex_10 rfl rfl ?_
  refine s_iload_n (pc := 11) 1 dJ32_checkIndex_11 rfl rfl ?_
  exact zS_none
theorem w_J32_checkIndex (v0 : Int32) (v1 : Int32) (v2 : Option Nat) (h : zH) : zS D z yJ32_checkIndex cJ32_checkIndex 3 (some .int) [] 1 h 0 [(0, .int v0), (1, .int v1), (2, va_rf v2)] [] (f_J32_checkIndex v0 v1 v2 h) := by
  unfold f_J32_checkIndex
  refine s_iload_n (pc := 0) 0 dJ32_checkIndex_0 rfl rfl ?_
  refine s_if_lt (pc := 1) (tgt := 9) dJ32_checkIndex_1 (by decide) (fun _ => ?_) (fun _ => ?_)
  · exact s_sub (pc := 9) [0, 1, 2] rfl (w_J32_checkIndex_9 v0 v1 v2 h)
  · refine s_iload_n (pc := 4) 0 dJ32_checkIndex_4 rfl rfl ?_
    refine s_iload_n (pc := 5) 1 dJ32_checkIndex_5 rfl rfl ?_
    refine s_icmp_lt (pc := 6) (tgt := 16) dJ32_checkIndex_6 (by decide) (fun _ => ?_) (fun _ => ?_)
    · refine s_iload_n (pc := 16) 0 dJ32_checkIndex_16 rfl rfl ?_
      exact s_iret (pc := 17) dJ32_checkIndex_17 rfl
    · exact s_sub (pc := 9) [0, 1, 2] rfl (w_J32_checkIndex_9 v0 v1 v2 h)
theorem c_J32_checkIndex {d0 : Nat} (hd0 : 1 < d0) (v0 : Int32) (v1 : Int32) (v2 : Option Nat) (h : zH) : zCal D z d0 h yJ32_checkIndex [.int v0, .int v1, va_rf v2] (f_J32_checkIndex v0 v1 v2 h) :=
  ⟨cJ32_checkIndex, 3, (some .int), [], 1, (show lv_args 0 [.int v0, .int v1, va_rf v2] = [(0, .int v0), (1, .int v1), (2, va_rf v2)] by simp [lv_args, zcat_rf, zcat_i, zcat_l, zcat_f, zcat_d]) ▸ w_J32_checkIndex v0 v1 v2 h, (plainFor_of_name (by decide)), by simp [lg_sl, zcat_rf, zcat_i, zcat_l, zcat_f, zcat_d], q1198, q131, hd0, by decide, by decide⟩
theorem w_J38_checkIndex (v0 : Int32) (v1 : Int32) (h : zH) : zS D z yJ38_checkIndex cJ38_checkIndex 2 (some .int) [] 2 h 0 [(0, .int v0), (1, .int v1)] [] (f_J38_checkIndex v0 v1 h) := by
  unfold f_J38_checkIndex
  refine s_iload_n (pc := 0) 0 dJ38_checkIndex_0 rfl rfl ?_
  refine s_iload_n (pc := 1) 1 dJ38_checkIndex_1 rfl rfl ?_
  refine s_null (pc := 2) dJ38_checkIndex_2 ?_
  refine s_callSS (pc := 3) (np := 3) (as := [.int v0, .int v1, va_rf none]) (rest := []) dJ38_checkIndex_3 (c_J32_checkIndex (by decide) v0 v1 none h) rfl rfl q1196 q1197 rfl (by decide) (zkI (fun x1 h2 => ?_)) zxo
  exact s_iret (pc := 6) dJ38_checkIndex_6 rfl
theorem c_J38_checkIndex {d0 : Nat} (hd0 : 2 < d0) (v0 : Int32) (v1 : Int32) (h : zH) : zCal D z d0 h yJ38_checkIndex [.int v0, .int v1] (f_J38_checkIndex v0 v1 h) :=
  ⟨cJ38_checkIndex, 2, (some .int), [], 2, (show lv_args 0 [.int v0, .int v1] = [(0, .int v0), (1, .int v1)] by simp [lv_args, zcat_rf, zcat_i, zcat_l, zcat_f, zcat_d]) ▸ w_J38_checkIndex v0 v1 h, (plainFor_of_name (by decide)), by simp [lg_sl, zcat_rf, zcat_i, zcat_l, zcat_f, zcat_d], q1195, q137, hd0, by decide, by decide⟩
theorem w_J37_elementData (v0 : Option Nat) (v1 : Int32) (h : zH) : zS D z yJ37_elementData cJ37_elementData 2 (some (.object "java/lang/Object")) [] 1 h 0 [(0, va_rf v0), (1, .int v1)] [] (f_J37_elementData v0 v1 h) := by
  unfold f_J37_elementData
  refine s_aload_n (pc := 0) 0 dJ37_elementData_0 rfl rfl ?_
  refine s_gR (pc := 1) dJ37_elementData_1 gf_J37_9 (fun r1 => ?_)
  refine s_iload_n (pc := 4) 1 dJ37_elementData_4 rfl rfl ?_
  refine s_aald (pc := 5) dJ37_elementData_5 zrefs_ok (fun r2 => ?_)
  exact s_aret (pc := 6) dJ37_elementData_6 rfl (Or.inl ⟨_, rfl⟩)
theorem c_J37_elementData {d0 : Nat} (hd0 : 1 < d0) (v0 : Option Nat) (v1 : Int32) (h : zH) : zCal D z d0 h yJ37_elementData [va_rf v0, .int v1] (f_J37_elementData v0 v1 h) :=
  ⟨cJ37_elementData, 2, (some (.object "java/lang/Object")), [], 1, (show lv_args 0 [va_rf v0, .int v1] = [(0, va_rf v0), (1, .int v1)] by simp [lv_args, zcat_rf, zcat_i, zcat_l, zcat_f, zcat_d]) ▸ w_J37_elementData v0 v1 h, (plainFor_of_name (by decide)), by simp [lg_sl, zcat_rf, zcat_i, zcat_l, zcat_f, zcat_d], q1202, q136, hd0, by decide, by decide⟩
theorem w_J37_get (v0 : Option Nat) (v1 : Int32) (h : zH) : zS D z yJ37_get cJ37_get 2 (some (.object "java/lang/Object")) [] 3 h 0 [(0, va_rf v0), (1, .int v1)] [] (f_J37_get v0 v1 h) := by
  unfold f_J37_get
  refine s_iload_n (pc := 0) 1 dJ37_get_0 rfl rfl ?_
  refine s_aload_n (pc := 1) 0 dJ37_get_1 rfl rfl ?_
  refine s_gI (pc := 2) dJ37_get_2 gf_J37_48 (fun x1 => ?_)
  refine s_callSS (pc := 5) (np := 2) (as := [.int v1, .int x1]) (rest := []) dJ37_get_5 (c_J38_checkIndex (by decide) v1 x1 h) rfl rfl q1193 q1194 rfl (by decide) (zkI (fun x2 h3 => ?_)) zxo
  refine s_pop (pc := 8) dJ37_get_8 rfl ?_
  refine s_aload_n (pc := 9) 0 dJ37_get_9 rfl rfl ?_
  refine s_iload_n (pc := 10) 1 dJ37_get_10 rfl rfl ?_
  refine zS_ite (fun ht => ?_) (fun _ => zS_none)
  refine s_callV (pc := 11) (np := 1) (as := [.int v1]) (rest := []) dJ37_get_11 ht (q := (RJ37, TJ37, 3)) rfl (c_J37_elementData (by decide) v0 v1 h3) rfl rfl q1199 q1200 q1201 rfl (by decide) (zkR (fun r4 h5 => ?_)) zxo
  exact s_aret (pc := 14) dJ37_get_14 rfl (Or.inl ⟨_, rfl⟩)
theorem c_J37_get {d0 : Nat} (hd0 : 3 < d0) (v0 : Option Nat) (v1 : Int32) (h : zH) : zCal D z d0 h yJ37_get [va_rf v0, .int v1] (f_J37_get v0 v1 h) :=
  ⟨cJ37_get, 2, (some (.object "java/lang/Object")), [], 3, (show lv_args 0 [va_rf v0, .int v1] = [(0, va_rf v0), (1, .int v1)] by simp [lv_args, zcat_rf, zcat_i, zcat_l, zcat_f, zcat_d]) ▸ w_J37_get v0 v1 h, (plainFor_of_name (by decide)), by simp [lg_sl, zcat_rf, zcat_i, zcat_l, zcat_f, zcat_d], q1192, q136, hd0, by decide, by decide⟩
theorem w_J37_rangeCheckForAdd_12 (a0 : Option Nat) (a1 : Int32) (h : zH) : zS D z yJ37_rangeCheckForAdd cJ37_rangeCheckForAdd 2 none [] 1 h 12 [(0, va_rf a0), (1, .int a1)] [] (f_J37_rangeCheckForAdd_12 a0 a1 h) := by
  unfold f_J37_rangeCheckForAdd_12
  exact zS_none
theorem w_J37_rangeCheckForAdd (v0 : Option Nat) (v1 : Int32) (h : zH) : zS D z yJ37_rangeCheckForAdd cJ37_rangeCheckForAdd 2 none [] 1 h 0 [(0, va_rf v0), (1, .int v1)] [] (f_J37_rangeCheckForAdd v0 v1 h) := by
  unfold f_J37_rangeCheckForAdd
  refine s_iload_n (pc := 0) 1 dJ37_rangeCheckForAdd_0 rfl rfl ?_
  refine s_aload_n (pc := 1) 0 dJ37_rangeCheckForAdd_1 rfl rfl ?_
  refine s_gI (pc := 2) dJ37_rangeCheckForAdd_2 gf_J37_48 (fun x1 => ?_)
  refine s_icmp_gt (pc := 5) (tgt := 12) dJ37_rangeCheckForAdd_5 (by decide) (fun _ => ?_) (fun _ => ?_)
  · exact s_sub (pc := 12) [0, 1] rfl (w_J37_rangeCheckForAdd_12 v0 v1 h)
  · refine s_iload_n (pc := 8) 1 dJ37_rangeCheckForAdd_8 rfl rfl ?_
    refine s_if_ge (pc := 9) (tgt := 25) dJ37_rangeCheckForAdd_9 (by decide) (fun _ => ?_) (fun _ => ?_)
    · exact s_vret (pc := 25) dJ37_rangeCheckForAdd_25 rfl
    · exact s_sub (pc := 12) [0, 1] rfl (w_J37_rangeCheckForAdd_12 v0 v1 h)
theorem c_J37_rangeCheckForAdd {d0 : Nat} (hd0 : 1 < d0) (v0 : Option Nat) (v1 : Int32) (h : zH) : zCal D z d0 h yJ37_rangeCheckForAdd [va_rf v0, .int v1] (f_J37_rangeCheckForAdd v0 v1 h) :=
  ⟨cJ37_rangeCheckForAdd, 2, none, [], 1, (show lv_args 0 [va_rf v0, .int v1] = [(0, va_rf v0), (1, .int v1)] by simp [lv_args, zcat_rf, zcat_i, zcat_l, zcat_f, zcat_d]) ▸ w_J37_rangeCheckForAdd v0 v1 h, (plainFor_of_name (by decide)), by simp [lg_sl, zcat_rf, zcat_i, zcat_l, zcat_f, zcat_d], q1210, q136, hd0, by decide, by decide⟩
theorem w_J37_add_38 (a0 : Option Nat) (a1 : Int32) (a2 : Option Nat) (a3 : Int32) (a4 : Option Nat) (h : zH) : zS D z yJ37_add cJ37_add 5 none [] 2 h 38 [(0, va_rf a0), (1, .int a1), (2, va_rf a2), (3, .int a3), (4, va_rf a4)] [] (f_J37_add_38 a0 a1 a2 a3 a4 h) := by
  unfold f_J37_add_38
  refine s_aload (pc := 38) 4 dJ37_add_38 rfl ?_
  refine s_iload_n (pc := 40) 1 dJ37_add_40 rfl rfl ?_
  refine s_aload (pc := 41) 4 dJ37_add_41 rfl ?_
  refine s_iload_n (pc := 43) 1 dJ37_add_43 rfl rfl ?_
  refine s_iconst (pc := 44) (v := 1) dJ37_add_44 (by decide) ?_
  refine s_iadd (pc := 45) dJ37_add_45 ?_
  refine s_iload_n (pc := 46) 3 dJ37_add_46 rfl rfl ?_
  refine s_iload_n (pc := 47) 1 dJ37_add_47 rfl rfl ?_
  refine s_isub (pc := 48) dJ37_add_48 ?_
  refine s_acpR (pc := 49) dJ37_add_49 q1285 ⟨rfl, by decide⟩ zcs_java_lang_Object (by decide) (by decide) (fun h9 => ?_)
  refine s_aload (pc := 52) 4 dJ37_add_52 rfl ?_
  refine s_iload_n (pc := 54) 1 dJ37_add_54 rfl rfl ?_
  refine s_aload_n (pc := 55) 2 dJ37_add_55 rfl rfl ?_
  refine s_aast (pc := 56) dJ37_add_56 (ztc ⟨rfl, by decide⟩ zt0) zcs_java_lang_Object (fun h10 => ?_)
  refine s_aload_n (pc := 57) 0 dJ37_add_57 rfl rfl ?_
  refine s_iload_n (pc := 58) 3 dJ37_add_58 rfl rfl ?_
  refine s_iconst (pc := 59) (v := 1) dJ37_add_59 (by decide) ?_
  refine s_iadd (pc := 60) dJ37_add_60 ?_
  refine s_putI (pc := 61) dJ37_add_61 pf_J37_48 (fun h11 => ?_)
  exact s_vret (pc := 64) dJ37_add_64 rfl
theorem w_J37_add (v0 : Option Nat) (v1 : Int32) (v2 : Option Nat) (h : zH) : zS D z yJ37_add cJ37_add 5 none [] 2 h 0 [(0, va_rf v0), (1, .int v1), (2, va_rf v2)] [] (f_J37_add v0 v1 v2 h) := by
  unfold f_J37_add
  refine s_aload_n (pc := 0) 0 dJ37_add_0 rfl rfl ?_
  refine s_iload_n (pc := 1) 1 dJ37_add_1 rfl rfl ?_
  refine zS_ite (fun ht => ?_) (fun _ => zS_none)
  refine s_callV (pc := 2) (np := 1) (as := [.int v1]) (rest := []) dJ37_add_2 ht (q := (RJ37, TJ37, 3)) rfl (c_J37_rangeCheckForAdd (by decide) v0 v1 h) rfl rfl q1207 q1209 qs5 rfl (by decide) (zkV (fun h1 => ?_)) zxo
  refine s_aload_n (pc := 5) 0 dJ37_add_5 rfl rfl ?_
  refine s_dup (pc := 6) dJ37_add_6 (zcat_rf _) ?_
  refine s_gI (pc := 7) dJ37_add_7 gf_J37_63 (fun x2 => ?_)
  refine s_iconst (pc := 10) (v := 1) dJ37_add_10 (by decide) ?_
  refine s_iadd (pc := 11) dJ37_add_11 ?_
  refine s_putI (pc := 12) dJ37_add_12 pf_J37_63 (fun h3 => ?_)
  refine s_aload_n (pc := 15) 0 dJ37_add_15 rfl rfl ?_
  refine s_gI (pc := 16) dJ37_add_16 gf_J37_48 (fun x4 => ?_)
  refine s_dup (pc := 19) dJ37_add_19 rfl ?_
  refine s_ist_n (pc := 20) (L2 := [(0, va_rf v0), (1, .int v1), (2, va_rf v2)]) [0, 1, 2] dJ37_add_20 rfl (by decide) rfl rfl (zcB (j := 2) rfl (zcat_rf v2) rfl) ?_
  refine s_aload_n (pc := 21) 1 dJ37_add_21 rfl rfl ?_
  refine s_gR (pc := 22) dJ37_add_22 gf_J37_9 (fun r5 => ?_)
  refine s_dup (pc := 25) dJ37_add_25 (zcat_rf _) ?_
  refine s_ast (pc := 26) (L2 := [(3, .int x4), (0, va_rf v0), (1, .int v1), (2, va_rf v2)]) [0, 1, 2, 3] dJ37_add_26 (by decide) rfl rfl (zcB (j := 0) rfl rfl rfl) ?_
  refine s_alen (pc := 28) dJ37_add_28 zarrs_ok (fun x6 => ?_)
  refine s_icmp_ne (pc := 29) (tgt := 38) dJ37_add_29 (by decide) (fun _ => ?_) (fun _ => ?_)
  · exact s_sub (pc := 38) [2, 3, 4, 1, 0] rfl (w_J37_add_38 v0 v1 v2 x4 r5 h3)
  · refine s_aload_n (pc := 32) 2 dJ37_add_32 rfl rfl ?_
    exact zS_none
theorem c_J37_add {d0 : Nat} (hd0 : 2 < d0) (v0 : Option Nat) (v1 : Int32) (v2 : Option Nat) (h : zH) : zCal D z d0 h yJ37_add [va_rf v0, .int v1, va_rf v2] (f_J37_add v0 v1 v2 h) :=
  ⟨cJ37_add, 5, none, [], 2, (show lv_args 0 [va_rf v0, .int v1, va_rf v2] = [(0, va_rf v0), (1, .int v1), (2, va_rf v2)] by simp [lv_args, zcat_rf, zcat_i, zcat_l, zcat_f, zcat_d]) ▸ w_J37_add v0 v1 v2 h, (plainFor_of_name (by decide)), by simp [lg_sl, zcat_rf, zcat_i, zcat_l, zcat_f, zcat_d], q1206, q136, hd0, by decide, by decide⟩
theorem w_X2_shipsByPosition_99 (K23 : Option Nat → Option Nat → zH → zO) (hK23 : ∀ (a1 : Option Nat) (a2 : Option Nat) (h : zH), zS D z yX2_shipsByPosition cX2_shipsByPosition 5 (some (.object "java/util/ArrayList")) [] 10 h 23 [(1, va_rf a1), (2, va_rf a2)] [] (K23 a1 a2 h)) (a1 : Option Nat) (a2 : Option Nat) (h : zH) : zS D z yX2_shipsByPosition cX2_shipsByPosition 5 (some (.object "java/util/ArrayList")) [] 10 h 99 [(1, va_rf a1), (2, va_rf a2)] [] (f_X2_shipsByPosition_99 K23 a1 a2 h) := by
  unfold f_X2_shipsByPosition_99
  refine s_goto (pc := 99) (tgt := 23) dX2_shipsByPosition_99 (by decide) ?_
  exact s_sub (pc := 23) [0, 1] rfl (hK23 a1 a2 h)
theorem w_X2_shipsByPosition_92 (K23 : Option Nat → Option Nat → zH → zO) (hK23 : ∀ (a1 : Option Nat) (a2 : Option Nat) (h : zH), zS D z yX2_shipsByPosition cX2_shipsByPosition 5 (some (.object "java/util/ArrayList")) [] 10 h 23 [(1, va_rf a1), (2, va_rf a2)] [] (K23 a1 a2 h)) (a1 : Option Nat) (a2 : Option Nat) (a3 : Option Nat) (a4 : Int32) (h : zH) : zS D z yX2_shipsByPosition cX2_shipsByPosition 5 (some (.object "java/util/ArrayList")) [] 10 h 92 [(1, va_rf a1), (2, va_rf a2), (3, va_rf a3), (4, .int a4)] [] (f_X2_shipsByPosition_92 K23 a1 a2 a3 a4 h) := by
  unfold f_X2_shipsByPosition_92
  refine s_aload_n (pc := 92) 0 dX2_shipsByPosition_92 rfl rfl ?_
  refine s_iload (pc := 93) 3 dX2_shipsByPosition_93 rfl ?_
  refine s_aload_n (pc := 95) 2 dX2_shipsByPosition_95 rfl rfl ?_
  refine zS_ite (fun ht => ?_) (fun _ => zS_none)
  refine s_callV (pc := 96) (np := 2) (as := [.int a4, va_rf a3]) (rest := []) dX2_shipsByPosition_96 ht (q := (RJ37, TJ37, 3)) rfl (c_J37_add (by decide) a1 a4 a3 h) rfl rfl q1203 q1204 q1205 rfl (by decide) (zkV (fun h80 => ?_)) zxo
  exact s_sub (pc := 99) [0, 1] rfl (w_X2_shipsByPosition_99 K23 hK23 a1 a2 h80)
theorem w_X2_shipsByPosition_52 (K23 : Option Nat → Option Nat → zH → zO) (hK23 : ∀ (a1 : Option Nat) (a2 : Option Nat) (h : zH), zS D z yX2_shipsByPosition cX2_shipsByPosition 5 (some (.object "java/util/ArrayList")) [] 10 h 23 [(1, va_rf a1), (2, va_rf a2)] [] (K23 a1 a2 h)) : ∀ (n : Nat) (a1 : Option Nat) (a2 : Option Nat) (a3 : Option Nat) (a4 : Int32) (h : zH), zS D z yX2_shipsByPosition cX2_shipsByPosition 5 (some (.object "java/util/ArrayList")) [] 10 h 52 [(1, va_rf a1), (2, va_rf a2), (3, va_rf a3), (4, .int a4)] [] (f_X2_shipsByPosition_52 K23 n a1 a2 a3 a4 h) := by
  intro n
  induction n with
  | zero => intros; exact zS_none
  | succ n ih =>
    intro a1 a2 a3 a4 h
    rw [f_X2_shipsByPosition_52.eq_2]
    refine s_iload (pc := 52) 3 dX2_shipsByPosition_52 rfl ?_
    refine s_aload_n (pc := 54) 0 dX2_shipsByPosition_54 rfl rfl ?_
    refine zS_ite (fun ht => ?_) (fun _ => zS_none)
    refine s_callV (pc := 55) (np := 0) (as := []) (rest := [.int a4]) dX2_shipsByPosition_55 ht (q := (RJ37, TJ37, 3)) rfl (c_J37_size (by decide) a1 h) rfl rfl q1185 q1186 q1187 rfl (by simp [zcat_rf, zcat_i, zcat_l, zcat_f, zcat_d]) (zkI (fun x71 h72 => ?_)) zxo
    refine s_icmp_ge (pc := 58) (tgt := 92) dX2_shipsByPosition_58 (by decide) (fun _ => ?_) (fun _ => ?_)
    · exact s_sub (pc := 92) [0, 1, 2, 3] rfl (w_X2_shipsByPosition_92 K23 hK23 a1 a2 a3 a4 h72)
    · refine s_aload_n (pc := 61) 0 dX2_shipsByPosition_61 rfl rfl ?_
      refine s_iload (pc := 62) 3 dX2_shipsByPosition_62 rfl ?_
      refine zS_ite (fun ht => ?_) (fun _ => zS_none)
      refine s_callV (pc := 64) (np := 1) (as := [.int a4]) (rest := []) dX2_shipsByPosition_64 ht (q := (RJ37, TJ37, 3)) rfl (c_J37_get (by decide) a1 a4 h72) rfl rfl q1189 q1190 q1191 rfl (by decide) (zkR (fun r73 h74 => ?_)) zxo
      refine s_cast (pc := 67) dX2_shipsByPosition_67 q836 zcs_FloatingDock_Ship ?_
      refine s_gR (pc := 70) dX2_shipsByPosition_70 gf_X2_144 (fun r75 => ?_)
      refine s_gI (pc := 73) dX2_shipsByPosition_73 gf_X2_148 (fun x76 => ?_)
      refine s_aload_n (pc := 76) 2 dX2_shipsByPosition_76 rfl rfl ?_
      refine s_gR (pc := 77) dX2_shipsByPosition_77 gf_X2_144 (fun r77 => ?_)
      refine s_gI (pc := 80) dX2_shipsByPosition_80 gf_X2_148 (fun x78 => ?_)
      refine s_icmp_ge (pc := 83) (tgt := 92) dX2_shipsByPosition_83 (by decide) (fun _ => ?_) (fun _ => ?_)
      · exact s_sub (pc := 92) [0, 1, 2, 3] rfl (w_X2_shipsByPosition_92 K23 hK23 a1 a2 a3 a4 h74)
      · refine s_inc (pc := 86) (v := 1) (L2 := [(1, va_rf a1), (2, va_rf a2), (3, va_rf a3)]) 3 [0, 1, 2] dX2_shipsByPosition_86 rfl (by decide) (by decide) rfl rfl (zcB (j := 2) rfl (zcat_rf a3) rfl) (fun x79 => ?_)
        refine s_goto (pc := 89) (tgt := 52) dX2_shipsByPosition_89 (by decide) ?_
        exact s_sub (pc := 52) [1, 2, 3, 0] rfl (ih a1 a2 a3 x79 h74)
theorem w_X2_shipsByPosition_23 : ∀ (n : Nat) (a1 : Option Nat) (a2 : Option Nat) (h : zH), zS D z yX2_shipsByPosition cX2_shipsByPosition 5 (some (.object "java/util/ArrayList")) [] 10 h 23 [(1, va_rf a1), (2, va_rf a2)] [] (f_X2_shipsByPosition_23 n a1 a2 h) := by
  intro n
  induction n with
  | zero => intros; exact zS_none
  | succ n ih =>
    intro a1 a2 h
    rw [f_X2_shipsByPosition_23.eq_2]
    refine s_aload_n (pc := 23) 1 dX2_shipsByPosition_23 rfl rfl ?_
    refine zS_ite (fun ht => ?_) (fun _ => ?_)
    · refine s_callF (pc := 24) (np := 0) (as := []) (rest := []) dX2_shipsByPosition_24 ht (q := (RX9, TX9, 2)) rfl (c_X9_hasNext (by decide) a2 h) ⟨_, _, _, q637⟩ rfl rfl q629 (by decide +kernel) q635 q633 rfl (by decide) (zkI (fun x9 h10 => ?_)) zxo
      refine s_if_eq (pc := 29) (tgt := 102) dX2_shipsByPosition_29 (by decide) (fun _ => ?_) (fun _ => ?_)
      · refine s_aload_n (pc := 102) 0 dX2_shipsByPosition_102 rfl rfl ?_
        exact s_aret (pc := 103) dX2_shipsByPosition_103 rfl (Or.inl ⟨_, rfl⟩)
      · refine s_aload_n (pc := 32) 1 dX2_shipsByPosition_32 rfl rfl ?_
        refine zS_ite (fun ht => ?_) (fun _ => ?_)
        · refine s_callF (pc := 33) (np := 0) (as := []) (rest := []) dX2_shipsByPosition_33 ht (q := (RX9, TX9, 2)) rfl (c_X9_next (by decide) a2 h10) ⟨_, _, _, q677⟩ rfl rfl q670 (by decide +kernel) q675 q673 rfl (by decide) (zkR (fun r11 h12 => ?_)) zxo
          refine s_cast (pc := 38) dX2_shipsByPosition_38 q836 zcs_FloatingDock_Ship ?_
          refine s_ast_n (pc := 41) (L2 := [(1, va_rf a1), (2, va_rf a2)]) [0, 1] dX2_shipsByPosition_41 rfl (by decide) rfl rfl (zcB (j := 1) rfl (zcat_rf a2) rfl) ?_
          refine s_aload_n (pc := 42) 0 dX2_shipsByPosition_42 rfl rfl ?_
          refine zS_ite (fun ht => ?_) (fun _ => zS_none)
          refine s_callV (pc := 43) (np := 0) (as := []) (rest := []) dX2_shipsByPosition_43 ht (q := (RX6, TX6, 9)) rfl (c_X6_isInDock (by decide) r11 h12) rfl rfl q837 q367 q368 rfl (by decide) (zkI (fun x13 h14 => ?_)) zxo
          refine s_if_eq (pc := 46) (tgt := 99) dX2_shipsByPosition_46 (by decide) (fun _ => ?_) (fun _ => ?_)
          · exact s_sub (pc := 99) [1, 2] rfl (w_X2_shipsByPosition_99 (f_X2_shipsByPosition_23 n) ih a1 a2 h14)
          · refine s_iconst (pc := 49) (v := 0) dX2_shipsByPosition_49 (by decide) ?_
            refine s_ist (pc := 50) (L2 := [(3, va_rf r11), (1, va_rf a1), (2, va_rf a2)]) [0, 1, 2] dX2_shipsByPosition_50 (by decide) rfl rfl (zcB (j := 0) rfl (zcat_rf r11) rfl) ?_
            exact s_sub (pc := 52) [2, 3, 1, 0] rfl (w_X2_shipsByPosition_52 (f_X2_shipsByPosition_23 n) ih zfuel a1 a2 r11 0 h14)
        refine zS_ite (fun ht => ?_) (fun _ => ?_)
        · refine s_callF (pc := 33) (np := 0) (as := []) (rest := []) dX2_shipsByPosition_33 ht (q := (RJ15, TJ15, 4)) rfl (c_J15_next (by decide) a2 h10) ⟨_, _, _, q788⟩ rfl rfl q670 (by decide +kernel) q786 q784 rfl (by decide) (zkR (fun r11 h12 => ?_)) zxo
          refine s_cast (pc := 38) dX2_shipsByPosition_38 q836 zcs_FloatingDock_Ship ?_
          refine s_ast_n (pc := 41) (L2 := [(1, va_rf a1), (2, va_rf a2)]) [0, 1] dX2_shipsByPosition_41 rfl (by decide) rfl rfl (zcB (j := 1) rfl (zcat_rf a2) rfl) ?_
          refine s_aload_n (pc := 42) 0 dX2_shipsByPosition_42 rfl rfl ?_
          refine zS_ite (fun ht => ?_) (fun _ => zS_none)
          refine s_callV (pc := 43) (np := 0) (as := []) (rest := []) dX2_shipsByPosition_43 ht (q := (RX6, TX6, 9)) rfl (c_X6_isInDock (by decide) r11 h12) rfl rfl q837 q367 q368 rfl (by decide) (zkI (fun x15 h16 => ?_)) zxo
          refine s_if_eq (pc := 46) (tgt := 99) dX2_shipsByPosition_46 (by decide) (fun _ => ?_) (fun _ => ?_)
          · exact s_sub (pc := 99) [1, 2] rfl (w_X2_shipsByPosition_99 (f_X2_shipsByPosition_23 n) ih a1 a2 h16)
          · refine s_iconst (pc := 49) (v := 0) dX2_shipsByPosition_49 (by decide) ?_
            refine s_ist (pc := 50) (L2 := [(3, va_rf r11), (1, va_rf a1), (2, va_rf a2)]) [0, 1, 2] dX2_shipsByPosition_50 (by decide) rfl rfl (zcB (j := 0) rfl (zcat_rf r11) rfl) ?_
            exact s_sub (pc := 52) [2, 3, 1, 0] rfl (w_X2_shipsByPosition_52 (f_X2_shipsByPosition_23 n) ih zfuel a1 a2 r11 0 h16)
        refine zS_ite (fun ht => ?_) (fun _ => ?_)
        · refine s_callF (pc := 33) (np := 0) (as := []) (rest := []) dX2_shipsByPosition_33 ht (q := (RJ17, TJ17, 5)) rfl (c_J17_next (by decide) a2 h10) ⟨_, _, _, q799⟩ rfl rfl q670 (by decide +kernel) q797 q795 rfl (by decide) (zkR (fun r11 h12 => ?_)) zxo
          refine s_cast (pc := 38) dX2_shipsByPosition_38 q836 zcs_FloatingDock_Ship ?_
          refine s_ast_n (pc := 41) (L2 := [(1, va_rf a1), (2, va_rf a2)]) [0, 1] dX2_shipsByPosition_41 rfl (by decide) rfl rfl (zcB (j := 1) rfl (zcat_rf a2) rfl) ?_
          refine s_aload_n (pc := 42) 0 dX2_shipsByPosition_42 rfl rfl ?_
          refine zS_ite (fun ht => ?_) (fun _ => zS_none)
          refine s_callV (pc := 43) (np := 0) (as := []) (rest := []) dX2_shipsByPosition_43 ht (q := (RX6, TX6, 9)) rfl (c_X6_isInDock (by decide) r11 h12) rfl rfl q837 q367 q368 rfl (by decide) (zkI (fun x17 h18 => ?_)) zxo
          refine s_if_eq (pc := 46) (tgt := 99) dX2_shipsByPosition_46 (by decide) (fun _ => ?_) (fun _ => ?_)
          · exact s_sub (pc := 99) [1, 2] rfl (w_X2_shipsByPosition_99 (f_X2_shipsByPosition_23 n) ih a1 a2 h18)
          · refine s_iconst (pc := 49) (v := 0) dX2_shipsByPosition_49 (by decide) ?_
            refine s_ist (pc := 50) (L2 := [(3, va_rf r11), (1, va_rf a1), (2, va_rf a2)]) [0, 1, 2] dX2_shipsByPosition_50 (by decide) rfl rfl (zcB (j := 0) rfl (zcat_rf r11) rfl) ?_
            exact s_sub (pc := 52) [2, 3, 1, 0] rfl (w_X2_shipsByPosition_52 (f_X2_shipsByPosition_23 n) ih zfuel a1 a2 r11 0 h18)
        refine zS_ite (fun ht => ?_) (fun _ => ?_)
        · refine s_callF (pc := 33) (np := 0) (as := []) (rest := []) dX2_shipsByPosition_33 ht (q := (RJ21, TJ21, 5)) rfl (c_J21_next (by decide) a2 h10) ⟨_, _, _, q812⟩ rfl rfl q670 (by decide +kernel) q810 q808 rfl (by decide) (zkR (fun r11 h12 => ?_)) zxo
          refine s_cast (pc := 38) dX2_shipsByPosition_38 q836 zcs_FloatingDock_Ship ?_
          refine s_ast_n (pc := 41) (L2 := [(1, va_rf a1), (2, va_rf a2)]) [0, 1] dX2_shipsByPosition_41 rfl (by decide) rfl rfl (zcB (j := 1) rfl (zcat_rf a2) rfl) ?_
          refine s_aload_n (pc := 42) 0 dX2_shipsByPosition_42 rfl rfl ?_
          refine zS_ite (fun ht => ?_) (fun _ => zS_none)
          refine s_callV (pc := 43) (np := 0) (as := []) (rest := []) dX2_shipsByPosition_43 ht (q := (RX6, TX6, 9)) rfl (c_X6_isInDock (by decide) r11 h12) rfl rfl q837 q367 q368 rfl (by decide) (zkI (fun x19 h20 => ?_)) zxo
          refine s_if_eq (pc := 46) (tgt := 99) dX2_shipsByPosition_46 (by decide) (fun _ => ?_) (fun _ => ?_)
          · exact s_sub (pc := 99) [1, 2] rfl (w_X2_shipsByPosition_99 (f_X2_shipsByPosition_23 n) ih a1 a2 h20)
          · refine s_iconst (pc := 49) (v := 0) dX2_shipsByPosition_49 (by decide) ?_
            refine s_ist (pc := 50) (L2 := [(3, va_rf r11), (1, va_rf a1), (2, va_rf a2)]) [0, 1, 2] dX2_shipsByPosition_50 (by decide) rfl rfl (zcB (j := 0) rfl (zcat_rf r11) rfl) ?_
            exact s_sub (pc := 52) [2, 3, 1, 0] rfl (w_X2_shipsByPosition_52 (f_X2_shipsByPosition_23 n) ih zfuel a1 a2 r11 0 h20)
        refine zS_ite (fun ht => ?_) (fun _ => zS_none)
        refine s_callF (pc := 33) (np := 0) (as := []) (rest := []) dX2_shipsByPosition_33 ht (q := (RJ22, TJ22, 5)) rfl (c_J22_next (by decide) a2 h10) ⟨_, _, _, q832⟩ rfl rfl q670 (by decide +kernel) q830 q828 rfl (by decide) (zkR (fun r11 h12 => ?_)) zxo
        refine s_cast (pc := 38) dX2_shipsByPosition_38 q836 zcs_FloatingDock_Ship ?_
        refine s_ast_n (pc := 41) (L2 := [(1, va_rf a1), (2, va_rf a2)]) [0, 1] dX2_shipsByPosition_41 rfl (by decide) rfl rfl (zcB (j := 1) rfl (zcat_rf a2) rfl) ?_
        refine s_aload_n (pc := 42) 0 dX2_shipsByPosition_42 rfl rfl ?_
        refine zS_ite (fun ht => ?_) (fun _ => zS_none)
        refine s_callV (pc := 43) (np := 0) (as := []) (rest := []) dX2_shipsByPosition_43 ht (q := (RX6, TX6, 9)) rfl (c_X6_isInDock (by decide) r11 h12) rfl rfl q837 q367 q368 rfl (by decide) (zkI (fun x21 h22 => ?_)) zxo
        refine s_if_eq (pc := 46) (tgt := 99) dX2_shipsByPosition_46 (by decide) (fun _ => ?_) (fun _ => ?_)
        · exact s_sub (pc := 99) [1, 2] rfl (w_X2_shipsByPosition_99 (f_X2_shipsByPosition_23 n) ih a1 a2 h22)
        · refine s_iconst (pc := 49) (v := 0) dX2_shipsByPosition_49 (by decide) ?_
          refine s_ist (pc := 50) (L2 := [(3, va_rf r11), (1, va_rf a1), (2, va_rf a2)]) [0, 1, 2] dX2_shipsByPosition_50 (by decide) rfl rfl (zcB (j := 0) rfl (zcat_rf r11) rfl) ?_
          exact s_sub (pc := 52) [2, 3, 1, 0] rfl (w_X2_shipsByPosition_52 (f_X2_shipsByPosition_23 n) ih zfuel a1 a2 r11 0 h22)
    refine zS_ite (fun ht => ?_) (fun _ => ?_)
    · refine s_callF (pc := 24) (np := 0) (as := []) (rest := []) dX2_shipsByPosition_24 ht (q := (RJ15, TJ15, 4)) rfl (c_J15_hasNext (by decide) a2 h) ⟨_, _, _, q653⟩ rfl rfl q629 (by decide +kernel) q651 q649 rfl (by decide) (zkI (fun x9 h10 => ?_)) zxo
      refine s_if_eq (pc := 29) (tgt := 102) dX2_shipsByPosition_29 (by decide) (fun _ => ?_) (fun _ => ?_)
      · refine s_aload_n (pc := 102) 0 dX2_shipsByPosition_102 rfl rfl ?_
        exact s_aret (pc := 103) dX2_shipsByPosition_103 rfl (Or.inl ⟨_, rfl⟩)
      · refine s_aload_n (pc := 32) 1 dX2_shipsByPosition_32 rfl rfl ?_
        refine zS_ite (fun ht => ?_) (fun _ => ?_)
        · refine s_callF (pc := 33) (np := 0) (as := []) (rest := []) dX2_shipsByPosition_33 ht (q := (RX9, TX9, 2)) rfl (c_X9_next (by decide) a2 h10) ⟨_, _, _, q677⟩ rfl rfl q670 (by decide +kernel) q675 q673 rfl (by decide) (zkR (fun r23 h24 => ?_)) zxo
          refine s_cast (pc := 38) dX2_shipsByPosition_38 q836 zcs_FloatingDock_Ship ?_
          refine s_ast_n (pc := 41) (L2 := [(1, va_rf a1), (2, va_rf a2)]) [0, 1] dX2_shipsByPosition_41 rfl (by decide) rfl rfl (zcB (j := 1) rfl (zcat_rf a2) rfl) ?_
          refine s_aload_n (pc := 42) 0 dX2_shipsByPosition_42 rfl rfl ?_
          refine zS_ite (fun ht => ?_) (fun _ => zS_none)
          refine s_callV (pc := 43) (np := 0) (as := []) (rest := []) dX2_shipsByPosition_43 ht (q := (RX6, TX6, 9)) rfl (c_X6_isInDock (by decide) r23 h24) rfl rfl q837 q367 q368 rfl (by decide) (zkI (fun x25 h26 => ?_)) zxo
          refine s_if_eq (pc := 46) (tgt := 99) dX2_shipsByPosition_46 (by decide) (fun _ => ?_) (fun _ => ?_)
          · exact s_sub (pc := 99) [1, 2] rfl (w_X2_shipsByPosition_99 (f_X2_shipsByPosition_23 n) ih a1 a2 h26)
          · refine s_iconst (pc := 49) (v := 0) dX2_shipsByPosition_49 (by decide) ?_
            refine s_ist (pc := 50) (L2 := [(3, va_rf r23), (1, va_rf a1), (2, va_rf a2)]) [0, 1, 2] dX2_shipsByPosition_50 (by decide) rfl rfl (zcB (j := 0) rfl (zcat_rf r23) rfl) ?_
            exact s_sub (pc := 52) [2, 3, 1, 0] rfl (w_X2_shipsByPosition_52 (f_X2_shipsByPosition_23 n) ih zfuel a1 a2 r23 0 h26)
        refine zS_ite (fun ht => ?_) (fun _ => ?_)
        · refine s_callF (pc := 33) (np := 0) (as := []) (rest := []) dX2_shipsByPosition_33 ht (q := (RJ15, TJ15, 4)) rfl (c_J15_next (by decide) a2 h10) ⟨_, _, _, q788⟩ rfl rfl q670 (by decide +kernel) q786 q784 rfl (by decide) (zkR (fun r23 h24 => ?_)) zxo
          refine s_cast (pc := 38) dX2_shipsByPosition_38 q836 zcs_FloatingDock_Ship ?_
          refine s_ast_n (pc := 41) (L2 := [(1, va_rf a1), (2, va_rf a2)]) [0, 1] dX2_shipsByPosition_41 rfl (by decide) rfl rfl (zcB (j := 1) rfl (zcat_rf a2) rfl) ?_
          refine s_aload_n (pc := 42) 0 dX2_shipsByPosition_42 rfl rfl ?_
          refine zS_ite (fun ht => ?_) (fun _ => zS_none)
          refine s_callV (pc := 43) (np := 0) (as := []) (rest := []) dX2_shipsByPosition_43 ht (q := (RX6, TX6, 9)) rfl (c_X6_isInDock (by decide) r23 h24) rfl rfl q837 q367 q368 rfl (by decide) (zkI (fun x27 h28 => ?_)) zxo
          refine s_if_eq (pc := 46) (tgt := 99) dX2_shipsByPosition_46 (by decide) (fun _ => ?_) (fun _ => ?_)
          · exact s_sub (pc := 99) [1, 2] rfl (w_X2_shipsByPosition_99 (f_X2_shipsByPosition_23 n) ih a1 a2 h28)
          · refine s_iconst (pc := 49) (v := 0) dX2_shipsByPosition_49 (by decide) ?_
            refine s_ist (pc := 50) (L2 := [(3, va_rf r23), (1, va_rf a1), (2, va_rf a2)]) [0, 1, 2] dX2_shipsByPosition_50 (by decide) rfl rfl (zcB (j := 0) rfl (zcat_rf r23) rfl) ?_
            exact s_sub (pc := 52) [2, 3, 1, 0] rfl (w_X2_shipsByPosition_52 (f_X2_shipsByPosition_23 n) ih zfuel a1 a2 r23 0 h28)
        refine zS_ite (fun ht => ?_) (fun _ => ?_)
        · refine s_callF (pc := 33) (np := 0) (as := []) (rest := []) dX2_shipsByPosition_33 ht (q := (RJ17, TJ17, 5)) rfl (c_J17_next (by decide) a2 h10) ⟨_, _, _, q799⟩ rfl rfl q670 (by decide +kernel) q797 q795 rfl (by decide) (zkR (fun r23 h24 => ?_)) zxo
          refine s_cast (pc := 38) dX2_shipsByPosition_38 q836 zcs_FloatingDock_Ship ?_
          refine s_ast_n (pc := 41) (L2 := [(1, va_rf a1), (2, va_rf a2)]) [0, 1] dX2_shipsByPosition_41 rfl (by decide) rfl rfl (zcB (j := 1) rfl (zcat_rf a2) rfl) ?_
          refine s_aload_n (pc := 42) 0 dX2_shipsByPosition_42 rfl rfl ?_
          refine zS_ite (fun ht => ?_) (fun _ => zS_none)
          refine s_callV (pc := 43) (np := 0) (as := []) (rest := []) dX2_shipsByPosition_43 ht (q := (RX6, TX6, 9)) rfl (c_X6_isInDock (by decide) r23 h24) rfl rfl q837 q367 q368 rfl (by decide) (zkI (fun x29 h30 => ?_)) zxo
          refine s_if_eq (pc := 46) (tgt := 99) dX2_shipsByPosition_46 (by decide) (fun _ => ?_) (fun _ => ?_)
          · exact s_sub (pc := 99) [1, 2] rfl (w_X2_shipsByPosition_99 (f_X2_shipsByPosition_23 n) ih a1 a2 h30)
          · refine s_iconst (pc := 49) (v := 0) dX2_shipsByPosition_49 (by decide) ?_
            refine s_ist (pc := 50) (L2 := [(3, va_rf r23), (1, va_rf a1), (2, va_rf a2)]) [0, 1, 2] dX2_shipsByPosition_50 (by decide) rfl rfl (zcB (j := 0) rfl (zcat_rf r23) rfl) ?_
            exact s_sub (pc := 52) [2, 3, 1, 0] rfl (w_X2_shipsByPosition_52 (f_X2_shipsByPosition_23 n) ih zfuel a1 a2 r23 0 h30)
        refine zS_ite (fun ht => ?_) (fun _ => ?_)
        · refine s_callF (pc := 33) (np := 0) (as := []) (rest := []) dX2_shipsByPosition_33 ht (q := (RJ21, TJ21, 5)) rfl (c_J21_next (by decide) a2 h10) ⟨_, _, _, q812⟩ rfl rfl q670 (by decide +kernel) q810 q808 rfl (by decide) (zkR (fun r23 h24 => ?_)) zxo
          refine s_cast (pc := 38) dX2_shipsByPosition_38 q836 zcs_FloatingDock_Ship ?_
          refine s_ast_n (pc := 41) (L2 := [(1, va_rf a1), (2, va_rf a2)]) [0, 1] dX2_shipsByPosition_41 rfl (by decide) rfl rfl (zcB (j := 1) rfl (zcat_rf a2) rfl) ?_
          refine s_aload_n (pc := 42) 0 dX2_shipsByPosition_42 rfl rfl ?_
          refine zS_ite (fun ht => ?_) (fun _ => zS_none)
          refine s_callV (pc := 43) (np := 0) (as := []) (rest := []) dX2_shipsByPosition_43 ht (q := (RX6, TX6, 9)) rfl (c_X6_isInDock (by decide) r23 h24) rfl rfl q837 q367 q368 rfl (by decide) (zkI (fun x31 h32 => ?_)) zxo
          refine s_if_eq (pc := 46) (tgt := 99) dX2_shipsByPosition_46 (by decide) (fun _ => ?_) (fun _ => ?_)
          · exact s_sub (pc := 99) [1, 2] rfl (w_X2_shipsByPosition_99 (f_X2_shipsByPosition_23 n) ih a1 a2 h32)
          · refine s_iconst (pc := 49) (v := 0) dX2_shipsByPosition_49 (by decide) ?_
            refine s_ist (pc := 50) (L2 := [(3, va_rf r23), (1, va_rf a1), (2, va_rf a2)]) [0, 1, 2] dX2_shipsByPosition_50 (by decide) rfl rfl (zcB (j := 0) rfl (zcat_rf r23) rfl) ?_
            exact s_sub (pc := 52) [2, 3, 1, 0] rfl (w_X2_shipsByPosition_52 (f_X2_shipsByPosition_23 n) ih zfuel a1 a2 r23 0 h32)
        refine zS_ite (fun ht => ?_) (fun _ => zS_none)
        refine s_callF (pc := 33) (np := 0) (as := []) (rest := []) dX2_shipsByPosition_33 ht (q := (RJ22, TJ22, 5)) rfl (c_J22_next (by decide) a2 h10) ⟨_, _, _, q832⟩ rfl rfl q670 (by decide +kernel) q830 q828 rfl (by decide) (zkR (fun r23 h24 => ?_)) zxo
        refine s_cast (pc := 38) dX2_shipsByPosition_38 q836 zcs_FloatingDock_Ship ?_
        refine s_ast_n (pc := 41) (L2 := [(1, va_rf a1), (2, va_rf a2)]) [0, 1] dX2_shipsByPosition_41 rfl (by decide) rfl rfl (zcB (j := 1) rfl (zcat_rf a2) rfl) ?_
        refine s_aload_n (pc := 42) 0 dX2_shipsByPosition_42 rfl rfl ?_
        refine zS_ite (fun ht => ?_) (fun _ => zS_none)
        refine s_callV (pc := 43) (np := 0) (as := []) (rest := []) dX2_shipsByPosition_43 ht (q := (RX6, TX6, 9)) rfl (c_X6_isInDock (by decide) r23 h24) rfl rfl q837 q367 q368 rfl (by decide) (zkI (fun x33 h34 => ?_)) zxo
        refine s_if_eq (pc := 46) (tgt := 99) dX2_shipsByPosition_46 (by decide) (fun _ => ?_) (fun _ => ?_)
        · exact s_sub (pc := 99) [1, 2] rfl (w_X2_shipsByPosition_99 (f_X2_shipsByPosition_23 n) ih a1 a2 h34)
        · refine s_iconst (pc := 49) (v := 0) dX2_shipsByPosition_49 (by decide) ?_
          refine s_ist (pc := 50) (L2 := [(3, va_rf r23), (1, va_rf a1), (2, va_rf a2)]) [0, 1, 2] dX2_shipsByPosition_50 (by decide) rfl rfl (zcB (j := 0) rfl (zcat_rf r23) rfl) ?_
          exact s_sub (pc := 52) [2, 3, 1, 0] rfl (w_X2_shipsByPosition_52 (f_X2_shipsByPosition_23 n) ih zfuel a1 a2 r23 0 h34)
    refine zS_ite (fun ht => ?_) (fun _ => ?_)
    · refine s_callF (pc := 24) (np := 0) (as := []) (rest := []) dX2_shipsByPosition_24 ht (q := (RJ17, TJ17, 5)) rfl (c_J16_hasNext (by decide) a2 h) ⟨_, _, _, q659⟩ rfl rfl q629 (by decide +kernel) q657 q655 rfl (by decide) (zkI (fun x9 h10 => ?_)) zxo
      refine s_if_eq (pc := 29) (tgt := 102) dX2_shipsByPosition_29 (by decide) (fun _ => ?_) (fun _ => ?_)
      · refine s_aload_n (pc := 102) 0 dX2_shipsByPosition_102 rfl rfl ?_
        exact s_aret (pc := 103) dX2_shipsByPosition_103 rfl (Or.inl ⟨_, rfl⟩)
      · refine s_aload_n (pc := 32) 1 dX2_shipsByPosition_32 rfl rfl ?_
        refine zS_ite (fun ht => ?_) (fun _ => ?_)
        · refine s_callF (pc := 33) (np := 0) (as := []) (rest := []) dX2_shipsByPosition_33 ht (q := (RX9, TX9, 2)) rfl (c_X9_next (by decide) a2 h10) ⟨_, _, _, q677⟩ rfl rfl q670 (by decide +kernel) q675 q673 rfl (by decide) (zkR (fun r35 h36 => ?_)) zxo
          refine s_cast (pc := 38) dX2_shipsByPosition_38 q836 zcs_FloatingDock_Ship ?_
          refine s_ast_n (pc := 41) (L2 := [(1, va_rf a1), (2, va_rf a2)]) [0, 1] dX2_shipsByPosition_41 rfl (by decide) rfl rfl (zcB (j := 1) rfl (zcat_rf a2) rfl) ?_
          refine s_aload_n (pc := 42) 0 dX2_shipsByPosition_42 rfl rfl ?_
          refine zS_ite (fun ht => ?_) (fun _ => zS_none)
          refine s_callV (pc := 43) (np := 0) (as := []) (rest := []) dX2_shipsByPosition_43 ht (q := (RX6, TX6, 9)) rfl (c_X6_isInDock (by decide) r35 h36) rfl rfl q837 q367 q368 rfl (by decide) (zkI (fun x37 h38 => ?_)) zxo
          refine s_if_eq (pc := 46) (tgt := 99) dX2_shipsByPosition_46 (by decide) (fun _ => ?_) (fun _ => ?_)
          · exact s_sub (pc := 99) [1, 2] rfl (w_X2_shipsByPosition_99 (f_X2_shipsByPosition_23 n) ih a1 a2 h38)
          · refine s_iconst (pc := 49) (v := 0) dX2_shipsByPosition_49 (by decide) ?_
            refine s_ist (pc := 50) (L2 := [(3, va_rf r35), (1, va_rf a1), (2, va_rf a2)]) [0, 1, 2] dX2_shipsByPosition_50 (by decide) rfl rfl (zcB (j := 0) rfl (zcat_rf r35) rfl) ?_
            exact s_sub (pc := 52) [2, 3, 1, 0] rfl (w_X2_shipsByPosition_52 (f_X2_shipsByPosition_23 n) ih zfuel a1 a2 r35 0 h38)
        refine zS_ite (fun ht => ?_) (fun _ => ?_)
        · refine s_callF (pc := 33) (np := 0) (as := []) (rest := []) dX2_shipsByPosition_33 ht (q := (RJ15, TJ15, 4)) rfl (c_J15_next (by decide) a2 h10) ⟨_, _, _, q788⟩ rfl rfl q670 (by decide +kernel) q786 q784 rfl (by decide) (zkR (fun r35 h36 => ?_)) zxo
          refine s_cast (pc := 38) dX2_shipsByPosition_38 q836 zcs_FloatingDock_Ship ?_
          refine s_ast_n (pc := 41) (L2 := [(1, va_rf a1), (2, va_rf a2)]) [0, 1] dX2_shipsByPosition_41 rfl (by decide) rfl rfl (zcB (j := 1) rfl (zcat_rf a2) rfl) ?_
          refine s_aload_n (pc := 42) 0 dX2_shipsByPosition_42 rfl rfl ?_
          refine zS_ite (fun ht => ?_) (fun _ => zS_none)
          refine s_callV (pc := 43) (np := 0) (as := []) (rest := []) dX2_shipsByPosition_43 ht (q := (RX6, TX6, 9)) rfl (c_X6_isInDock (by decide) r35 h36) rfl rfl q837 q367 q368 rfl (by decide) (zkI (fun x39 h40 => ?_)) zxo
          refine s_if_eq (pc := 46) (tgt := 99) dX2_shipsByPosition_46 (by decide) (fun _ => ?_) (fun _ => ?_)
          · exact s_sub (pc := 99) [1, 2] rfl (w_X2_shipsByPosition_99 (f_X2_shipsByPosition_23 n) ih a1 a2 h40)
          · refine s_iconst (pc := 49) (v := 0) dX2_shipsByPosition_49 (by decide) ?_
            refine s_ist (pc := 50) (L2 := [(3, va_rf r35), (1, va_rf a1), (2, va_rf a2)]) [0, 1, 2] dX2_shipsByPosition_50 (by decide) rfl rfl (zcB (j := 0) rfl (zcat_rf r35) rfl) ?_
            exact s_sub (pc := 52) [2, 3, 1, 0] rfl (w_X2_shipsByPosition_52 (f_X2_shipsByPosition_23 n) ih zfuel a1 a2 r35 0 h40)
        refine zS_ite (fun ht => ?_) (fun _ => ?_)
        · refine s_callF (pc := 33) (np := 0) (as := []) (rest := []) dX2_shipsByPosition_33 ht (q := (RJ17, TJ17, 5)) rfl (c_J17_next (by decide) a2 h10) ⟨_, _, _, q799⟩ rfl rfl q670 (by decide +kernel) q797 q795 rfl (by decide) (zkR (fun r35 h36 => ?_)) zxo
          refine s_cast (pc := 38) dX2_shipsByPosition_38 q836 zcs_FloatingDock_Ship ?_
          refine s_ast_n (pc := 41) (L2 := [(1, va_rf a1), (2, va_rf a2)]) [0, 1] dX2_shipsByPosition_41 rfl (by decide) rfl rfl (zcB (j := 1) rfl (zcat_rf a2) rfl) ?_
          refine s_aload_n (pc := 42) 0 dX2_shipsByPosition_42 rfl rfl ?_
          refine zS_ite (fun ht => ?_) (fun _ => zS_none)
          refine s_callV (pc := 43) (np := 0) (as := []) (rest := []) dX2_shipsByPosition_43 ht (q := (RX6, TX6, 9)) rfl (c_X6_isInDock (by decide) r35 h36) rfl rfl q837 q367 q368 rfl (by decide) (zkI (fun x41 h42 => ?_)) zxo
          refine s_if_eq (pc := 46) (tgt := 99) dX2_shipsByPosition_46 (by decide) (fun _ => ?_) (fun _ => ?_)
          · exact s_sub (pc := 99) [1, 2] rfl (w_X2_shipsByPosition_99 (f_X2_shipsByPosition_23 n) ih a1 a2 h42)
          · refine s_iconst (pc := 49) (v := 0) dX2_shipsByPosition_49 (by decide) ?_
            refine s_ist (pc := 50) (L2 := [(3, va_rf r35), (1, va_rf a1), (2, va_rf a2)]) [0, 1, 2] dX2_shipsByPosition_50 (by decide) rfl rfl (zcB (j := 0) rfl (zcat_rf r35) rfl) ?_
            exact s_sub (pc := 52) [2, 3, 1, 0] rfl (w_X2_shipsByPosition_52 (f_X2_shipsByPosition_23 n) ih zfuel a1 a2 r35 0 h42)
        refine zS_ite (fun ht => ?_) (fun _ => ?_)
        · refine s_callF (pc := 33) (np := 0) (as := []) (rest := []) dX2_shipsByPosition_33 ht (q := (RJ21, TJ21, 5)) rfl (c_J21_next (by decide) a2 h10) ⟨_, _, _, q812⟩ rfl rfl q670 (by decide +kernel) q810 q808 rfl (by decide) (zkR (fun r35 h36 => ?_)) zxo
          refine s_cast (pc := 38) dX2_shipsByPosition_38 q836 zcs_FloatingDock_Ship ?_
          refine s_ast_n (pc := 41) (L2 := [(1, va_rf a1), (2, va_rf a2)]) [0, 1] dX2_shipsByPosition_41 rfl (by decide) rfl rfl (zcB (j := 1) rfl (zcat_rf a2) rfl) ?_
          refine s_aload_n (pc := 42) 0 dX2_shipsByPosition_42 rfl rfl ?_
          refine zS_ite (fun ht => ?_) (fun _ => zS_none)
          refine s_callV (pc := 43) (np := 0) (as := []) (rest := []) dX2_shipsByPosition_43 ht (q := (RX6, TX6, 9)) rfl (c_X6_isInDock (by decide) r35 h36) rfl rfl q837 q367 q368 rfl (by decide) (zkI (fun x43 h44 => ?_)) zxo
          refine s_if_eq (pc := 46) (tgt := 99) dX2_shipsByPosition_46 (by decide) (fun _ => ?_) (fun _ => ?_)
          · exact s_sub (pc := 99) [1, 2] rfl (w_X2_shipsByPosition_99 (f_X2_shipsByPosition_23 n) ih a1 a2 h44)
          · refine s_iconst (pc := 49) (v := 0) dX2_shipsByPosition_49 (by decide) ?_
            refine s_ist (pc := 50) (L2 := [(3, va_rf r35), (1, va_rf a1), (2, va_rf a2)]) [0, 1, 2] dX2_shipsByPosition_50 (by decide) rfl rfl (zcB (j := 0) rfl (zcat_rf r35) rfl) ?_
            exact s_sub (pc := 52) [2, 3, 1, 0] rfl (w_X2_shipsByPosition_52 (f_X2_shipsByPosition_23 n) ih zfuel a1 a2 r35 0 h44)
        refine zS_ite (fun ht => ?_) (fun _ => zS_none)
        refine s_callF (pc := 33) (np := 0) (as := []) (rest := []) dX2_shipsByPosition_33 ht (q := (RJ22, TJ22, 5)) rfl (c_J22_next (by decide) a2 h10) ⟨_, _, _, q832⟩ rfl rfl q670 (by decide +kernel) q830 q828 rfl (by decide) (zkR (fun r35 h36 => ?_)) zxo
        refine s_cast (pc := 38) dX2_shipsByPosition_38 q836 zcs_FloatingDock_Ship ?_
        refine s_ast_n (pc := 41) (L2 := [(1, va_rf a1), (2, va_rf a2)]) [0, 1] dX2_shipsByPosition_41 rfl (by decide) rfl rfl (zcB (j := 1) rfl (zcat_rf a2) rfl) ?_
        refine s_aload_n (pc := 42) 0 dX2_shipsByPosition_42 rfl rfl ?_
        refine zS_ite (fun ht => ?_) (fun _ => zS_none)
        refine s_callV (pc := 43) (np := 0) (as := []) (rest := []) dX2_shipsByPosition_43 ht (q := (RX6, TX6, 9)) rfl (c_X6_isInDock (by decide) r35 h36) rfl rfl q837 q367 q368 rfl (by decide) (zkI (fun x45 h46 => ?_)) zxo
        refine s_if_eq (pc := 46) (tgt := 99) dX2_shipsByPosition_46 (by decide) (fun _ => ?_) (fun _ => ?_)
        · exact s_sub (pc := 99) [1, 2] rfl (w_X2_shipsByPosition_99 (f_X2_shipsByPosition_23 n) ih a1 a2 h46)
        · refine s_iconst (pc := 49) (v := 0) dX2_shipsByPosition_49 (by decide) ?_
          refine s_ist (pc := 50) (L2 := [(3, va_rf r35), (1, va_rf a1), (2, va_rf a2)]) [0, 1, 2] dX2_shipsByPosition_50 (by decide) rfl rfl (zcB (j := 0) rfl (zcat_rf r35) rfl) ?_
          exact s_sub (pc := 52) [2, 3, 1, 0] rfl (w_X2_shipsByPosition_52 (f_X2_shipsByPosition_23 n) ih zfuel a1 a2 r35 0 h46)
    refine zS_ite (fun ht => ?_) (fun _ => ?_)
    · refine s_callF (pc := 24) (np := 0) (as := []) (rest := []) dX2_shipsByPosition_24 ht (q := (RJ21, TJ21, 5)) rfl (c_J20_hasNext (by decide) a2 h) ⟨_, _, _, q665⟩ rfl rfl q629 (by decide +kernel) q663 q661 rfl (by decide) (zkI (fun x9 h10 => ?_)) zxo
      refine s_if_eq (pc := 29) (tgt := 102) dX2_shipsByPosition_29 (by decide) (fun _ => ?_) (fun _ => ?_)
      · refine s_aload_n (pc := 102) 0 dX2_shipsByPosition_102 rfl rfl ?_
        exact s_aret (pc := 103) dX2_shipsByPosition_103 rfl (Or.inl ⟨_, rfl⟩)
      · refine s_aload_n (pc := 32) 1 dX2_shipsByPosition_32 rfl rfl ?_
        refine zS_ite (fun ht => ?_) (fun _ => ?_)
        · refine s_callF (pc := 33) (np := 0) (as := []) (rest := []) dX2_shipsByPosition_33 ht (q := (RX9, TX9, 2)) rfl (c_X9_next (by decide) a2 h10) ⟨_, _, _, q677⟩ rfl rfl q670 (by decide +kernel) q675 q673 rfl (by decide) (zkR (fun r47 h48 => ?_)) zxo
          refine s_cast (pc := 38) dX2_shipsByPosition_38 q836 zcs_FloatingDock_Ship ?_
          refine s_ast_n (pc := 41) (L2 := [(1, va_rf a1), (2, va_rf a2)]) [0, 1] dX2_shipsByPosition_41 rfl (by decide) rfl rfl (zcB (j := 1) rfl (zcat_rf a2) rfl) ?_
          refine s_aload_n (pc := 42) 0 dX2_shipsByPosition_42 rfl rfl ?_
          refine zS_ite (fun ht => ?_) (fun _ => zS_none)
          refine s_callV (pc := 43) (np := 0) (as := []) (rest := []) dX2_shipsByPosition_43 ht (q := (RX6, TX6, 9)) rfl (c_X6_isInDock (by decide) r47 h48) rfl rfl q837 q367 q368 rfl (by decide) (zkI (fun x49 h50 => ?_)) zxo
          refine s_if_eq (pc := 46) (tgt := 99) dX2_shipsByPosition_46 (by decide) (fun _ => ?_) (fun _ => ?_)
          · exact s_sub (pc := 99) [1, 2] rfl (w_X2_shipsByPosition_99 (f_X2_shipsByPosition_23 n) ih a1 a2 h50)
          · refine s_iconst (pc := 49) (v := 0) dX2_shipsByPosition_49 (by decide) ?_
            refine s_ist (pc := 50) (L2 := [(3, va_rf r47), (1, va_rf a1), (2, va_rf a2)]) [0, 1, 2] dX2_shipsByPosition_50 (by decide) rfl rfl (zcB (j := 0) rfl (zcat_rf r47) rfl) ?_
            exact s_sub (pc := 52) [2, 3, 1, 0] rfl (w_X2_shipsByPosition_52 (f_X2_shipsByPosition_23 n) ih zfuel a1 a2 r47 0 h50)
        refine zS_ite (fun ht => ?_) (fun _ => ?_)
        · refine s_callF (pc := 33) (np := 0) (as := []) (rest := []) dX2_shipsByPosition_33 ht (q := (RJ15, TJ15, 4)) rfl (c_J15_next (by decide) a2 h10) ⟨_, _, _, q788⟩ rfl rfl q670 (by decide +kernel) q786 q784 rfl (by decide) (zkR (fun r47 h48 => ?_)) zxo
          refine s_cast (pc := 38) dX2_shipsByPosition_38 q836 zcs_FloatingDock_Ship ?_
          refine s_ast_n (pc := 41) (L2 := [(1, va_rf a1), (2, va_rf a2)]) [0, 1] dX2_shipsByPosition_41 rfl (by decide) rfl rfl (zcB (j := 1) rfl (zcat_rf a2) rfl) ?_
          refine s_aload_n (pc := 42) 0 dX2_shipsByPosition_42 rfl rfl ?_
          refine zS_ite (fun ht => ?_) (fun _ => zS_none)
          refine s_callV (pc := 43) (np := 0) (as := []) (rest := []) dX2_shipsByPosition_43 ht (q := (RX6, TX6, 9)) rfl (c_X6_isInDock (by decide) r47 h48) rfl rfl q837 q367 q368 rfl (by decide) (zkI (fun x51 h52 => ?_)) zxo
          refine s_if_eq (pc := 46) (tgt := 99) dX2_shipsByPosition_46 (by decide) (fun _ => ?_) (fun _ => ?_)
          · exact s_sub (pc := 99) [1, 2] rfl (w_X2_shipsByPosition_99 (f_X2_shipsByPosition_23 n) ih a1 a2 h52)
          · refine s_iconst (pc := 49) (v := 0) dX2_shipsByPosition_49 (by decide) ?_
            refine s_ist (pc := 50) (L2 := [(3, va_rf r47), (1, va_rf a1), (2, va_rf a2)]) [0, 1, 2] dX2_shipsByPosition_50 (by decide) rfl rfl (zcB (j := 0) rfl (zcat_rf r47) rfl) ?_
            exact s_sub (pc := 52) [2, 3, 1, 0] rfl (w_X2_shipsByPosition_52 (f_X2_shipsByPosition_23 n) ih zfuel a1 a2 r47 0 h52)
        refine zS_ite (fun ht => ?_) (fun _ => ?_)
        · refine s_callF (pc := 33) (np := 0) (as := []) (rest := []) dX2_shipsByPosition_33 ht (q := (RJ17, TJ17, 5)) rfl (c_J17_next (by decide) a2 h10) ⟨_, _, _, q799⟩ rfl rfl q670 (by decide +kernel) q797 q795 rfl (by decide) (zkR (fun r47 h48 => ?_)) zxo
          refine s_cast (pc := 38) dX2_shipsByPosition_38 q836 zcs_FloatingDock_Ship ?_
          refine s_ast_n (pc := 41) (L2 := [(1, va_rf a1), (2, va_rf a2)]) [0, 1] dX2_shipsByPosition_41 rfl (by decide) rfl rfl (zcB (j := 1) rfl (zcat_rf a2) rfl) ?_
          refine s_aload_n (pc := 42) 0 dX2_shipsByPosition_42 rfl rfl ?_
          refine zS_ite (fun ht => ?_) (fun _ => zS_none)
          refine s_callV (pc := 43) (np := 0) (as := []) (rest := []) dX2_shipsByPosition_43 ht (q := (RX6, TX6, 9)) rfl (c_X6_isInDock (by decide) r47 h48) rfl rfl q837 q367 q368 rfl (by decide) (zkI (fun x53 h54 => ?_)) zxo
          refine s_if_eq (pc := 46) (tgt := 99) dX2_shipsByPosition_46 (by decide) (fun _ => ?_) (fun _ => ?_)
          · exact s_sub (pc := 99) [1, 2] rfl (w_X2_shipsByPosition_99 (f_X2_shipsByPosition_23 n) ih a1 a2 h54)
          · refine s_iconst (pc := 49) (v := 0) dX2_shipsByPosition_49 (by decide) ?_
            refine s_ist (pc := 50) (L2 := [(3, va_rf r47), (1, va_rf a1), (2, va_rf a2)]) [0, 1, 2] dX2_shipsByPosition_50 (by decide) rfl rfl (zcB (j := 0) rfl (zcat_rf r47) rfl) ?_
            exact s_sub (pc := 52) [2, 3, 1, 0] rfl (w_X2_shipsByPosition_52 (f_X2_shipsByPosition_23 n) ih zfuel a1 a2 r47 0 h54)
        refine zS_ite (fun ht => ?_) (fun _ => ?_)
        · refine s_callF (pc := 33) (np := 0) (as := []) (rest := []) dX2_shipsByPosition_33 ht (q := (RJ21, TJ21, 5)) rfl (c_J21_next (by decide) a2 h10) ⟨_, _, _, q812⟩ rfl rfl q670 (by decide +kernel) q810 q808 rfl (by decide) (zkR (fun r47 h48 => ?_)) zxo
          refine s_cast (pc := 38) dX2_shipsByPosition_38 q836 zcs_FloatingDock_Ship ?_
          refine s_ast_n (pc := 41) (L2 := [(1, va_rf a1), (2, va_rf a2)]) [0, 1] dX2_shipsByPosition_41 rfl (by decide) rfl rfl (zcB (j := 1) rfl (zcat_rf a2) rfl) ?_
          refine s_aload_n (pc := 42) 0 dX2_shipsByPosition_42 rfl rfl ?_
          refine zS_ite (fun ht => ?_) (fun _ => zS_none)
          refine s_callV (pc := 43) (np := 0) (as := []) (rest := []) dX2_shipsByPosition_43 ht (q := (RX6, TX6, 9)) rfl (c_X6_isInDock (by decide) r47 h48) rfl rfl q837 q367 q368 rfl (by decide) (zkI (fun x55 h56 => ?_)) zxo
          refine s_if_eq (pc := 46) (tgt := 99) dX2_shipsByPosition_46 (by decide) (fun _ => ?_) (fun _ => ?_)
          · exact s_sub (pc := 99) [1, 2] rfl (w_X2_shipsByPosition_99 (f_X2_shipsByPosition_23 n) ih a1 a2 h56)
          · refine s_iconst (pc := 49) (v := 0) dX2_shipsByPosition_49 (by decide) ?_
            refine s_ist (pc := 50) (L2 := [(3, va_rf r47), (1, va_rf a1), (2, va_rf a2)]) [0, 1, 2] dX2_shipsByPosition_50 (by decide) rfl rfl (zcB (j := 0) rfl (zcat_rf r47) rfl) ?_
            exact s_sub (pc := 52) [2, 3, 1, 0] rfl (w_X2_shipsByPosition_52 (f_X2_shipsByPosition_23 n) ih zfuel a1 a2 r47 0 h56)
        refine zS_ite (fun ht => ?_) (fun _ => zS_none)
        refine s_callF (pc := 33) (np := 0) (as := []) (rest := []) dX2_shipsByPosition_33 ht (q := (RJ22, TJ22, 5)) rfl (c_J22_next (by decide) a2 h10) ⟨_, _, _, q832⟩ rfl rfl q670 (by decide +kernel) q830 q828 rfl (by decide) (zkR (fun r47 h48 => ?_)) zxo
        refine s_cast (pc := 38) dX2_shipsByPosition_38 q836 zcs_FloatingDock_Ship ?_
        refine s_ast_n (pc := 41) (L2 := [(1, va_rf a1), (2, va_rf a2)]) [0, 1] dX2_shipsByPosition_41 rfl (by decide) rfl rfl (zcB (j := 1) rfl (zcat_rf a2) rfl) ?_
        refine s_aload_n (pc := 42) 0 dX2_shipsByPosition_42 rfl rfl ?_
        refine zS_ite (fun ht => ?_) (fun _ => zS_none)
        refine s_callV (pc := 43) (np := 0) (as := []) (rest := []) dX2_shipsByPosition_43 ht (q := (RX6, TX6, 9)) rfl (c_X6_isInDock (by decide) r47 h48) rfl rfl q837 q367 q368 rfl (by decide) (zkI (fun x57 h58 => ?_)) zxo
        refine s_if_eq (pc := 46) (tgt := 99) dX2_shipsByPosition_46 (by decide) (fun _ => ?_) (fun _ => ?_)
        · exact s_sub (pc := 99) [1, 2] rfl (w_X2_shipsByPosition_99 (f_X2_shipsByPosition_23 n) ih a1 a2 h58)
        · refine s_iconst (pc := 49) (v := 0) dX2_shipsByPosition_49 (by decide) ?_
          refine s_ist (pc := 50) (L2 := [(3, va_rf r47), (1, va_rf a1), (2, va_rf a2)]) [0, 1, 2] dX2_shipsByPosition_50 (by decide) rfl rfl (zcB (j := 0) rfl (zcat_rf r47) rfl) ?_
          exact s_sub (pc := 52) [2, 3, 1, 0] rfl (w_X2_shipsByPosition_52 (f_X2_shipsByPosition_23 n) ih zfuel a1 a2 r47 0 h58)
    refine zS_ite (fun ht => ?_) (fun _ => zS_none)
    refine s_callF (pc := 24) (np := 0) (as := []) (rest := []) dX2_shipsByPosition_24 ht (q := (RJ22, TJ22, 5)) rfl (c_J20_hasNext (by decide) a2 h) ⟨_, _, _, q665⟩ rfl rfl q629 (by decide +kernel) q663 q667 rfl (by decide) (zkI (fun x9 h10 => ?_)) zxo
    refine s_if_eq (pc := 29) (tgt := 102) dX2_shipsByPosition_29 (by decide) (fun _ => ?_) (fun _ => ?_)
    · refine s_aload_n (pc := 102) 0 dX2_shipsByPosition_102 rfl rfl ?_
      exact s_aret (pc := 103) dX2_shipsByPosition_103 rfl (Or.inl ⟨_, rfl⟩)
    · refine s_aload_n (pc := 32) 1 dX2_shipsByPosition_32 rfl rfl ?_
      refine zS_ite (fun ht => ?_) (fun _ => ?_)
      · refine s_callF (pc := 33) (np := 0) (as := []) (rest := []) dX2_shipsByPosition_33 ht (q := (RX9, TX9, 2)) rfl (c_X9_next (by decide) a2 h10) ⟨_, _, _, q677⟩ rfl rfl q670 (by decide +kernel) q675 q673 rfl (by decide) (zkR (fun r59 h60 => ?_)) zxo
        refine s_cast (pc := 38) dX2_shipsByPosition_38 q836 zcs_FloatingDock_Ship ?_
        refine s_ast_n (pc := 41) (L2 := [(1, va_rf a1), (2, va_rf a2)]) [0, 1] dX2_shipsByPosition_41 rfl (by decide) rfl rfl (zcB (j := 1) rfl (zcat_rf a2) rfl) ?_
        refine s_aload_n (pc := 42) 0 dX2_shipsByPosition_42 rfl rfl ?_
        refine zS_ite (fun ht => ?_) (fun _ => zS_none)
        refine s_callV (pc := 43) (np := 0) (as := []) (rest := []) dX2_shipsByPosition_43 ht (q := (RX6, TX6, 9)) rfl (c_X6_isInDock (by decide) r59 h60) rfl rfl q837 q367 q368 rfl (by decide) (zkI (fun x61 h62 => ?_)) zxo
        refine s_if_eq (pc := 46) (tgt := 99) dX2_shipsByPosition_46 (by decide) (fun _ => ?_) (fun _ => ?_)
        · exact s_sub (pc := 99) [1, 2] rfl (w_X2_shipsByPosition_99 (f_X2_shipsByPosition_23 n) ih a1 a2 h62)
        · refine s_iconst (pc := 49) (v := 0) dX2_shipsByPosition_49 (by decide) ?_
          refine s_ist (pc := 50) (L2 := [(3, va_rf r59), (1, va_rf a1), (2, va_rf a2)]) [0, 1, 2] dX2_shipsByPosition_50 (by decide) rfl rfl (zcB (j := 0) rfl (zcat_rf r59) rfl) ?_
          exact s_sub (pc := 52) [2, 3, 1, 0] rfl (w_X2_shipsByPosition_52 (f_X2_shipsByPosition_23 n) ih zfuel a1 a2 r59 0 h62)
      refine zS_ite (fun ht => ?_) (fun _ => ?_)
      · refine s_callF (pc := 33) (np := 0) (as := []) (rest := []) dX2_shipsByPosition_33 ht (q := (RJ15, TJ15, 4)) rfl (c_J15_next (by decide) a2 h10) ⟨_, _, _, q788⟩ rfl rfl q670 (by decide +kernel) q786 q784 rfl (by decide) (zkR (fun r59 h60 => ?_)) zxo
        refine s_cast (pc := 38) dX2_shipsByPosition_38 q836 zcs_FloatingDock_Ship ?_
        refine s_ast_n (pc := 41) (L2 := [(1, va_rf a1), (2, va_rf a2)]) [0, 1] dX2_shipsByPosition_41 rfl (by decide) rfl rfl (zcB (j := 1) rfl (zcat_rf a2) rfl) ?_
        refine s_aload_n (pc := 42) 0 dX2_shipsByPosition_42 rfl rfl ?_
        refine zS_ite (fun ht => ?_) (fun _ => zS_none)
        refine s_callV (pc := 43) (np := 0) (as := []) (rest := []) dX2_shipsByPosition_43 ht (q := (RX6, TX6, 9)) rfl (c_X6_isInDock (by decide) r59 h60) rfl rfl q837 q367 q368 rfl (by decide) (zkI (fun x63 h64 => ?_)) zxo
        refine s_if_eq (pc := 46) (tgt := 99) dX2_shipsByPosition_46 (by decide) (fun _ => ?_) (fun _ => ?_)
        · exact s_sub (pc := 99) [1, 2] rfl (w_X2_shipsByPosition_99 (f_X2_shipsByPosition_23 n) ih a1 a2 h64)
        · refine s_iconst (pc := 49) (v := 0) dX2_shipsByPosition_49 (by decide) ?_
          refine s_ist (pc := 50) (L2 := [(3, va_rf r59), (1, va_rf a1), (2, va_rf a2)]) [0, 1, 2] dX2_shipsByPosition_50 (by decide) rfl rfl (zcB (j := 0) rfl (zcat_rf r59) rfl) ?_
          exact s_sub (pc := 52) [2, 3, 1, 0] rfl (w_X2_shipsByPosition_52 (f_X2_shipsByPosition_23 n) ih zfuel a1 a2 r59 0 h64)
      refine zS_ite (fun ht => ?_) (fun _ => ?_)
      · refine s_callF (pc := 33) (np := 0) (as := []) (rest := []) dX2_shipsByPosition_33 ht (q := (RJ17, TJ17, 5)) rfl (c_J17_next (by decide) a2 h10) ⟨_, _, _, q799⟩ rfl rfl q670 (by decide +kernel) q797 q795 rfl (by decide) (zkR (fun r59 h60 => ?_)) zxo
        refine s_cast (pc := 38) dX2_shipsByPosition_38 q836 zcs_FloatingDock_Ship ?_
        refine s_ast_n (pc := 41) (L2 := [(1, va_rf a1), (2, va_rf a2)]) [0, 1] dX2_shipsByPosition_41 rfl (by decide) rfl rfl (zcB (j := 1) rfl (zcat_rf a2) rfl) ?_
        refine s_aload_n (pc := 42) 0 dX2_shipsByPosition_42 rfl rfl ?_
        refine zS_ite (fun ht => ?_) (fun _ => zS_none)
        refine s_callV (pc := 43) (np := 0) (as := []) (rest := []) dX2_shipsByPosition_43 ht (q := (RX6, TX6, 9)) rfl (c_X6_isInDock (by decide) r59 h60) rfl rfl q837 q367 q368 rfl (by decide) (zkI (fun x65 h66 => ?_)) zxo
        refine s_if_eq (pc := 46) (tgt := 99) dX2_shipsByPosition_46 (by decide) (fun _ => ?_) (fun _ => ?_)
        · exact s_sub (pc := 99) [1, 2] rfl (w_X2_shipsByPosition_99 (f_X2_shipsByPosition_23 n) ih a1 a2 h66)
        · refine s_iconst (pc := 49) (v := 0) dX2_shipsByPosition_49 (by decide) ?_
          refine s_ist (pc := 50) (L2 := [(3, va_rf r59), (1, va_rf a1), (2, va_rf a2)]) [0, 1, 2] dX2_shipsByPosition_50 (by decide) rfl rfl (zcB (j := 0) rfl (zcat_rf r59) rfl) ?_
          exact s_sub (pc := 52) [2, 3, 1, 0] rfl (w_X2_shipsByPosition_52 (f_X2_shipsByPosition_23 n) ih zfuel a1 a2 r59 0 h66)
      refine zS_ite (fun ht => ?_) (fun _ => ?_)
      · refine s_callF (pc := 33) (np := 0) (as := []) (rest := []) dX2_shipsByPosition_33 ht (q := (RJ21, TJ21, 5)) rfl (c_J21_next (by decide) a2 h10) ⟨_, _, _, q812⟩ rfl rfl q670 (by decide +kernel) q810 q808 rfl (by decide) (zkR (fun r59 h60 => ?_)) zxo
        refine s_cast (pc := 38) dX2_shipsByPosition_38 q836 zcs_FloatingDock_Ship ?_
        refine s_ast_n (pc := 41) (L2 := [(1, va_rf a1), (2, va_rf a2)]) [0, 1] dX2_shipsByPosition_41 rfl (by decide) rfl rfl (zcB (j := 1) rfl (zcat_rf a2) rfl) ?_
        refine s_aload_n (pc := 42) 0 dX2_shipsByPosition_42 rfl rfl ?_
        refine zS_ite (fun ht => ?_) (fun _ => zS_none)
        refine s_callV (pc := 43) (np := 0) (as := []) (rest := []) dX2_shipsByPosition_43 ht (q := (RX6, TX6, 9)) rfl (c_X6_isInDock (by decide) r59 h60) rfl rfl q837 q367 q368 rfl (by decide) (zkI (fun x67 h68 => ?_)) zxo
        refine s_if_eq (pc := 46) (tgt := 99) dX2_shipsByPosition_46 (by decide) (fun _ => ?_) (fun _ => ?_)
        · exact s_sub (pc := 99) [1, 2] rfl (w_X2_shipsByPosition_99 (f_X2_shipsByPosition_23 n) ih a1 a2 h68)
        · refine s_iconst (pc := 49) (v := 0) dX2_shipsByPosition_49 (by decide) ?_
          refine s_ist (pc := 50) (L2 := [(3, va_rf r59), (1, va_rf a1), (2, va_rf a2)]) [0, 1, 2] dX2_shipsByPosition_50 (by decide) rfl rfl (zcB (j := 0) rfl (zcat_rf r59) rfl) ?_
          exact s_sub (pc := 52) [2, 3, 1, 0] rfl (w_X2_shipsByPosition_52 (f_X2_shipsByPosition_23 n) ih zfuel a1 a2 r59 0 h68)
      refine zS_ite (fun ht => ?_) (fun _ => zS_none)
      refine s_callF (pc := 33) (np := 0) (as := []) (rest := []) dX2_shipsByPosition_33 ht (q := (RJ22, TJ22, 5)) rfl (c_J22_next (by decide) a2 h10) ⟨_, _, _, q832⟩ rfl rfl q670 (by decide +kernel) q830 q828 rfl (by decide) (zkR (fun r59 h60 => ?_)) zxo
      refine s_cast (pc := 38) dX2_shipsByPosition_38 q836 zcs_FloatingDock_Ship ?_
      refine s_ast_n (pc := 41) (L2 := [(1, va_rf a1), (2, va_rf a2)]) [0, 1] dX2_shipsByPosition_41 rfl (by decide) rfl rfl (zcB (j := 1) rfl (zcat_rf a2) rfl) ?_
      refine s_aload_n (pc := 42) 0 dX2_shipsByPosition_42 rfl rfl ?_
      refine zS_ite (fun ht => ?_) (fun _ => zS_none)
      refine s_callV (pc := 43) (np := 0) (as := []) (rest := []) dX2_shipsByPosition_43 ht (q := (RX6, TX6, 9)) rfl (c_X6_isInDock (by decide) r59 h60) rfl rfl q837 q367 q368 rfl (by decide) (zkI (fun x69 h70 => ?_)) zxo
      refine s_if_eq (pc := 46) (tgt := 99) dX2_shipsByPosition_46 (by decide) (fun _ => ?_) (fun _ => ?_)
      · exact s_sub (pc := 99) [1, 2] rfl (w_X2_shipsByPosition_99 (f_X2_shipsByPosition_23 n) ih a1 a2 h70)
      · refine s_iconst (pc := 49) (v := 0) dX2_shipsByPosition_49 (by decide) ?_
        refine s_ist (pc := 50) (L2 := [(3, va_rf r59), (1, va_rf a1), (2, va_rf a2)]) [0, 1, 2] dX2_shipsByPosition_50 (by decide) rfl rfl (zcB (j := 0) rfl (zcat_rf r59) rfl) ?_
        exact s_sub (pc := 52) [2, 3, 1, 0] rfl (w_X2_shipsByPosition_52 (f_X2_shipsByPosition_23 n) ih zfuel a1 a2 r59 0 h70)
theorem w_X2_shipsByPosition (v0 : Option Nat) (h : zH) : zS D z yX2_shipsByPosition cX2_shipsByPosition 5 (some (.object "java/util/ArrayList")) [] 10 h 0 [(0, va_rf v0)] [] (f_X2_shipsByPosition v0 h) := by
  unfold f_X2_shipsByPosition
  refine s_new (pc := 0) dX2_shipsByPosition_0 nf_X2_135 (fun r1 h2 => ?_)
  refine s_dup (pc := 3) dX2_shipsByPosition_3 (zcat_rf _) ?_
  refine s_bipush (pc := 4) (v := 8) dX2_shipsByPosition_4 (by decide) ?_
  refine zS_ite (fun hr => ?_) (fun _ => zS_none)
  refine s_callC (pc := 6) (np := 1) (as := [.int 8]) (rest := [va_rf r1]) dX2_shipsByPosition_6 hr (c_J37_init (by decide) r1 8 h2) ⟨_, _, q1150⟩ rfl rfl rfl q1148 q1149 rfl (by simp [zcat_rf, zcat_i, zcat_l, zcat_f, zcat_d]) (zkV (fun h3 => ?_)) zxo
  refine s_ast_n (pc := 9) (L2 := [(0, va_rf v0)]) [0] dX2_shipsByPosition_9 rfl (by decide) rfl rfl (zcB (j := 0) rfl (zcat_rf v0) rfl) ?_
  refine s_aload_n (pc := 10) 1 dX2_shipsByPosition_10 rfl rfl ?_
  refine s_gR (pc := 11) dX2_shipsByPosition_11 gf_X2_12 (fun r4 => ?_)
  refine zS_ite (fun ht => ?_) (fun _ => zS_none)
  refine s_callV (pc := 14) (np := 0) (as := []) (rest := []) dX2_shipsByPosition_14 ht (q := (RJ2, TJ2, 12)) rfl (c_J2_values (by decide) r4 h3) rfl rfl q413 q414 q415 rfl (by decide) (zkR (fun r5 h6 => ?_)) zxo
  refine zS_ite (fun ht => ?_) (fun _ => zS_none)
  refine s_callF (pc := 17) (np := 0) (as := []) (rest := []) dX2_shipsByPosition_17 ht (q := (RJ13, TJ13, 2)) rfl (c_J13_iterator (by decide) r5 h6) ⟨_, _, _, q615⟩ rfl rfl q436 (by decide +kernel) q613 q611 rfl (by decide) (zkR (fun r7 h8 => ?_)) zxo
  refine s_ast_n (pc := 22) (L2 := [(1, va_rf r1)]) [0] dX2_shipsByPosition_22 rfl (by decide) rfl rfl (zcB (j := 0) rfl (zcat_rf r1) rfl) ?_
  exact s_sub (pc := 23) [1, 0] rfl (w_X2_shipsByPosition_23 zfuel r1 r7 h8)
theorem c_X2_shipsByPosition {d0 : Nat} (hd0 : 10 < d0) (v0 : Option Nat) (h : zH) : zCal D z d0 h yX2_shipsByPosition [va_rf v0] (f_X2_shipsByPosition v0 h) :=
  ⟨cX2_shipsByPosition, 5, (some (.object "java/util/ArrayList")), [], 10, (show lv_args 0 [va_rf v0] = [(0, va_rf v0)] by simp [lv_args, zcat_rf, zcat_i, zcat_l, zcat_f, zcat_d]) ▸ w_X2_shipsByPosition v0 h, (plainFor_of_name (by decide)), by simp [lg_sl, zcat_rf, zcat_i, zcat_l, zcat_f, zcat_d], q1184, q96, hd0, by decide, by decide⟩
theorem w_J15_init (v0 : Option Nat) (v1 : Option Nat) (h : zH) : zS D z yJ15_init cJ15_init 2 none [] 1 h 0 [(0, va_rf v0), (1, va_rf v1)] [] (f_J15_init v0 v1 h) := by
  unfold f_J15_init
  refine s_aload_n (pc := 0) 0 dJ15_init_0 rfl rfl ?_
  refine s_aload_n (pc := 1) 1 dJ15_init_1 rfl rfl ?_
  refine s_putR (pc := 2) dJ15_init_2 pf_J15_1 (fun h1 => ?_)
  refine s_aload_n (pc := 5) 0 dJ15_init_5 rfl rfl ?_
  refine zS_ite (fun hr => ?_) (fun _ => zS_none)
  refine s_objinit (pc := 6) dJ15_init_6 hr q482 q164 q165 (by decide) (by decide) ?_
  refine s_aload_n (pc := 9) 0 dJ15_init_9 rfl rfl ?_
  refine s_iconst (pc := 10) (v := -1) dJ15_init_10 (by decide) ?_
  refine s_putI (pc := 11) dJ15_init_11 pf_J15_13 (fun h2 => ?_)
  refine s_aload_n (pc := 14) 0 dJ15_init_14 rfl rfl ?_
  refine s_aload_n (pc := 15) 0 dJ15_init_15 rfl rfl ?_
  refine s_gR (pc := 16) dJ15_init_16 gf_J15_1 (fun r3 => ?_)
  refine s_gI (pc := 19) dJ15_init_19 gf_J15_17 (fun x4 => ?_)
  refine s_putI (pc := 22) dJ15_init_22 pf_J15_22 (fun h5 => ?_)
  exact s_vret (pc := 25) dJ15_init_25 rfl
theorem c_J15_init {d0 : Nat} (hd0 : 1 < d0) (v0 : Option Nat) (v1 : Option Nat) (h : zH) : zCal D z d0 h yJ15_init [va_rf v0, va_rf v1] (f_J15_init v0 v1 h) :=
  ⟨cJ15_init, 2, none, [], 1, (show lv_args 0 [va_rf v0, va_rf v1] = [(0, va_rf v0), (1, va_rf v1)] by simp [lv_args, zcat_rf, zcat_i, zcat_l, zcat_f, zcat_d]) ▸ w_J15_init v0 v1 h, (plainFor_of_name (by decide)), by simp [lg_sl, zcat_rf, zcat_i, zcat_l, zcat_f, zcat_d], q481, q112, hd0, by decide, by decide⟩
theorem w_J37_iterator (v0 : Option Nat) (h : zH) : zS D z yJ37_iterator cJ37_iterator 1 (some (.object "java/util/Iterator")) [] 2 h 0 [(0, va_rf v0)] [] (f_J37_iterator v0 h) := by
  unfold f_J37_iterator
  refine s_new (pc := 0) dJ37_iterator_0 nf_J37_267 (fun r1 h2 => ?_)
  refine s_dup (pc := 3) dJ37_iterator_3 (zcat_rf _) ?_
  refine s_aload_n (pc := 4) 0 dJ37_iterator_4 rfl rfl ?_
  refine zS_ite (fun hr => ?_) (fun _ => zS_none)
  refine s_callC (pc := 5) (np := 1) (as := [va_rf v0]) (rest := [va_rf r1]) dJ37_iterator_5 hr (c_J15_init (by decide) r1 v0 h2) ⟨_, _, q481⟩ rfl rfl rfl q479 q480 rfl (by simp [zcat_rf, zcat_i, zcat_l, zcat_f, zcat_d]) (zkV (fun h3 => ?_)) zxo
  exact s_aret (pc := 8) dJ37_iterator_8 rfl (Or.inl ⟨_, rfl⟩)
theorem c_J37_iterator {d0 : Nat} (hd0 : 2 < d0) (v0 : Option Nat) (h : zH) : zCal D z d0 h yJ37_iterator [va_rf v0] (f_J37_iterator v0 h) :=
  ⟨cJ37_iterator, 1, (some (.object "java/util/Iterator")), [], 2, (show lv_args 0 [va_rf v0] = [(0, va_rf v0)] by simp [lv_args, zcat_rf, zcat_i, zcat_l, zcat_f, zcat_d]) ▸ w_J37_iterator v0 h, (plainFor_of_name (by decide)), by simp [lg_sl, zcat_rf, zcat_i, zcat_l, zcat_f, zcat_d], q476, q136, hd0, by decide, by decide⟩
theorem w_J37_add_3_11 (a0 : Option Nat) (a1 : Option Nat) (a2 : Option Nat) (a3 : Int32) (h : zH) : zS D z yJ37_add_3 cJ37_add_3 4 none [] 1 h 11 [(0, va_rf a0), (1, va_rf a1), (2, va_rf a2), (3, .int a3)] [] (f_J37_add_3_11 a0 a1 a2 a3 h) := by
  unfold f_J37_add_3_11
  refine s_aload_n (pc := 11) 2 dJ37_add_3_11 rfl rfl ?_
  refine s_iload_n (pc := 12) 3 dJ37_add_3_12 rfl rfl ?_
  refine s_aload_n (pc := 13) 1 dJ37_add_3_13 rfl rfl ?_
  refine s_aast (pc := 14) dJ37_add_3_14 (ztc ⟨rfl, by decide⟩ zt0) zcs_java_lang_Object (fun h4 => ?_)
  refine s_aload_n (pc := 15) 0 dJ37_add_3_15 rfl rfl ?_
  refine s_iload_n (pc := 16) 3 dJ37_add_3_16 rfl rfl ?_
  refine s_iconst (pc := 17) (v := 1) dJ37_add_3_17 (by decide) ?_
  refine s_iadd (pc := 18) dJ37_add_3_18 ?_
  refine s_putI (pc := 19) dJ37_add_3_19 pf_J37_48 (fun h5 => ?_)
  exact s_vret (pc := 22) dJ37_add_3_22 rfl
theorem w_J37_add_3 (v0 : Option Nat) (v1 : Option Nat) (v2 : Option Nat) (v3 : Int32) (h : zH) : zS D z yJ37_add_3 cJ37_add_3 4 none [] 1 h 0 [(0, va_rf v0), (1, va_rf v1), (2, va_rf v2), (3, .int v3)] [] (f_J37_add_3 v0 v1 v2 v3 h) := by
  unfold f_J37_add_3
  refine s_iload_n (pc := 0) 3 dJ37_add_3_0 rfl rfl ?_
  refine s_aload_n (pc := 1) 2 dJ37_add_3_1 rfl rfl ?_
  refine s_alen (pc := 2) dJ37_add_3_2 zarrs_ok (fun x1 => ?_)
  refine s_icmp_ne (pc := 3) (tgt := 11) dJ37_add_3_3 (by decide) (fun _ => ?_) (fun _ => ?_)
  · exact s_sub (pc := 11) [0, 1, 2, 3] rfl (w_J37_add_3_11 v0 v1 v2 v3 h)
  · refine s_aload_n (pc := 6) 0 dJ37_add_3_6 rfl rfl ?_
    exact zS_none
theorem c_J37_add_3 {d0 : Nat} (hd0 : 1 < d0) (v0 : Option Nat) (v1 : Option Nat) (v2 : Option Nat) (v3 : Int32) (h : zH) : zCal D z d0 h yJ37_add_3 [va_rf v0, va_rf v1, va_rf v2, .int v3] (f_J37_add_3 v0 v1 v2 v3 h) :=
  ⟨cJ37_add_3, 4, none, [], 1, (show lv_args 0 [va_rf v0, va_rf v1, va_rf v2, .int v3] = [(0, va_rf v0), (1, va_rf v1), (2, va_rf v2), (3, .int v3)] by simp [lv_args, zcat_rf, zcat_i, zcat_l, zcat_f, zcat_d]) ▸ w_J37_add_3 v0 v1 v2 v3 h, (plainFor_of_name (by decide)), by simp [lg_sl, zcat_rf, zcat_i, zcat_l, zcat_f, zcat_d], q1311, q136, hd0, by decide, by decide⟩
theorem w_J37_add_2 (v0 : Option Nat) (v1 : Option Nat) (h : zH) : zS D z yJ37_add_2 cJ37_add_2 2 (some .boolean) [] 2 h 0 [(0, va_rf v0), (1, va_rf v1)] [] (f_J37_add_2 v0 v1 h) := by
  unfold f_J37_add_2
  refine s_aload_n (pc := 0) 0 dJ37_add_2_0 rfl rfl ?_
  refine s_dup (pc := 1) dJ37_add_2_1 (zcat_rf _) ?_
  refine s_gI (pc := 2) dJ37_add_2_2 gf_J37_63 (fun x1 => ?_)
  refine s_iconst (pc := 5) (v := 1) dJ37_add_2_5 (by decide) ?_
  refine s_iadd (pc := 6) dJ37_add_2_6 ?_
  refine s_putI (pc := 7) dJ37_add_2_7 pf_J37_63 (fun h2 => ?_)
  refine s_aload_n (pc := 10) 0 dJ37_add_2_10 rfl rfl ?_
  refine s_aload_n (pc := 11) 1 dJ37_add_2_11 rfl rfl ?_
  refine s_aload_n (pc := 12) 0 dJ37_add_2_12 rfl rfl ?_
  refine s_gR (pc := 13) dJ37_add_2_13 gf_J37_9 (fun r3 => ?_)
  refine s_aload_n (pc := 16) 0 dJ37_add_2_16 rfl rfl ?_
  refine s_gI (pc := 17) dJ37_add_2_17 gf_J37_48 (fun x4 => ?_)
  refine zS_ite (fun ht => ?_) (fun _ => zS_none)
  refine s_callV (pc := 20) (np := 3) (as := [va_rf v1, va_rf r3, .int x4]) (rest := []) dJ37_add_2_20 ht (q := (RJ37, TJ37, 3)) rfl (c_J37_add_3 (by decide) v0 v1 r3 x4 h2) rfl rfl q1308 q1310 qs9 rfl (by decide) (zkV (fun h5 => ?_)) zxo
  refine s_iconst (pc := 23) (v := 1) dJ37_add_2_23 (by decide) ?_
  exact s_nret (pc := 24) dJ37_add_2_24 rfl
theorem c_J37_add_2 {d0 : Nat} (hd0 : 2 < d0) (v0 : Option Nat) (v1 : Option Nat) (h : zH) : zCal D z d0 h yJ37_add_2 [va_rf v0, va_rf v1] (f_J37_add_2 v0 v1 h) :=
  ⟨cJ37_add_2, 2, (some .boolean), [], 2, (show lv_args 0 [va_rf v0, va_rf v1] = [(0, va_rf v0), (1, va_rf v1)] by simp [lv_args, zcat_rf, zcat_i, zcat_l, zcat_f, zcat_d]) ▸ w_J37_add_2 v0 v1 h, (plainFor_of_name (by decide)), by simp [lg_sl, zcat_rf, zcat_i, zcat_l, zcat_f, zcat_d], q1307, q136, hd0, by decide, by decide⟩
theorem w_X2_gaps_75 (K20 : Option Nat → Int32 → Option Nat → zH → zO) (hK20 : ∀ (a1 : Option Nat) (a2 : Int32) (a3 : Option Nat) (h : zH), zS D z yX2_gaps cX2_gaps 5 (some (.object "java/util/ArrayList")) [] 11 h 20 [(1, va_rf a1), (2, .int a2), (3, va_rf a3)] [] (K20 a1 a2 a3 h)) (a1 : Option Nat) (a3 : Option Nat) (a4 : Option Nat) (h : zH) : zS D z yX2_gaps cX2_gaps 5 (some (.object "java/util/ArrayList")) [] 11 h 75 [(1, va_rf a1), (3, va_rf a3), (4, va_rf a4)] [] (f_X2_gaps_75 K20 a1 a3 a4 h) := by
  unfold f_X2_gaps_75
  refine s_aload (pc := 75) 2 dX2_gaps_75 rfl ?_
  refine s_gR (pc := 77) dX2_gaps_77 gf_X2_144 (fun r245 => ?_)
  refine zS_ite (fun ht => ?_) (fun _ => zS_none)
  refine s_callV (pc := 80) (np := 0) (as := []) (rest := []) dX2_gaps_80 ht (q := (RX3, TX3, 2)) rfl (c_X3_end (by decide) r245 h) rfl rfl q838 q639 q640 rfl (by decide) (zkI (fun x246 h247 => ?_)) zxo
  refine s_ist_n (pc := 83) (L2 := [(1, va_rf a1), (3, va_rf a3)]) [0, 1] dX2_gaps_83 rfl (by decide) rfl rfl (zcB (j := 0) rfl (zcat_rf a1) rfl) ?_
  refine s_goto (pc := 84) (tgt := 20) dX2_gaps_84 (by decide) ?_
  exact s_sub (pc := 20) [1, 0, 2] rfl (hK20 a1 x246 a3 h247)
theorem w_X2_gaps_87 (a1 : Option Nat) (a2 : Int32) (h : zH) : zS D z yX2_gaps cX2_gaps 5 (some (.object "java/util/ArrayList")) [] 11 h 87 [(1, va_rf a1), (2, .int a2)] [] (f_X2_gaps_87 a1 a2 h) := by
  unfold f_X2_gaps_87
  refine s_iload_n (pc := 87) 1 dX2_gaps_87 rfl rfl ?_
  refine s_bipush (pc := 88) (v := 60) dX2_gaps_88 (by decide) ?_
  refine s_icmp_ge (pc := 90) (tgt := 110) dX2_gaps_90 (by decide) (fun _ => ?_) (fun _ => ?_)
  · refine s_aload_n (pc := 110) 0 dX2_gaps_110 rfl rfl ?_
    exact s_aret (pc := 111) dX2_gaps_111 rfl (Or.inl ⟨_, rfl⟩)
  · refine s_aload_n (pc := 93) 0 dX2_gaps_93 rfl rfl ?_
    refine s_new (pc := 94) dX2_gaps_94 nf_X2_149 (fun r248 h249 => ?_)
    refine s_dup (pc := 97) dX2_gaps_97 (zcat_rf _) ?_
    refine s_iload_n (pc := 98) 1 dX2_gaps_98 rfl rfl ?_
    refine s_bipush (pc := 99) (v := 60) dX2_gaps_99 (by decide) ?_
    refine s_iload_n (pc := 101) 1 dX2_gaps_101 rfl rfl ?_
    refine s_isub (pc := 102) dX2_gaps_102 ?_
    refine zS_ite (fun hr => ?_) (fun _ => zS_none)
    refine s_callC (pc := 103) (np := 2) (as := [.int a2, .int ((60 : Int32) - a2)]) (rest := [va_rf r248, va_rf a1]) dX2_gaps_103 hr (c_X3_init (by decide) r248 a2 ((60 : Int32) - a2) h249) ⟨_, _, q1291⟩ rfl rfl rfl q1289 q1290 rfl (by simp [zcat_rf, zcat_i, zcat_l, zcat_f, zcat_d]) (zkV (fun h250 => ?_)) zxo
    refine zS_ite (fun ht => ?_) (fun _ => zS_none)
    refine s_callV (pc := 106) (np := 1) (as := [va_rf r248]) (rest := []) dX2_gaps_106 ht (q := (RJ37, TJ37, 3)) rfl (c_J37_add_2 (by decide) a1 r248 h250) rfl rfl q1304 q1305 q1306 rfl (by decide) (zkI (fun x251 h252 => ?_)) zxo
    refine s_pop (pc := 109) dX2_gaps_109 rfl ?_
    refine s_aload_n (pc := 110) 0 dX2_gaps_110 rfl rfl ?_
    exact s_aret (pc := 111) dX2_gaps_111 rfl (Or.inl ⟨_, rfl⟩)
theorem w_X2_gaps_20 : ∀ (n : Nat) (a1 : Option Nat) (a2 : Int32) (a3 : Option Nat) (h : zH), zS D z yX2_gaps cX2_gaps 5 (some (.object "java/util/ArrayList")) [] 11 h 20 [(1, va_rf a1), (2, .int a2), (3, va_rf a3)] [] (f_X2_gaps_20 n a1 a2 a3 h) := by
  intro n
  induction n with
  | zero => intros; exact zS_none
  | succ n ih =>
    intro a1 a2 a3 h
    rw [f_X2_gaps_20.eq_2]
    refine s_aload_n (pc := 20) 2 dX2_gaps_20 rfl rfl ?_
    refine zS_ite (fun ht => ?_) (fun _ => ?_)
    · refine s_callF (pc := 21) (np := 0) (as := []) (rest := []) dX2_gaps_21 ht (q := (RX9, TX9, 2)) rfl (c_X9_hasNext (by decide) a3 h) ⟨_, _, _, q637⟩ rfl rfl q629 (by decide +kernel) q635 q633 rfl (by decide) (zkI (fun x8 h9 => ?_)) zxo
      refine s_if_eq (pc := 26) (tgt := 87) dX2_gaps_26 (by decide) (fun _ => ?_) (fun _ => ?_)
      · exact s_sub (pc := 87) [0, 1] rfl (w_X2_gaps_87 a1 a2 h9)
      · refine s_aload_n (pc := 29) 2 dX2_gaps_29 rfl rfl ?_
        refine zS_ite (fun ht => ?_) (fun _ => ?_)
        · refine s_callF (pc := 30) (np := 0) (as := []) (rest := []) dX2_gaps_30 ht (q := (RX9, TX9, 2)) rfl (c_X9_next (by decide) a3 h9) ⟨_, _, _, q677⟩ rfl rfl q670 (by decide +kernel) q675 q673 rfl (by decide) (zkR (fun r10 h11 => ?_)) zxo
          refine s_cast (pc := 35) dX2_gaps_35 q836 zcs_FloatingDock_Ship ?_
          refine s_ast (pc := 38) (L2 := [(1, va_rf a1), (2, .int a2), (3, va_rf a3)]) [0, 1, 2] dX2_gaps_38 (by decide) rfl rfl (zcB (j := 2) rfl (zcat_rf a3) rfl) ?_
          refine s_aload (pc := 40) 0 dX2_gaps_40 rfl ?_
          refine s_gR (pc := 42) dX2_gaps_42 gf_X2_144 (fun r12 => ?_)
          refine s_gI (pc := 45) dX2_gaps_45 gf_X2_148 (fun x13 => ?_)
          refine s_iload_n (pc := 48) 2 dX2_gaps_48 rfl rfl ?_
          refine s_icmp_le (pc := 49) (tgt := 75) dX2_gaps_49 (by decide) (fun _ => ?_) (fun _ => ?_)
          · exact s_sub (pc := 75) [1, 3, 0] rfl (w_X2_gaps_75 (f_X2_gaps_20 n) ih a1 a3 r10 h11)
          · refine s_aload_n (pc := 52) 1 dX2_gaps_52 rfl rfl ?_
            refine s_new (pc := 53) dX2_gaps_53 nf_X2_149 (fun r14 h15 => ?_)
            refine s_dup (pc := 56) dX2_gaps_56 (zcat_rf _) ?_
            refine s_iload_n (pc := 57) 2 dX2_gaps_57 rfl rfl ?_
            refine s_aload (pc := 58) 0 dX2_gaps_58 rfl ?_
            refine s_gR (pc := 60) dX2_gaps_60 gf_X2_144 (fun r16 => ?_)
            refine s_gI (pc := 63) dX2_gaps_63 gf_X2_148 (fun x17 => ?_)
            refine s_iload_n (pc := 66) 2 dX2_gaps_66 rfl rfl ?_
            refine s_isub (pc := 67) dX2_gaps_67 ?_
            refine zS_ite (fun hr => ?_) (fun _ => zS_none)
            refine s_callC (pc := 68) (np := 2) (as := [.int a2, .int (x17 - a2)]) (rest := [va_rf r14, va_rf a1]) dX2_gaps_68 hr (c_X3_init (by decide) r14 a2 (x17 - a2) h15) ⟨_, _, q1291⟩ rfl rfl rfl q1289 q1290 rfl (by simp [zcat_rf, zcat_i, zcat_l, zcat_f, zcat_d]) (zkV (fun h18 => ?_)) zxo
            refine zS_ite (fun ht => ?_) (fun _ => zS_none)
            refine s_callV (pc := 71) (np := 1) (as := [va_rf r14]) (rest := []) dX2_gaps_71 ht (q := (RJ37, TJ37, 3)) rfl (c_J37_add_2 (by decide) a1 r14 h18) rfl rfl q1304 q1305 q1306 rfl (by decide) (zkI (fun x19 h20 => ?_)) zxo
            refine s_pop (pc := 74) dX2_gaps_74 rfl ?_
            exact s_sub (pc := 75) [1, 3, 0] rfl (w_X2_gaps_75 (f_X2_gaps_20 n) ih a1 a3 r10 h20)
        refine zS_ite (fun ht => ?_) (fun _ => ?_)
        · refine s_callF (pc := 30) (np := 0) (as := []) (rest := []) dX2_gaps_30 ht (q := (RJ15, TJ15, 4)) rfl (c_J15_next (by decide) a3 h9) ⟨_, _, _, q788⟩ rfl rfl q670 (by decide +kernel) q786 q784 rfl (by decide) (zkR (fun r10 h11 => ?_)) zxo
          refine s_cast (pc := 35) dX2_gaps_35 q836 zcs_FloatingDock_Ship ?_
          refine s_ast (pc := 38) (L2 := [(1, va_rf a1), (2, .int a2), (3, va_rf a3)]) [0, 1, 2] dX2_gaps_38 (by decide) rfl rfl (zcB (j := 2) rfl (zcat_rf a3) rfl) ?_
          refine s_aload (pc := 40) 0 dX2_gaps_40 rfl ?_
          refine s_gR (pc := 42) dX2_gaps_42 gf_X2_144 (fun r21 => ?_)
          refine s_gI (pc := 45) dX2_gaps_45 gf_X2_148 (fun x22 => ?_)
          refine s_iload_n (pc := 48) 2 dX2_gaps_48 rfl rfl ?_
          refine s_icmp_le (pc := 49) (tgt := 75) dX2_gaps_49 (by decide) (fun _ => ?_) (fun _ => ?_)
          · exact s_sub (pc := 75) [1, 3, 0] rfl (w_X2_gaps_75 (f_X2_gaps_20 n) ih a1 a3 r10 h11)
          · refine s_aload_n (pc := 52) 1 dX2_gaps_52 rfl rfl ?_
            refine s_new (pc := 53) dX2_gaps_53 nf_X2_149 (fun r23 h24 => ?_)
            refine s_dup (pc := 56) dX2_gaps_56 (zcat_rf _) ?_
            refine s_iload_n (pc := 57) 2 dX2_gaps_57 rfl rfl ?_
            refine s_aload (pc := 58) 0 dX2_gaps_58 rfl ?_
            refine s_gR (pc := 60) dX2_gaps_60 gf_X2_144 (fun r25 => ?_)
            refine s_gI (pc := 63) dX2_gaps_63 gf_X2_148 (fun x26 => ?_)
            refine s_iload_n (pc := 66) 2 dX2_gaps_66 rfl rfl ?_
            refine s_isub (pc := 67) dX2_gaps_67 ?_
            refine zS_ite (fun hr => ?_) (fun _ => zS_none)
            refine s_callC (pc := 68) (np := 2) (as := [.int a2, .int (x26 - a2)]) (rest := [va_rf r23, va_rf a1]) dX2_gaps_68 hr (c_X3_init (by decide) r23 a2 (x26 - a2) h24) ⟨_, _, q1291⟩ rfl rfl rfl q1289 q1290 rfl (by simp [zcat_rf, zcat_i, zcat_l, zcat_f, zcat_d]) (zkV (fun h27 => ?_)) zxo
            refine zS_ite (fun ht => ?_) (fun _ => zS_none)
            refine s_callV (pc := 71) (np := 1) (as := [va_rf r23]) (rest := []) dX2_gaps_71 ht (q := (RJ37, TJ37, 3)) rfl (c_J37_add_2 (by decide) a1 r23 h27) rfl rfl q1304 q1305 q1306 rfl (by decide) (zkI (fun x28 h29 => ?_)) zxo
            refine s_pop (pc := 74) dX2_gaps_74 rfl ?_
            exact s_sub (pc := 75) [1, 3, 0] rfl (w_X2_gaps_75 (f_X2_gaps_20 n) ih a1 a3 r10 h29)
        refine zS_ite (fun ht => ?_) (fun _ => ?_)
        · refine s_callF (pc := 30) (np := 0) (as := []) (rest := []) dX2_gaps_30 ht (q := (RJ17, TJ17, 5)) rfl (c_J17_next (by decide) a3 h9) ⟨_, _, _, q799⟩ rfl rfl q670 (by decide +kernel) q797 q795 rfl (by decide) (zkR (fun r10 h11 => ?_)) zxo
          refine s_cast (pc := 35) dX2_gaps_35 q836 zcs_FloatingDock_Ship ?_
          refine s_ast (pc := 38) (L2 := [(1, va_rf a1), (2, .int a2), (3, va_rf a3)]) [0, 1, 2] dX2_gaps_38 (by decide) rfl rfl (zcB (j := 2) rfl (zcat_rf a3) rfl) ?_
          refine s_aload (pc := 40) 0 dX2_gaps_40 rfl ?_
          refine s_gR (pc := 42) dX2_gaps_42 gf_X2_144 (fun r30 => ?_)
          refine s_gI (pc := 45) dX2_gaps_45 gf_X2_148 (fun x31 => ?_)
          refine s_iload_n (pc := 48) 2 dX2_gaps_48 rfl rfl ?_
          refine s_icmp_le (pc := 49) (tgt := 75) dX2_gaps_49 (by decide) (fun _ => ?_) (fun _ => ?_)
          · exact s_sub (pc := 75) [1, 3, 0] rfl (w_X2_gaps_75 (f_X2_gaps_20 n) ih a1 a3 r10 h11)
          · refine s_aload_n (pc := 52) 1 dX2_gaps_52 rfl rfl ?_
            refine s_new (pc := 53) dX2_gaps_53 nf_X2_149 (fun r32 h33 => ?_)
            refine s_dup (pc := 56) dX2_gaps_56 (zcat_rf _) ?_
            refine s_iload_n (pc := 57) 2 dX2_gaps_57 rfl rfl ?_
            refine s_aload (pc := 58) 0 dX2_gaps_58 rfl ?_
            refine s_gR (pc := 60) dX2_gaps_60 gf_X2_144 (fun r34 => ?_)
            refine s_gI (pc := 63) dX2_gaps_63 gf_X2_148 (fun x35 => ?_)
            refine s_iload_n (pc := 66) 2 dX2_gaps_66 rfl rfl ?_
            refine s_isub (pc := 67) dX2_gaps_67 ?_
            refine zS_ite (fun hr => ?_) (fun _ => zS_none)
            refine s_callC (pc := 68) (np := 2) (as := [.int a2, .int (x35 - a2)]) (rest := [va_rf r32, va_rf a1]) dX2_gaps_68 hr (c_X3_init (by decide) r32 a2 (x35 - a2) h33) ⟨_, _, q1291⟩ rfl rfl rfl q1289 q1290 rfl (by simp [zcat_rf, zcat_i, zcat_l, zcat_f, zcat_d]) (zkV (fun h36 => ?_)) zxo
            refine zS_ite (fun ht => ?_) (fun _ => zS_none)
            refine s_callV (pc := 71) (np := 1) (as := [va_rf r32]) (rest := []) dX2_gaps_71 ht (q := (RJ37, TJ37, 3)) rfl (c_J37_add_2 (by decide) a1 r32 h36) rfl rfl q1304 q1305 q1306 rfl (by decide) (zkI (fun x37 h38 => ?_)) zxo
            refine s_pop (pc := 74) dX2_gaps_74 rfl ?_
            exact s_sub (pc := 75) [1, 3, 0] rfl (w_X2_gaps_75 (f_X2_gaps_20 n) ih a1 a3 r10 h38)
        refine zS_ite (fun ht => ?_) (fun _ => ?_)
        · refine s_callF (pc := 30) (np := 0) (as := []) (rest := []) dX2_gaps_30 ht (q := (RJ21, TJ21, 5)) rfl (c_J21_next (by decide) a3 h9) ⟨_, _, _, q812⟩ rfl rfl q670 (by decide +kernel) q810 q808 rfl (by decide) (zkR (fun r10 h11 => ?_)) zxo
          refine s_cast (pc := 35) dX2_gaps_35 q836 zcs_FloatingDock_Ship ?_
          refine s_ast (pc := 38) (L2 := [(1, va_rf a1), (2, .int a2), (3, va_rf a3)]) [0, 1, 2] dX2_gaps_38 (by decide) rfl rfl (zcB (j := 2) rfl (zcat_rf a3) rfl) ?_
          refine s_aload (pc := 40) 0 dX2_gaps_40 rfl ?_
          refine s_gR (pc := 42) dX2_gaps_42 gf_X2_144 (fun r39 => ?_)
          refine s_gI (pc := 45) dX2_gaps_45 gf_X2_148 (fun x40 => ?_)
          refine s_iload_n (pc := 48) 2 dX2_gaps_48 rfl rfl ?_
          refine s_icmp_le (pc := 49) (tgt := 75) dX2_gaps_49 (by decide) (fun _ => ?_) (fun _ => ?_)
          · exact s_sub (pc := 75) [1, 3, 0] rfl (w_X2_gaps_75 (f_X2_gaps_20 n) ih a1 a3 r10 h11)
          · refine s_aload_n (pc := 52) 1 dX2_gaps_52 rfl rfl ?_
            refine s_new (pc := 53) dX2_gaps_53 nf_X2_149 (fun r41 h42 => ?_)
            refine s_dup (pc := 56) dX2_gaps_56 (zcat_rf _) ?_
            refine s_iload_n (pc := 57) 2 dX2_gaps_57 rfl rfl ?_
            refine s_aload (pc := 58) 0 dX2_gaps_58 rfl ?_
            refine s_gR (pc := 60) dX2_gaps_60 gf_X2_144 (fun r43 => ?_)
            refine s_gI (pc := 63) dX2_gaps_63 gf_X2_148 (fun x44 => ?_)
            refine s_iload_n (pc := 66) 2 dX2_gaps_66 rfl rfl ?_
            refine s_isub (pc := 67) dX2_gaps_67 ?_
            refine zS_ite (fun hr => ?_) (fun _ => zS_none)
            refine s_callC (pc := 68) (np := 2) (as := [.int a2, .int (x44 - a2)]) (rest := [va_rf r41, va_rf a1]) dX2_gaps_68 hr (c_X3_init (by decide) r41 a2 (x44 - a2) h42) ⟨_, _, q1291⟩ rfl rfl rfl q1289 q1290 rfl (by simp [zcat_rf, zcat_i, zcat_l, zcat_f, zcat_d]) (zkV (fun h45 => ?_)) zxo
            refine zS_ite (fun ht => ?_) (fun _ => zS_none)
            refine s_callV (pc := 71) (np := 1) (as := [va_rf r41]) (rest := []) dX2_gaps_71 ht (q := (RJ37, TJ37, 3)) rfl (c_J37_add_2 (by decide) a1 r41 h45) rfl rfl q1304 q1305 q1306 rfl (by decide) (zkI (fun x46 h47 => ?_)) zxo
            refine s_pop (pc := 74) dX2_gaps_74 rfl ?_
            exact s_sub (pc := 75) [1, 3, 0] rfl (w_X2_gaps_75 (f_X2_gaps_20 n) ih a1 a3 r10 h47)
        refine zS_ite (fun ht => ?_) (fun _ => zS_none)
        refine s_callF (pc := 30) (np := 0) (as := []) (rest := []) dX2_gaps_30 ht (q := (RJ22, TJ22, 5)) rfl (c_J22_next (by decide) a3 h9) ⟨_, _, _, q832⟩ rfl rfl q670 (by decide +kernel) q830 q828 rfl (by decide) (zkR (fun r10 h11 => ?_)) zxo
        refine s_cast (pc := 35) dX2_gaps_35 q836 zcs_FloatingDock_Ship ?_
        refine s_ast (pc := 38) (L2 := [(1, va_rf a1), (2, .int a2), (3, va_rf a3)]) [0, 1, 2] dX2_gaps_38 (by decide) rfl rfl (zcB (j := 2) rfl (zcat_rf a3) rfl) ?_
        refine s_aload (pc := 40) 0 dX2_gaps_40 rfl ?_
        refine s_gR (pc := 42) dX2_gaps_42 gf_X2_144 (fun r48 => ?_)
        refine s_gI (pc := 45) dX2_gaps_45 gf_X2_148 (fun x49 => ?_)
        refine s_iload_n (pc := 48) 2 dX2_gaps_48 rfl rfl ?_
        refine s_icmp_le (pc := 49) (tgt := 75) dX2_gaps_49 (by decide) (fun _ => ?_) (fun _ => ?_)
        · exact s_sub (pc := 75) [1, 3, 0] rfl (w_X2_gaps_75 (f_X2_gaps_20 n) ih a1 a3 r10 h11)
        · refine s_aload_n (pc := 52) 1 dX2_gaps_52 rfl rfl ?_
          refine s_new (pc := 53) dX2_gaps_53 nf_X2_149 (fun r50 h51 => ?_)
          refine s_dup (pc := 56) dX2_gaps_56 (zcat_rf _) ?_
          refine s_iload_n (pc := 57) 2 dX2_gaps_57 rfl rfl ?_
          refine s_aload (pc := 58) 0 dX2_gaps_58 rfl ?_
          refine s_gR (pc := 60) dX2_gaps_60 gf_X2_144 (fun r52 => ?_)
          refine s_gI (pc := 63) dX2_gaps_63 gf_X2_148 (fun x53 => ?_)
          refine s_iload_n (pc := 66) 2 dX2_gaps_66 rfl rfl ?_
          refine s_isub (pc := 67) dX2_gaps_67 ?_
          refine zS_ite (fun hr => ?_) (fun _ => zS_none)
          refine s_callC (pc := 68) (np := 2) (as := [.int a2, .int (x53 - a2)]) (rest := [va_rf r50, va_rf a1]) dX2_gaps_68 hr (c_X3_init (by decide) r50 a2 (x53 - a2) h51) ⟨_, _, q1291⟩ rfl rfl rfl q1289 q1290 rfl (by simp [zcat_rf, zcat_i, zcat_l, zcat_f, zcat_d]) (zkV (fun h54 => ?_)) zxo
          refine zS_ite (fun ht => ?_) (fun _ => zS_none)
          refine s_callV (pc := 71) (np := 1) (as := [va_rf r50]) (rest := []) dX2_gaps_71 ht (q := (RJ37, TJ37, 3)) rfl (c_J37_add_2 (by decide) a1 r50 h54) rfl rfl q1304 q1305 q1306 rfl (by decide) (zkI (fun x55 h56 => ?_)) zxo
          refine s_pop (pc := 74) dX2_gaps_74 rfl ?_
          exact s_sub (pc := 75) [1, 3, 0] rfl (w_X2_gaps_75 (f_X2_gaps_20 n) ih a1 a3 r10 h56)
    refine zS_ite (fun ht => ?_) (fun _ => ?_)
    · refine s_callF (pc := 21) (np := 0) (as := []) (rest := []) dX2_gaps_21 ht (q := (RJ15, TJ15, 4)) rfl (c_J15_hasNext (by decide) a3 h) ⟨_, _, _, q653⟩ rfl rfl q629 (by decide +kernel) q651 q649 rfl (by decide) (zkI (fun x8 h9 => ?_)) zxo
      refine s_if_eq (pc := 26) (tgt := 87) dX2_gaps_26 (by decide) (fun _ => ?_) (fun _ => ?_)
      · exact s_sub (pc := 87) [0, 1] rfl (w_X2_gaps_87 a1 a2 h9)
      · refine s_aload_n (pc := 29) 2 dX2_gaps_29 rfl rfl ?_
        refine zS_ite (fun ht => ?_) (fun _ => ?_)
        · refine s_callF (pc := 30) (np := 0) (as := []) (rest := []) dX2_gaps_30 ht (q := (RX9, TX9, 2)) rfl (c_X9_next (by decide) a3 h9) ⟨_, _, _, q677⟩ rfl rfl q670 (by decide +kernel) q675 q673 rfl (by decide) (zkR (fun r57 h58 => ?_)) zxo
          refine s_cast (pc := 35) dX2_gaps_35 q836 zcs_FloatingDock_Ship ?_
          refine s_ast (pc := 38) (L2 := [(1, va_rf a1), (2, .int a2), (3, va_rf a3)]) [0, 1, 2] dX2_gaps_38 (by decide) rfl rfl (zcB (j := 2) rfl (zcat_rf a3) rfl) ?_
          refine s_aload (pc := 40) 0 dX2_gaps_40 rfl ?_
          refine s_gR (pc := 42) dX2_gaps_42 gf_X2_144 (fun r59 => ?_)
          refine s_gI (pc := 45) dX2_gaps_45 gf_X2_148 (fun x60 => ?_)
          refine s_iload_n (pc := 48) 2 dX2_gaps_48 rfl rfl ?_
          refine s_icmp_le (pc := 49) (tgt := 75) dX2_gaps_49 (by decide) (fun _ => ?_) (fun _ => ?_)
          · exact s_sub (pc := 75) [1, 3, 0] rfl (w_X2_gaps_75 (f_X2_gaps_20 n) ih a1 a3 r57 h58)
          · refine s_aload_n (pc := 52) 1 dX2_gaps_52 rfl rfl ?_
            refine s_new (pc := 53) dX2_gaps_53 nf_X2_149 (fun r61 h62 => ?_)
            refine s_dup (pc := 56) dX2_gaps_56 (zcat_rf _) ?_
            refine s_iload_n (pc := 57) 2 dX2_gaps_57 rfl rfl ?_
            refine s_aload (pc := 58) 0 dX2_gaps_58 rfl ?_
            refine s_gR (pc := 60) dX2_gaps_60 gf_X2_144 (fun r63 => ?_)
            refine s_gI (pc := 63) dX2_gaps_63 gf_X2_148 (fun x64 => ?_)
            refine s_iload_n (pc := 66) 2 dX2_gaps_66 rfl rfl ?_
            refine s_isub (pc := 67) dX2_gaps_67 ?_
            refine zS_ite (fun hr => ?_) (fun _ => zS_none)
            refine s_callC (pc := 68) (np := 2) (as := [.int a2, .int (x64 - a2)]) (rest := [va_rf r61, va_rf a1]) dX2_gaps_68 hr (c_X3_init (by decide) r61 a2 (x64 - a2) h62) ⟨_, _, q1291⟩ rfl rfl rfl q1289 q1290 rfl (by simp [zcat_rf, zcat_i, zcat_l, zcat_f, zcat_d]) (zkV (fun h65 => ?_)) zxo
            refine zS_ite (fun ht => ?_) (fun _ => zS_none)
            refine s_callV (pc := 71) (np := 1) (as := [va_rf r61]) (rest := []) dX2_gaps_71 ht (q := (RJ37, TJ37, 3)) rfl (c_J37_add_2 (by decide) a1 r61 h65) rfl rfl q1304 q1305 q1306 rfl (by decide) (zkI (fun x66 h67 => ?_)) zxo
            refine s_pop (pc := 74) dX2_gaps_74 rfl ?_
            exact s_sub (pc := 75) [1, 3, 0] rfl (w_X2_gaps_75 (f_X2_gaps_20 n) ih a1 a3 r57 h67)
        refine zS_ite (fun ht => ?_) (fun _ => ?_)
        · refine s_callF (pc := 30) (np := 0) (as := []) (rest := []) dX2_gaps_30 ht (q := (RJ15, TJ15, 4)) rfl (c_J15_next (by decide) a3 h9) ⟨_, _, _, q788⟩ rfl rfl q670 (by decide +kernel) q786 q784 rfl (by decide) (zkR (fun r57 h58 => ?_)) zxo
          refine s_cast (pc := 35) dX2_gaps_35 q836 zcs_FloatingDock_Ship ?_
          refine s_ast (pc := 38) (L2 := [(1, va_rf a1), (2, .int a2), (3, va_rf a3)]) [0, 1, 2] dX2_gaps_38 (by decide) rfl rfl (zcB (j := 2) rfl (zcat_rf a3) rfl) ?_
          refine s_aload (pc := 40) 0 dX2_gaps_40 rfl ?_
          refine s_gR (pc := 42) dX2_gaps_42 gf_X2_144 (fun r68 => ?_)
          refine s_gI (pc := 45) dX2_gaps_45 gf_X2_148 (fun x69 => ?_)
          refine s_iload_n (pc := 48) 2 dX2_gaps_48 rfl rfl ?_
          refine s_icmp_le (pc := 49) (tgt := 75) dX2_gaps_49 (by decide) (fun _ => ?_) (fun _ => ?_)
          · exact s_sub (pc := 75) [1, 3, 0] rfl (w_X2_gaps_75 (f_X2_gaps_20 n) ih a1 a3 r57 h58)
          · refine s_aload_n (pc := 52) 1 dX2_gaps_52 rfl rfl ?_
            refine s_new (pc := 53) dX2_gaps_53 nf_X2_149 (fun r70 h71 => ?_)
            refine s_dup (pc := 56) dX2_gaps_56 (zcat_rf _) ?_
            refine s_iload_n (pc := 57) 2 dX2_gaps_57 rfl rfl ?_
            refine s_aload (pc := 58) 0 dX2_gaps_58 rfl ?_
            refine s_gR (pc := 60) dX2_gaps_60 gf_X2_144 (fun r72 => ?_)
            refine s_gI (pc := 63) dX2_gaps_63 gf_X2_148 (fun x73 => ?_)
            refine s_iload_n (pc := 66) 2 dX2_gaps_66 rfl rfl ?_
            refine s_isub (pc := 67) dX2_gaps_67 ?_
            refine zS_ite (fun hr => ?_) (fun _ => zS_none)
            refine s_callC (pc := 68) (np := 2) (as := [.int a2, .int (x73 - a2)]) (rest := [va_rf r70, va_rf a1]) dX2_gaps_68 hr (c_X3_init (by decide) r70 a2 (x73 - a2) h71) ⟨_, _, q1291⟩ rfl rfl rfl q1289 q1290 rfl (by simp [zcat_rf, zcat_i, zcat_l, zcat_f, zcat_d]) (zkV (fun h74 => ?_)) zxo
            refine zS_ite (fun ht => ?_) (fun _ => zS_none)
            refine s_callV (pc := 71) (np := 1) (as := [va_rf r70]) (rest := []) dX2_gaps_71 ht (q := (RJ37, TJ37, 3)) rfl (c_J37_add_2 (by decide) a1 r70 h74) rfl rfl q1304 q1305 q1306 rfl (by decide) (zkI (fun x75 h76 => ?_)) zxo
            refine s_pop (pc := 74) dX2_gaps_74 rfl ?_
            exact s_sub (pc := 75) [1, 3, 0] rfl (w_X2_gaps_75 (f_X2_gaps_20 n) ih a1 a3 r57 h76)
        refine zS_ite (fun ht => ?_) (fun _ => ?_)
        · refine s_callF (pc := 30) (np := 0) (as := []) (rest := []) dX2_gaps_30 ht (q := (RJ17, TJ17, 5)) rfl (c_J17_next (by decide) a3 h9) ⟨_, _, _, q799⟩ rfl rfl q670 (by decide +kernel) q797 q795 rfl (by decide) (zkR (fun r57 h58 => ?_)) zxo
          refine s_cast (pc := 35) dX2_gaps_35 q836 zcs_FloatingDock_Ship ?_
          refine s_ast (pc := 38) (L2 := [(1, va_rf a1), (2, .int a2), (3, va_rf a3)]) [0, 1, 2] dX2_gaps_38 (by decide) rfl rfl (zcB (j := 2) rfl (zcat_rf a3) rfl) ?_
          refine s_aload (pc := 40) 0 dX2_gaps_40 rfl ?_
          refine s_gR (pc := 42) dX2_gaps_42 gf_X2_144 (fun r77 => ?_)
          refine s_gI (pc := 45) dX2_gaps_45 gf_X2_148 (fun x78 => ?_)
          refine s_iload_n (pc := 48) 2 dX2_gaps_48 rfl rfl ?_
          refine s_icmp_le (pc := 49) (tgt := 75) dX2_gaps_49 (by decide) (fun _ => ?_) (fun _ => ?_)
          · exact s_sub (pc := 75) [1, 3, 0] rfl (w_X2_gaps_75 (f_X2_gaps_20 n) ih a1 a3 r57 h58)
          · refine s_aload_n (pc := 52) 1 dX2_gaps_52 rfl rfl ?_
            refine s_new (pc := 53) dX2_gaps_53 nf_X2_149 (fun r79 h80 => ?_)
            refine s_dup (pc := 56) dX2_gaps_56 (zcat_rf _) ?_
            refine s_iload_n (pc := 57) 2 dX2_gaps_57 rfl rfl ?_
            refine s_aload (pc := 58) 0 dX2_gaps_58 rfl ?_
            refine s_gR (pc := 60) dX2_gaps_60 gf_X2_144 (fun r81 => ?_)
            refine s_gI (pc := 63) dX2_gaps_63 gf_X2_148 (fun x82 => ?_)
            refine s_iload_n (pc := 66) 2 dX2_gaps_66 rfl rfl ?_
            refine s_isub (pc := 67) dX2_gaps_67 ?_
            refine zS_ite (fun hr => ?_) (fun _ => zS_none)
            refine s_callC (pc := 68) (np := 2) (as := [.int a2, .int (x82 - a2)]) (rest := [va_rf r79, va_rf a1]) dX2_gaps_68 hr (c_X3_init (by decide) r79 a2 (x82 - a2) h80) ⟨_, _, q1291⟩ rfl rfl rfl q1289 q1290 rfl (by simp [zcat_rf, zcat_i, zcat_l, zcat_f, zcat_d]) (zkV (fun h83 => ?_)) zxo
            refine zS_ite (fun ht => ?_) (fun _ => zS_none)
            refine s_callV (pc := 71) (np := 1) (as := [va_rf r79]) (rest := []) dX2_gaps_71 ht (q := (RJ37, TJ37, 3)) rfl (c_J37_add_2 (by decide) a1 r79 h83) rfl rfl q1304 q1305 q1306 rfl (by decide) (zkI (fun x84 h85 => ?_)) zxo
            refine s_pop (pc := 74) dX2_gaps_74 rfl ?_
            exact s_sub (pc := 75) [1, 3, 0] rfl (w_X2_gaps_75 (f_X2_gaps_20 n) ih a1 a3 r57 h85)
        refine zS_ite (fun ht => ?_) (fun _ => ?_)
        · refine s_callF (pc := 30) (np := 0) (as := []) (rest := []) dX2_gaps_30 ht (q := (RJ21, TJ21, 5)) rfl (c_J21_next (by decide) a3 h9) ⟨_, _, _, q812⟩ rfl rfl q670 (by decide +kernel) q810 q808 rfl (by decide) (zkR (fun r57 h58 => ?_)) zxo
          refine s_cast (pc := 35) dX2_gaps_35 q836 zcs_FloatingDock_Ship ?_
          refine s_ast (pc := 38) (L2 := [(1, va_rf a1), (2, .int a2), (3, va_rf a3)]) [0, 1, 2] dX2_gaps_38 (by decide) rfl rfl (zcB (j := 2) rfl (zcat_rf a3) rfl) ?_
          refine s_aload (pc := 40) 0 dX2_gaps_40 rfl ?_
          refine s_gR (pc := 42) dX2_gaps_42 gf_X2_144 (fun r86 => ?_)
          refine s_gI (pc := 45) dX2_gaps_45 gf_X2_148 (fun x87 => ?_)
          refine s_iload_n (pc := 48) 2 dX2_gaps_48 rfl rfl ?_
          refine s_icmp_le (pc := 49) (tgt := 75) dX2_gaps_49 (by decide) (fun _ => ?_) (fun _ => ?_)
          · exact s_sub (pc := 75) [1, 3, 0] rfl (w_X2_gaps_75 (f_X2_gaps_20 n) ih a1 a3 r57 h58)
          · refine s_aload_n (pc := 52) 1 dX2_gaps_52 rfl rfl ?_
            refine s_new (pc := 53) dX2_gaps_53 nf_X2_149 (fun r88 h89 => ?_)
            refine s_dup (pc := 56) dX2_gaps_56 (zcat_rf _) ?_
            refine s_iload_n (pc := 57) 2 dX2_gaps_57 rfl rfl ?_
            refine s_aload (pc := 58) 0 dX2_gaps_58 rfl ?_
            refine s_gR (pc := 60) dX2_gaps_60 gf_X2_144 (fun r90 => ?_)
            refine s_gI (pc := 63) dX2_gaps_63 gf_X2_148 (fun x91 => ?_)
            refine s_iload_n (pc := 66) 2 dX2_gaps_66 rfl rfl ?_
            refine s_isub (pc := 67) dX2_gaps_67 ?_
            refine zS_ite (fun hr => ?_) (fun _ => zS_none)
            refine s_callC (pc := 68) (np := 2) (as := [.int a2, .int (x91 - a2)]) (rest := [va_rf r88, va_rf a1]) dX2_gaps_68 hr (c_X3_init (by decide) r88 a2 (x91 - a2) h89) ⟨_, _, q1291⟩ rfl rfl rfl q1289 q1290 rfl (by simp [zcat_rf, zcat_i, zcat_l, zcat_f, zcat_d]) (zkV (fun h92 => ?_)) zxo
            refine zS_ite (fun ht => ?_) (fun _ => zS_none)
            refine s_callV (pc := 71) (np := 1) (as := [va_rf r88]) (rest := []) dX2_gaps_71 ht (q := (RJ37, TJ37, 3)) rfl (c_J37_add_2 (by decide) a1 r88 h92) rfl rfl q1304 q1305 q1306 rfl (by decide) (zkI (fun x93 h94 => ?_)) zxo
            refine s_pop (pc := 74) dX2_gaps_74 rfl ?_
            exact s_sub (pc := 75) [1, 3, 0] rfl (w_X2_gaps_75 (f_X2_gaps_20 n) ih a1 a3 r57 h94)
        refine zS_ite (fun ht => ?_) (fun _ => zS_none)
        refine s_callF (pc := 30) (np := 0) (as := []) (rest := []) dX2_gaps_30 ht (q := (RJ22, TJ22, 5)) rfl (c_J22_next (by decide) a3 h9) ⟨_, _, _, q832⟩ rfl rfl q670 (by decide +kernel) q830 q828 rfl (by decide) (zkR (fun r57 h58 => ?_)) zxo
        refine s_cast (pc := 35) dX2_gaps_35 q836 zcs_FloatingDock_Ship ?_
        refine s_ast (pc := 38) (L2 := [(1, va_rf a1), (2, .int a2), (3, va_rf a3)]) [0, 1, 2] dX2_gaps_38 (by decide) rfl rfl (zcB (j := 2) rfl (zcat_rf a3) rfl) ?_
        refine s_aload (pc := 40) 0 dX2_gaps_40 rfl ?_
        refine s_gR (pc := 42) dX2_gaps_42 gf_X2_144 (fun r95 => ?_)
        refine s_gI (pc := 45) dX2_gaps_45 gf_X2_148 (fun x96 => ?_)
        refine s_iload_n (pc := 48) 2 dX2_gaps_48 rfl rfl ?_
        refine s_icmp_le (pc := 49) (tgt := 75) dX2_gaps_49 (by decide) (fun _ => ?_) (fun _ => ?_)
        · exact s_sub (pc := 75) [1, 3, 0] rfl (w_X2_gaps_75 (f_X2_gaps_20 n) ih a1 a3 r57 h58)
        · refine s_aload_n (pc := 52) 1 dX2_gaps_52 rfl rfl ?_
          refine s_new (pc := 53) dX2_gaps_53 nf_X2_149 (fun r97 h98 => ?_)
          refine s_dup (pc := 56) dX2_gaps_56 (zcat_rf _) ?_
          refine s_iload_n (pc := 57) 2 dX2_gaps_57 rfl rfl ?_
          refine s_aload (pc := 58) 0 dX2_gaps_58 rfl ?_
          refine s_gR (pc := 60) dX2_gaps_60 gf_X2_144 (fun r99 => ?_)
          refine s_gI (pc := 63) dX2_gaps_63 gf_X2_148 (fun x100 => ?_)
          refine s_iload_n (pc := 66) 2 dX2_gaps_66 rfl rfl ?_
          refine s_isub (pc := 67) dX2_gaps_67 ?_
          refine zS_ite (fun hr => ?_) (fun _ => zS_none)
          refine s_callC (pc := 68) (np := 2) (as := [.int a2, .int (x100 - a2)]) (rest := [va_rf r97, va_rf a1]) dX2_gaps_68 hr (c_X3_init (by decide) r97 a2 (x100 - a2) h98) ⟨_, _, q1291⟩ rfl rfl rfl q1289 q1290 rfl (by simp [zcat_rf, zcat_i, zcat_l, zcat_f, zcat_d]) (zkV (fun h101 => ?_)) zxo
          refine zS_ite (fun ht => ?_) (fun _ => zS_none)
          refine s_callV (pc := 71) (np := 1) (as := [va_rf r97]) (rest := []) dX2_gaps_71 ht (q := (RJ37, TJ37, 3)) rfl (c_J37_add_2 (by decide) a1 r97 h101) rfl rfl q1304 q1305 q1306 rfl (by decide) (zkI (fun x102 h103 => ?_)) zxo
          refine s_pop (pc := 74) dX2_gaps_74 rfl ?_
          exact s_sub (pc := 75) [1, 3, 0] rfl (w_X2_gaps_75 (f_X2_gaps_20 n) ih a1 a3 r57 h103)
    refine zS_ite (fun ht => ?_) (fun _ => ?_)
    · refine s_callF (pc := 21) (np := 0) (as := []) (rest := []) dX2_gaps_21 ht (q := (RJ17, TJ17, 5)) rfl (c_J16_hasNext (by decide) a3 h) ⟨_, _, _, q659⟩ rfl rfl q629 (by decide +kernel) q657 q655 rfl (by decide) (zkI (fun x8 h9 => ?_)) zxo
      refine s_if_eq (pc := 26) (tgt := 87) dX2_gaps_26 (by decide) (fun _ => ?_) (fun _ => ?_)
      · exact s_sub (pc := 87) [0, 1] rfl (w_X2_gaps_87 a1 a2 h9)
      · refine s_aload_n (pc := 29) 2 dX2_gaps_29 rfl rfl ?_
        refine zS_ite (fun ht => ?_) (fun _ => ?_)
        · refine s_callF (pc := 30) (np := 0) (as := []) (rest := []) dX2_gaps_30 ht (q := (RX9, TX9, 2)) rfl (c_X9_next (by decide) a3 h9) ⟨_, _, _, q677⟩ rfl rfl q670 (by decide +kernel) q675 q673 rfl (by decide) (zkR (fun r104 h105 => ?_)) zxo
          refine s_cast (pc := 35) dX2_gaps_35 q836 zcs_FloatingDock_Ship ?_
          refine s_ast (pc := 38) (L2 := [(1, va_rf a1), (2, .int a2), (3, va_rf a3)]) [0, 1, 2] dX2_gaps_38 (by decide) rfl rfl (zcB (j := 2) rfl (zcat_rf a3) rfl) ?_
          refine s_aload (pc := 40) 0 dX2_gaps_40 rfl ?_
          refine s_gR (pc := 42) dX2_gaps_42 gf_X2_144 (fun r106 => ?_)
          refine s_gI (pc := 45) dX2_gaps_45 gf_X2_148 (fun x107 => ?_)
          refine s_iload_n (pc := 48) 2 dX2_gaps_48 rfl rfl ?_
          refine s_icmp_le (pc := 49) (tgt := 75) dX2_gaps_49 (by decide) (fun _ => ?_) (fun _ => ?_)
          · exact s_sub (pc := 75) [1, 3, 0] rfl (w_X2_gaps_75 (f_X2_gaps_20 n) ih a1 a3 r104 h105)
          · refine s_aload_n (pc := 52) 1 dX2_gaps_52 rfl rfl ?_
            refine s_new (pc := 53) dX2_gaps_53 nf_X2_149 (fun r108 h109 => ?_)
            refine s_dup (pc := 56) dX2_gaps_56 (zcat_rf _) ?_
            refine s_iload_n (pc := 57) 2 dX2_gaps_57 rfl rfl ?_
            refine s_aload (pc := 58) 0 dX2_gaps_58 rfl ?_
            refine s_gR (pc := 60) dX2_gaps_60 gf_X2_144 (fun r110 => ?_)
            refine s_gI (pc := 63) dX2_gaps_63 gf_X2_148 (fun x111 => ?_)
            refine s_iload_n (pc := 66) 2 dX2_gaps_66 rfl rfl ?_
            refine s_isub (pc := 67) dX2_gaps_67 ?_
            refine zS_ite (fun hr => ?_) (fun _ => zS_none)
            refine s_callC (pc := 68) (np := 2) (as := [.int a2, .int (x111 - a2)]) (rest := [va_rf r108, va_rf a1]) dX2_gaps_68 hr (c_X3_init (by decide) r108 a2 (x111 - a2) h109) ⟨_, _, q1291⟩ rfl rfl rfl q1289 q1290 rfl (by simp [zcat_rf, zcat_i, zcat_l, zcat_f, zcat_d]) (zkV (fun h112 => ?_)) zxo
            refine zS_ite (fun ht => ?_) (fun _ => zS_none)
            refine s_callV (pc := 71) (np := 1) (as := [va_rf r108]) (rest := []) dX2_gaps_71 ht (q := (RJ37, TJ37, 3)) rfl (c_J37_add_2 (by decide) a1 r108 h112) rfl rfl q1304 q1305 q1306 rfl (by decide) (zkI (fun x113 h114 => ?_)) zxo
            refine s_pop (pc := 74) dX2_gaps_74 rfl ?_
            exact s_sub (pc := 75) [1, 3, 0] rfl (w_X2_gaps_75 (f_X2_gaps_20 n) ih a1 a3 r104 h114)
        refine zS_ite (fun ht => ?_) (fun _ => ?_)
        · refine s_callF (pc := 30) (np := 0) (as := []) (rest := []) dX2_gaps_30 ht (q := (RJ15, TJ15, 4)) rfl (c_J15_next (by decide) a3 h9) ⟨_, _, _, q788⟩ rfl rfl q670 (by decide +kernel) q786 q784 rfl (by decide) (zkR (fun r104 h105 => ?_)) zxo
          refine s_cast (pc := 35) dX2_gaps_35 q836 zcs_FloatingDock_Ship ?_
          refine s_ast (pc := 38) (L2 := [(1, va_rf a1), (2, .int a2), (3, va_rf a3)]) [0, 1, 2] dX2_gaps_38 (by decide) rfl rfl (zcB (j := 2) rfl (zcat_rf a3) rfl) ?_
          refine s_aload (pc := 40) 0 dX2_gaps_40 rfl ?_
          refine s_gR (pc := 42) dX2_gaps_42 gf_X2_144 (fun r115 => ?_)
          refine s_gI (pc := 45) dX2_gaps_45 gf_X2_148 (fun x116 => ?_)
          refine s_iload_n (pc := 48) 2 dX2_gaps_48 rfl rfl ?_
          refine s_icmp_le (pc := 49) (tgt := 75) dX2_gaps_49 (by decide) (fun _ => ?_) (fun _ => ?_)
          · exact s_sub (pc := 75) [1, 3, 0] rfl (w_X2_gaps_75 (f_X2_gaps_20 n) ih a1 a3 r104 h105)
          · refine s_aload_n (pc := 52) 1 dX2_gaps_52 rfl rfl ?_
            refine s_new (pc := 53) dX2_gaps_53 nf_X2_149 (fun r117 h118 => ?_)
            refine s_dup (pc := 56) dX2_gaps_56 (zcat_rf _) ?_
            refine s_iload_n (pc := 57) 2 dX2_gaps_57 rfl rfl ?_
            refine s_aload (pc := 58) 0 dX2_gaps_58 rfl ?_
            refine s_gR (pc := 60) dX2_gaps_60 gf_X2_144 (fun r119 => ?_)
            refine s_gI (pc := 63) dX2_gaps_63 gf_X2_148 (fun x120 => ?_)
            refine s_iload_n (pc := 66) 2 dX2_gaps_66 rfl rfl ?_
            refine s_isub (pc := 67) dX2_gaps_67 ?_
            refine zS_ite (fun hr => ?_) (fun _ => zS_none)
            refine s_callC (pc := 68) (np := 2) (as := [.int a2, .int (x120 - a2)]) (rest := [va_rf r117, va_rf a1]) dX2_gaps_68 hr (c_X3_init (by decide) r117 a2 (x120 - a2) h118) ⟨_, _, q1291⟩ rfl rfl rfl q1289 q1290 rfl (by simp [zcat_rf, zcat_i, zcat_l, zcat_f, zcat_d]) (zkV (fun h121 => ?_)) zxo
            refine zS_ite (fun ht => ?_) (fun _ => zS_none)
            refine s_callV (pc := 71) (np := 1) (as := [va_rf r117]) (rest := []) dX2_gaps_71 ht (q := (RJ37, TJ37, 3)) rfl (c_J37_add_2 (by decide) a1 r117 h121) rfl rfl q1304 q1305 q1306 rfl (by decide) (zkI (fun x122 h123 => ?_)) zxo
            refine s_pop (pc := 74) dX2_gaps_74 rfl ?_
            exact s_sub (pc := 75) [1, 3, 0] rfl (w_X2_gaps_75 (f_X2_gaps_20 n) ih a1 a3 r104 h123)
        refine zS_ite (fun ht => ?_) (fun _ => ?_)
        · refine s_callF (pc := 30) (np := 0) (as := []) (rest := []) dX2_gaps_30 ht (q := (RJ17, TJ17, 5)) rfl (c_J17_next (by decide) a3 h9) ⟨_, _, _, q799⟩ rfl rfl q670 (by decide +kernel) q797 q795 rfl (by decide) (zkR (fun r104 h105 => ?_)) zxo
          refine s_cast (pc := 35) dX2_gaps_35 q836 zcs_FloatingDock_Ship ?_
          refine s_ast (pc := 38) (L2 := [(1, va_rf a1), (2, .int a2), (3, va_rf a3)]) [0, 1, 2] dX2_gaps_38 (by decide) rfl rfl (zcB (j := 2) rfl (zcat_rf a3) rfl) ?_
          refine s_aload (pc := 40) 0 dX2_gaps_40 rfl ?_
          refine s_gR (pc := 42) dX2_gaps_42 gf_X2_144 (fun r124 => ?_)
          refine s_gI (pc := 45) dX2_gaps_45 gf_X2_148 (fun x125 => ?_)
          refine s_iload_n (pc := 48) 2 dX2_gaps_48 rfl rfl ?_
          refine s_icmp_le (pc := 49) (tgt := 75) dX2_gaps_49 (by decide) (fun _ => ?_) (fun _ => ?_)
          · exact s_sub (pc := 75) [1, 3, 0] rfl (w_X2_gaps_75 (f_X2_gaps_20 n) ih a1 a3 r104 h105)
          · refine s_aload_n (pc := 52) 1 dX2_gaps_52 rfl rfl ?_
            refine s_new (pc := 53) dX2_gaps_53 nf_X2_149 (fun r126 h127 => ?_)
            refine s_dup (pc := 56) dX2_gaps_56 (zcat_rf _) ?_
            refine s_iload_n (pc := 57) 2 dX2_gaps_57 rfl rfl ?_
            refine s_aload (pc := 58) 0 dX2_gaps_58 rfl ?_
            refine s_gR (pc := 60) dX2_gaps_60 gf_X2_144 (fun r128 => ?_)
            refine s_gI (pc := 63) dX2_gaps_63 gf_X2_148 (fun x129 => ?_)
            refine s_iload_n (pc := 66) 2 dX2_gaps_66 rfl rfl ?_
            refine s_isub (pc := 67) dX2_gaps_67 ?_
            refine zS_ite (fun hr => ?_) (fun _ => zS_none)
            refine s_callC (pc := 68) (np := 2) (as := [.int a2, .int (x129 - a2)]) (rest := [va_rf r126, va_rf a1]) dX2_gaps_68 hr (c_X3_init (by decide) r126 a2 (x129 - a2) h127) ⟨_, _, q1291⟩ rfl rfl rfl q1289 q1290 rfl (by simp [zcat_rf, zcat_i, zcat_l, zcat_f, zcat_d]) (zkV (fun h130 => ?_)) zxo
            refine zS_ite (fun ht => ?_) (fun _ => zS_none)
            refine s_callV (pc := 71) (np := 1) (as := [va_rf r126]) (rest := []) dX2_gaps_71 ht (q := (RJ37, TJ37, 3)) rfl (c_J37_add_2 (by decide) a1 r126 h130) rfl rfl q1304 q1305 q1306 rfl (by decide) (zkI (fun x131 h132 => ?_)) zxo
            refine s_pop (pc := 74) dX2_gaps_74 rfl ?_
            exact s_sub (pc := 75) [1, 3, 0] rfl (w_X2_gaps_75 (f_X2_gaps_20 n) ih a1 a3 r104 h132)
        refine zS_ite (fun ht => ?_) (fun _ => ?_)
        · refine s_callF (pc := 30) (np := 0) (as := []) (rest := []) dX2_gaps_30 ht (q := (RJ21, TJ21, 5)) rfl (c_J21_next (by decide) a3 h9) ⟨_, _, _, q812⟩ rfl rfl q670 (by decide +kernel) q810 q808 rfl (by decide) (zkR (fun r104 h105 => ?_)) zxo
          refine s_cast (pc := 35) dX2_gaps_35 q836 zcs_FloatingDock_Ship ?_
          refine s_ast (pc := 38) (L2 := [(1, va_rf a1), (2, .int a2), (3, va_rf a3)]) [0, 1, 2] dX2_gaps_38 (by decide) rfl rfl (zcB (j := 2) rfl (zcat_rf a3) rfl) ?_
          refine s_aload (pc := 40) 0 dX2_gaps_40 rfl ?_
          refine s_gR (pc := 42) dX2_gaps_42 gf_X2_144 (fun r133 => ?_)
          refine s_gI (pc := 45) dX2_gaps_45 gf_X2_148 (fun x134 => ?_)
          refine s_iload_n (pc := 48) 2 dX2_gaps_48 rfl rfl ?_
          refine s_icmp_le (pc := 49) (tgt := 75) dX2_gaps_49 (by decide) (fun _ => ?_) (fun _ => ?_)
          · exact s_sub (pc := 75) [1, 3, 0] rfl (w_X2_gaps_75 (f_X2_gaps_20 n) ih a1 a3 r104 h105)
          · refine s_aload_n (pc := 52) 1 dX2_gaps_52 rfl rfl ?_
            refine s_new (pc := 53) dX2_gaps_53 nf_X2_149 (fun r135 h136 => ?_)
            refine s_dup (pc := 56) dX2_gaps_56 (zcat_rf _) ?_
            refine s_iload_n (pc := 57) 2 dX2_gaps_57 rfl rfl ?_
            refine s_aload (pc := 58) 0 dX2_gaps_58 rfl ?_
            refine s_gR (pc := 60) dX2_gaps_60 gf_X2_144 (fun r137 => ?_)
            refine s_gI (pc := 63) dX2_gaps_63 gf_X2_148 (fun x138 => ?_)
            refine s_iload_n (pc := 66) 2 dX2_gaps_66 rfl rfl ?_
            refine s_isub (pc := 67) dX2_gaps_67 ?_
            refine zS_ite (fun hr => ?_) (fun _ => zS_none)
            refine s_callC (pc := 68) (np := 2) (as := [.int a2, .int (x138 - a2)]) (rest := [va_rf r135, va_rf a1]) dX2_gaps_68 hr (c_X3_init (by decide) r135 a2 (x138 - a2) h136) ⟨_, _, q1291⟩ rfl rfl rfl q1289 q1290 rfl (by simp [zcat_rf, zcat_i, zcat_l, zcat_f, zcat_d]) (zkV (fun h139 => ?_)) zxo
            refine zS_ite (fun ht => ?_) (fun _ => zS_none)
            refine s_callV (pc := 71) (np := 1) (as := [va_rf r135]) (rest := []) dX2_gaps_71 ht (q := (RJ37, TJ37, 3)) rfl (c_J37_add_2 (by decide) a1 r135 h139) rfl rfl q1304 q1305 q1306 rfl (by decide) (zkI (fun x140 h141 => ?_)) zxo
            refine s_pop (pc := 74) dX2_gaps_74 rfl ?_
            exact s_sub (pc := 75) [1, 3, 0] rfl (w_X2_gaps_75 (f_X2_gaps_20 n) ih a1 a3 r104 h141)
        refine zS_ite (fun ht => ?_) (fun _ => zS_none)
        refine s_callF (pc := 30) (np := 0) (as := []) (rest := []) dX2_gaps_30 ht (q := (RJ22, TJ22, 5)) rfl (c_J22_next (by decide) a3 h9) ⟨_, _, _, q832⟩ rfl rfl q670 (by decide +kernel) q830 q828 rfl (by decide) (zkR (fun r104 h105 => ?_)) zxo
        refine s_cast (pc := 35) dX2_gaps_35 q836 zcs_FloatingDock_Ship ?_
        refine s_ast (pc := 38) (L2 := [(1, va_rf a1), (2, .int a2), (3, va_rf a3)]) [0, 1, 2] dX2_gaps_38 (by decide) rfl rfl (zcB (j := 2) rfl (zcat_rf a3) rfl) ?_
        refine s_aload (pc := 40) 0 dX2_gaps_40 rfl ?_
        refine s_gR (pc := 42) dX2_gaps_42 gf_X2_144 (fun r142 => ?_)
        refine s_gI (pc := 45) dX2_gaps_45 gf_X2_148 (fun x143 => ?_)
        refine s_iload_n (pc := 48) 2 dX2_gaps_48 rfl rfl ?_
        refine s_icmp_le (pc := 49) (tgt := 75) dX2_gaps_49 (by decide) (fun _ => ?_) (fun _ => ?_)
        · exact s_sub (pc := 75) [1, 3, 0] rfl (w_X2_gaps_75 (f_X2_gaps_20 n) ih a1 a3 r104 h105)
        · refine s_aload_n (pc := 52) 1 dX2_gaps_52 rfl rfl ?_
          refine s_new (pc := 53) dX2_gaps_53 nf_X2_149 (fun r144 h145 => ?_)
          refine s_dup (pc := 56) dX2_gaps_56 (zcat_rf _) ?_
          refine s_iload_n (pc := 57) 2 dX2_gaps_57 rfl rfl ?_
          refine s_aload (pc := 58) 0 dX2_gaps_58 rfl ?_
          refine s_gR (pc := 60) dX2_gaps_60 gf_X2_144 (fun r146 => ?_)
          refine s_gI (pc := 63) dX2_gaps_63 gf_X2_148 (fun x147 => ?_)
          refine s_iload_n (pc := 66) 2 dX2_gaps_66 rfl rfl ?_
          refine s_isub (pc := 67) dX2_gaps_67 ?_
          refine zS_ite (fun hr => ?_) (fun _ => zS_none)
          refine s_callC (pc := 68) (np := 2) (as := [.int a2, .int (x147 - a2)]) (rest := [va_rf r144, va_rf a1]) dX2_gaps_68 hr (c_X3_init (by decide) r144 a2 (x147 - a2) h145) ⟨_, _, q1291⟩ rfl rfl rfl q1289 q1290 rfl (by simp [zcat_rf, zcat_i, zcat_l, zcat_f, zcat_d]) (zkV (fun h148 => ?_)) zxo
          refine zS_ite (fun ht => ?_) (fun _ => zS_none)
          refine s_callV (pc := 71) (np := 1) (as := [va_rf r144]) (rest := []) dX2_gaps_71 ht (q := (RJ37, TJ37, 3)) rfl (c_J37_add_2 (by decide) a1 r144 h148) rfl rfl q1304 q1305 q1306 rfl (by decide) (zkI (fun x149 h150 => ?_)) zxo
          refine s_pop (pc := 74) dX2_gaps_74 rfl ?_
          exact s_sub (pc := 75) [1, 3, 0] rfl (w_X2_gaps_75 (f_X2_gaps_20 n) ih a1 a3 r104 h150)
    refine zS_ite (fun ht => ?_) (fun _ => ?_)
    · refine s_callF (pc := 21) (np := 0) (as := []) (rest := []) dX2_gaps_21 ht (q := (RJ21, TJ21, 5)) rfl (c_J20_hasNext (by decide) a3 h) ⟨_, _, _, q665⟩ rfl rfl q629 (by decide +kernel) q663 q661 rfl (by decide) (zkI (fun x8 h9 => ?_)) zxo
      refine s_if_eq (pc := 26) (tgt := 87) dX2_gaps_26 (by decide) (fun _ => ?_) (fun _ => ?_)
      · exact s_sub (pc := 87) [0, 1] rfl (w_X2_gaps_87 a1 a2 h9)
      · refine s_aload_n (pc := 29) 2 dX2_gaps_29 rfl rfl ?_
        refine zS_ite (fun ht => ?_) (fun _ => ?_)
        · refine s_callF (pc := 30) (np := 0) (as := []) (rest := []) dX2_gaps_30 ht (q := (RX9, TX9, 2)) rfl (c_X9_next (by decide) a3 h9) ⟨_, _, _, q677⟩ rfl rfl q670 (by decide +kernel) q675 q673 rfl (by decide) (zkR (fun r151 h152 => ?_)) zxo
          refine s_cast (pc := 35) dX2_gaps_35 q836 zcs_FloatingDock_Ship ?_
          refine s_ast (pc := 38) (L2 := [(1, va_rf a1), (2, .int a2), (3, va_rf a3)]) [0, 1, 2] dX2_gaps_38 (by decide) rfl rfl (zcB (j := 2) rfl (zcat_rf a3) rfl) ?_
          refine s_aload (pc := 40) 0 dX2_gaps_40 rfl ?_
          refine s_gR (pc := 42) dX2_gaps_42 gf_X2_144 (fun r153 => ?_)
          refine s_gI (pc := 45) dX2_gaps_45 gf_X2_148 (fun x154 => ?_)
          refine s_iload_n (pc := 48) 2 dX2_gaps_48 rfl rfl ?_
          refine s_icmp_le (pc := 49) (tgt := 75) dX2_gaps_49 (by decide) (fun _ => ?_) (fun _ => ?_)
          · exact s_sub (pc := 75) [1, 3, 0] rfl (w_X2_gaps_75 (f_X2_gaps_20 n) ih a1 a3 r151 h152)
          · refine s_aload_n (pc := 52) 1 dX2_gaps_52 rfl rfl ?_
            refine s_new (pc := 53) dX2_gaps_53 nf_X2_149 (fun r155 h156 => ?_)
            refine s_dup (pc := 56) dX2_gaps_56 (zcat_rf _) ?_
            refine s_iload_n (pc := 57) 2 dX2_gaps_57 rfl rfl ?_
            refine s_aload (pc := 58) 0 dX2_gaps_58 rfl ?_
            refine s_gR (pc := 60) dX2_gaps_60 gf_X2_144 (fun r157 => ?_)
            refine s_gI (pc := 63) dX2_gaps_63 gf_X2_148 (fun x158 => ?_)
            refine s_iload_n (pc := 66) 2 dX2_gaps_66 rfl rfl ?_
            refine s_isub (pc := 67) dX2_gaps_67 ?_
            refine zS_ite (fun hr => ?_) (fun _ => zS_none)
            refine s_callC (pc := 68) (np := 2) (as := [.int a2, .int (x158 - a2)]) (rest := [va_rf r155, va_rf a1]) dX2_gaps_68 hr (c_X3_init (by decide) r155 a2 (x158 - a2) h156) ⟨_, _, q1291⟩ rfl rfl rfl q1289 q1290 rfl (by simp [zcat_rf, zcat_i, zcat_l, zcat_f, zcat_d]) (zkV (fun h159 => ?_)) zxo
            refine zS_ite (fun ht => ?_) (fun _ => zS_none)
            refine s_callV (pc := 71) (np := 1) (as := [va_rf r155]) (rest := []) dX2_gaps_71 ht (q := (RJ37, TJ37, 3)) rfl (c_J37_add_2 (by decide) a1 r155 h159) rfl rfl q1304 q1305 q1306 rfl (by decide) (zkI (fun x160 h161 => ?_)) zxo
            refine s_pop (pc := 74) dX2_gaps_74 rfl ?_
            exact s_sub (pc := 75) [1, 3, 0] rfl (w_X2_gaps_75 (f_X2_gaps_20 n) ih a1 a3 r151 h161)
        refine zS_ite (fun ht => ?_) (fun _ => ?_)
        · refine s_callF (pc := 30) (np := 0) (as := []) (rest := []) dX2_gaps_30 ht (q := (RJ15, TJ15, 4)) rfl (c_J15_next (by decide) a3 h9) ⟨_, _, _, q788⟩ rfl rfl q670 (by decide +kernel) q786 q784 rfl (by decide) (zkR (fun r151 h152 => ?_)) zxo
          refine s_cast (pc := 35) dX2_gaps_35 q836 zcs_FloatingDock_Ship ?_
          refine s_ast (pc := 38) (L2 := [(1, va_rf a1), (2, .int a2), (3, va_rf a3)]) [0, 1, 2] dX2_gaps_38 (by decide) rfl rfl (zcB (j := 2) rfl (zcat_rf a3) rfl) ?_
          refine s_aload (pc := 40) 0 dX2_gaps_40 rfl ?_
          refine s_gR (pc := 42) dX2_gaps_42 gf_X2_144 (fun r162 => ?_)
          refine s_gI (pc := 45) dX2_gaps_45 gf_X2_148 (fun x163 => ?_)
          refine s_iload_n (pc := 48) 2 dX2_gaps_48 rfl rfl ?_
          refine s_icmp_le (pc := 49) (tgt := 75) dX2_gaps_49 (by decide) (fun _ => ?_) (fun _ => ?_)
          · exact s_sub (pc := 75) [1, 3, 0] rfl (w_X2_gaps_75 (f_X2_gaps_20 n) ih a1 a3 r151 h152)
          · refine s_aload_n (pc := 52) 1 dX2_gaps_52 rfl rfl ?_
            refine s_new (pc := 53) dX2_gaps_53 nf_X2_149 (fun r164 h165 => ?_)
            refine s_dup (pc := 56) dX2_gaps_56 (zcat_rf _) ?_
            refine s_iload_n (pc := 57) 2 dX2_gaps_57 rfl rfl ?_
            refine s_aload (pc := 58) 0 dX2_gaps_58 rfl ?_
            refine s_gR (pc := 60) dX2_gaps_60 gf_X2_144 (fun r166 => ?_)
            refine s_gI (pc := 63) dX2_gaps_63 gf_X2_148 (fun x167 => ?_)
            refine s_iload_n (pc := 66) 2 dX2_gaps_66 rfl rfl ?_
            refine s_isub (pc := 67) dX2_gaps_67 ?_
            refine zS_ite (fun hr => ?_) (fun _ => zS_none)
            refine s_callC (pc := 68) (np := 2) (as := [.int a2, .int (x167 - a2)]) (rest := [va_rf r164, va_rf a1]) dX2_gaps_68 hr (c_X3_init (by decide) r164 a2 (x167 - a2) h165) ⟨_, _, q1291⟩ rfl rfl rfl q1289 q1290 rfl (by simp [zcat_rf, zcat_i, zcat_l, zcat_f, zcat_d]) (zkV (fun h168 => ?_)) zxo
            refine zS_ite (fun ht => ?_) (fun _ => zS_none)
            refine s_callV (pc := 71) (np := 1) (as := [va_rf r164]) (rest := []) dX2_gaps_71 ht (q := (RJ37, TJ37, 3)) rfl (c_J37_add_2 (by decide) a1 r164 h168) rfl rfl q1304 q1305 q1306 rfl (by decide) (zkI (fun x169 h170 => ?_)) zxo
            refine s_pop (pc := 74) dX2_gaps_74 rfl ?_
            exact s_sub (pc := 75) [1, 3, 0] rfl (w_X2_gaps_75 (f_X2_gaps_20 n) ih a1 a3 r151 h170)
        refine zS_ite (fun ht => ?_) (fun _ => ?_)
        · refine s_callF (pc := 30) (np := 0) (as := []) (rest := []) dX2_gaps_30 ht (q := (RJ17, TJ17, 5)) rfl (c_J17_next (by decide) a3 h9) ⟨_, _, _, q799⟩ rfl rfl q670 (by decide +kernel) q797 q795 rfl (by decide) (zkR (fun r151 h152 => ?_)) zxo
          refine s_cast (pc := 35) dX2_gaps_35 q836 zcs_FloatingDock_Ship ?_
          refine s_ast (pc := 38) (L2 := [(1, va_rf a1), (2, .int a2), (3, va_rf a3)]) [0, 1, 2] dX2_gaps_38 (by decide) rfl rfl (zcB (j := 2) rfl (zcat_rf a3) rfl) ?_
          refine s_aload (pc := 40) 0 dX2_gaps_40 rfl ?_
          refine s_gR (pc := 42) dX2_gaps_42 gf_X2_144 (fun r171 => ?_)
          refine s_gI (pc := 45) dX2_gaps_45 gf_X2_148 (fun x172 => ?_)
          refine s_iload_n (pc := 48) 2 dX2_gaps_48 rfl rfl ?_
          refine s_icmp_le (pc := 49) (tgt := 75) dX2_gaps_49 (by decide) (fun _ => ?_) (fun _ => ?_)
          · exact s_sub (pc := 75) [1, 3, 0] rfl (w_X2_gaps_75 (f_X2_gaps_20 n) ih a1 a3 r151 h152)
          · refine s_aload_n (pc := 52) 1 dX2_gaps_52 rfl rfl ?_
            refine s_new (pc := 53) dX2_gaps_53 nf_X2_149 (fun r173 h174 => ?_)
            refine s_dup (pc := 56) dX2_gaps_56 (zcat_rf _) ?_
            refine s_iload_n (pc := 57) 2 dX2_gaps_57 rfl rfl ?_
            refine s_aload (pc := 58) 0 dX2_gaps_58 rfl ?_
            refine s_gR (pc := 60) dX2_gaps_60 gf_X2_144 (fun r175 => ?_)
            refine s_gI (pc := 63) dX2_gaps_63 gf_X2_148 (fun x176 => ?_)
            refine s_iload_n (pc := 66) 2 dX2_gaps_66 rfl rfl ?_
            refine s_isub (pc := 67) dX2_gaps_67 ?_
            refine zS_ite (fun hr => ?_) (fun _ => zS_none)
            refine s_callC (pc := 68) (np := 2) (as := [.int a2, .int (x176 - a2)]) (rest := [va_rf r173, va_rf a1]) dX2_gaps_68 hr (c_X3_init (by decide) r173 a2 (x176 - a2) h174) ⟨_, _, q1291⟩ rfl rfl rfl q1289 q1290 rfl (by simp [zcat_rf, zcat_i, zcat_l, zcat_f, zcat_d]) (zkV (fun h177 => ?_)) zxo
            refine zS_ite (fun ht => ?_) (fun _ => zS_none)
            refine s_callV (pc := 71) (np := 1) (as := [va_rf r173]) (rest := []) dX2_gaps_71 ht (q := (RJ37, TJ37, 3)) rfl (c_J37_add_2 (by decide) a1 r173 h177) rfl rfl q1304 q1305 q1306 rfl (by decide) (zkI (fun x178 h179 => ?_)) zxo
            refine s_pop (pc := 74) dX2_gaps_74 rfl ?_
            exact s_sub (pc := 75) [1, 3, 0] rfl (w_X2_gaps_75 (f_X2_gaps_20 n) ih a1 a3 r151 h179)
        refine zS_ite (fun ht => ?_) (fun _ => ?_)
        · refine s_callF (pc := 30) (np := 0) (as := []) (rest := []) dX2_gaps_30 ht (q := (RJ21, TJ21, 5)) rfl (c_J21_next (by decide) a3 h9) ⟨_, _, _, q812⟩ rfl rfl q670 (by decide +kernel) q810 q808 rfl (by decide) (zkR (fun r151 h152 => ?_)) zxo
          refine s_cast (pc := 35) dX2_gaps_35 q836 zcs_FloatingDock_Ship ?_
          refine s_ast (pc := 38) (L2 := [(1, va_rf a1), (2, .int a2), (3, va_rf a3)]) [0, 1, 2] dX2_gaps_38 (by decide) rfl rfl (zcB (j := 2) rfl (zcat_rf a3) rfl) ?_
          refine s_aload (pc := 40) 0 dX2_gaps_40 rfl ?_
          refine s_gR (pc := 42) dX2_gaps_42 gf_X2_144 (fun r180 => ?_)
          refine s_gI (pc := 45) dX2_gaps_45 gf_X2_148 (fun x181 => ?_)
          refine s_iload_n (pc := 48) 2 dX2_gaps_48 rfl rfl ?_
          refine s_icmp_le (pc := 49) (tgt := 75) dX2_gaps_49 (by decide) (fun _ => ?_) (fun _ => ?_)
          · exact s_sub (pc := 75) [1, 3, 0] rfl (w_X2_gaps_75 (f_X2_gaps_20 n) ih a1 a3 r151 h152)
          · refine s_aload_n (pc := 52) 1 dX2_gaps_52 rfl rfl ?_
            refine s_new (pc := 53) dX2_gaps_53 nf_X2_149 (fun r182 h183 => ?_)
            refine s_dup (pc := 56) dX2_gaps_56 (zcat_rf _) ?_
            refine s_iload_n (pc := 57) 2 dX2_gaps_57 rfl rfl ?_
            refine s_aload (pc := 58) 0 dX2_gaps_58 rfl ?_
            refine s_gR (pc := 60) dX2_gaps_60 gf_X2_144 (fun r184 => ?_)
            refine s_gI (pc := 63) dX2_gaps_63 gf_X2_148 (fun x185 => ?_)
            refine s_iload_n (pc := 66) 2 dX2_gaps_66 rfl rfl ?_
            refine s_isub (pc := 67) dX2_gaps_67 ?_
            refine zS_ite (fun hr => ?_) (fun _ => zS_none)
            refine s_callC (pc := 68) (np := 2) (as := [.int a2, .int (x185 - a2)]) (rest := [va_rf r182, va_rf a1]) dX2_gaps_68 hr (c_X3_init (by decide) r182 a2 (x185 - a2) h183) ⟨_, _, q1291⟩ rfl rfl rfl q1289 q1290 rfl (by simp [zcat_rf, zcat_i, zcat_l, zcat_f, zcat_d]) (zkV (fun h186 => ?_)) zxo
            refine zS_ite (fun ht => ?_) (fun _ => zS_none)
            refine s_callV (pc := 71) (np := 1) (as := [va_rf r182]) (rest := []) dX2_gaps_71 ht (q := (RJ37, TJ37, 3)) rfl (c_J37_add_2 (by decide) a1 r182 h186) rfl rfl q1304 q1305 q1306 rfl (by decide) (zkI (fun x187 h188 => ?_)) zxo
            refine s_pop (pc := 74) dX2_gaps_74 rfl ?_
            exact s_sub (pc := 75) [1, 3, 0] rfl (w_X2_gaps_75 (f_X2_gaps_20 n) ih a1 a3 r151 h188)
        refine zS_ite (fun ht => ?_) (fun _ => zS_none)
        refine s_callF (pc := 30) (np := 0) (as := []) (rest := []) dX2_gaps_30 ht (q := (RJ22, TJ22, 5)) rfl (c_J22_next (by decide) a3 h9) ⟨_, _, _, q832⟩ rfl rfl q670 (by decide +kernel) q830 q828 rfl (by decide) (zkR (fun r151 h152 => ?_)) zxo
        refine s_cast (pc := 35) dX2_gaps_35 q836 zcs_FloatingDock_Ship ?_
        refine s_ast (pc := 38) (L2 := [(1, va_rf a1), (2, .int a2), (3, va_rf a3)]) [0, 1, 2] dX2_gaps_38 (by decide) rfl rfl (zcB (j := 2) rfl (zcat_rf a3) rfl) ?_
        refine s_aload (pc := 40) 0 dX2_gaps_40 rfl ?_
        refine s_gR (pc := 42) dX2_gaps_42 gf_X2_144 (fun r189 => ?_)
        refine s_gI (pc := 45) dX2_gaps_45 gf_X2_148 (fun x190 => ?_)
        refine s_iload_n (pc := 48) 2 dX2_gaps_48 rfl rfl ?_
        refine s_icmp_le (pc := 49) (tgt := 75) dX2_gaps_49 (by decide) (fun _ => ?_) (fun _ => ?_)
        · exact s_sub (pc := 75) [1, 3, 0] rfl (w_X2_gaps_75 (f_X2_gaps_20 n) ih a1 a3 r151 h152)
        · refine s_aload_n (pc := 52) 1 dX2_gaps_52 rfl rfl ?_
          refine s_new (pc := 53) dX2_gaps_53 nf_X2_149 (fun r191 h192 => ?_)
          refine s_dup (pc := 56) dX2_gaps_56 (zcat_rf _) ?_
          refine s_iload_n (pc := 57) 2 dX2_gaps_57 rfl rfl ?_
          refine s_aload (pc := 58) 0 dX2_gaps_58 rfl ?_
          refine s_gR (pc := 60) dX2_gaps_60 gf_X2_144 (fun r193 => ?_)
          refine s_gI (pc := 63) dX2_gaps_63 gf_X2_148 (fun x194 => ?_)
          refine s_iload_n (pc := 66) 2 dX2_gaps_66 rfl rfl ?_
          refine s_isub (pc := 67) dX2_gaps_67 ?_
          refine zS_ite (fun hr => ?_) (fun _ => zS_none)
          refine s_callC (pc := 68) (np := 2) (as := [.int a2, .int (x194 - a2)]) (rest := [va_rf r191, va_rf a1]) dX2_gaps_68 hr (c_X3_init (by decide) r191 a2 (x194 - a2) h192) ⟨_, _, q1291⟩ rfl rfl rfl q1289 q1290 rfl (by simp [zcat_rf, zcat_i, zcat_l, zcat_f, zcat_d]) (zkV (fun h195 => ?_)) zxo
          refine zS_ite (fun ht => ?_) (fun _ => zS_none)
          refine s_callV (pc := 71) (np := 1) (as := [va_rf r191]) (rest := []) dX2_gaps_71 ht (q := (RJ37, TJ37, 3)) rfl (c_J37_add_2 (by decide) a1 r191 h195) rfl rfl q1304 q1305 q1306 rfl (by decide) (zkI (fun x196 h197 => ?_)) zxo
          refine s_pop (pc := 74) dX2_gaps_74 rfl ?_
          exact s_sub (pc := 75) [1, 3, 0] rfl (w_X2_gaps_75 (f_X2_gaps_20 n) ih a1 a3 r151 h197)
    refine zS_ite (fun ht => ?_) (fun _ => zS_none)
    refine s_callF (pc := 21) (np := 0) (as := []) (rest := []) dX2_gaps_21 ht (q := (RJ22, TJ22, 5)) rfl (c_J20_hasNext (by decide) a3 h) ⟨_, _, _, q665⟩ rfl rfl q629 (by decide +kernel) q663 q667 rfl (by decide) (zkI (fun x8 h9 => ?_)) zxo
    refine s_if_eq (pc := 26) (tgt := 87) dX2_gaps_26 (by decide) (fun _ => ?_) (fun _ => ?_)
    · exact s_sub (pc := 87) [0, 1] rfl (w_X2_gaps_87 a1 a2 h9)
    · refine s_aload_n (pc := 29) 2 dX2_gaps_29 rfl rfl ?_
      refine zS_ite (fun ht => ?_) (fun _ => ?_)
      · refine s_callF (pc := 30) (np := 0) (as := []) (rest := []) dX2_gaps_30 ht (q := (RX9, TX9, 2)) rfl (c_X9_next (by decide) a3 h9) ⟨_, _, _, q677⟩ rfl rfl q670 (by decide +kernel) q675 q673 rfl (by decide) (zkR (fun r198 h199 => ?_)) zxo
        refine s_cast (pc := 35) dX2_gaps_35 q836 zcs_FloatingDock_Ship ?_
        refine s_ast (pc := 38) (L2 := [(1, va_rf a1), (2, .int a2), (3, va_rf a3)]) [0, 1, 2] dX2_gaps_38 (by decide) rfl rfl (zcB (j := 2) rfl (zcat_rf a3) rfl) ?_
        refine s_aload (pc := 40) 0 dX2_gaps_40 rfl ?_
        refine s_gR (pc := 42) dX2_gaps_42 gf_X2_144 (fun r200 => ?_)
        refine s_gI (pc := 45) dX2_gaps_45 gf_X2_148 (fun x201 => ?_)
        refine s_iload_n (pc := 48) 2 dX2_gaps_48 rfl rfl ?_
        refine s_icmp_le (pc := 49) (tgt := 75) dX2_gaps_49 (by decide) (fun _ => ?_) (fun _ => ?_)
        · exact s_sub (pc := 75) [1, 3, 0] rfl (w_X2_gaps_75 (f_X2_gaps_20 n) ih a1 a3 r198 h199)
        · refine s_aload_n (pc := 52) 1 dX2_gaps_52 rfl rfl ?_
          refine s_new (pc := 53) dX2_gaps_53 nf_X2_149 (fun r202 h203 => ?_)
          refine s_dup (pc := 56) dX2_gaps_56 (zcat_rf _) ?_
          refine s_iload_n (pc := 57) 2 dX2_gaps_57 rfl rfl ?_
          refine s_aload (pc := 58) 0 dX2_gaps_58 rfl ?_
          refine s_gR (pc := 60) dX2_gaps_60 gf_X2_144 (fun r204 => ?_)
          refine s_gI (pc := 63) dX2_gaps_63 gf_X2_148 (fun x205 => ?_)
          refine s_iload_n (pc := 66) 2 dX2_gaps_66 rfl rfl ?_
          refine s_isub (pc := 67) dX2_gaps_67 ?_
          refine zS_ite (fun hr => ?_) (fun _ => zS_none)
          refine s_callC (pc := 68) (np := 2) (as := [.int a2, .int (x205 - a2)]) (rest := [va_rf r202, va_rf a1]) dX2_gaps_68 hr (c_X3_init (by decide) r202 a2 (x205 - a2) h203) ⟨_, _, q1291⟩ rfl rfl rfl q1289 q1290 rfl (by simp [zcat_rf, zcat_i, zcat_l, zcat_f, zcat_d]) (zkV (fun h206 => ?_)) zxo
          refine zS_ite (fun ht => ?_) (fun _ => zS_none)
          refine s_callV (pc := 71) (np := 1) (as := [va_rf r202]) (rest := []) dX2_gaps_71 ht (q := (RJ37, TJ37, 3)) rfl (c_J37_add_2 (by decide) a1 r202 h206) rfl rfl q1304 q1305 q1306 rfl (by decide) (zkI (fun x207 h208 => ?_)) zxo
          refine s_pop (pc := 74) dX2_gaps_74 rfl ?_
          exact s_sub (pc := 75) [1, 3, 0] rfl (w_X2_gaps_75 (f_X2_gaps_20 n) ih a1 a3 r198 h208)
      refine zS_ite (fun ht => ?_) (fun _ => ?_)
      · refine s_callF (pc := 30) (np := 0) (as := []) (rest := []) dX2_gaps_30 ht (q := (RJ15, TJ15, 4)) rfl (c_J15_next (by decide) a3 h9) ⟨_, _, _, q788⟩ rfl rfl q670 (by decide +kernel) q786 q784 rfl (by decide) (zkR (fun r198 h199 => ?_)) zxo
        refine s_cast (pc := 35) dX2_gaps_35 q836 zcs_FloatingDock_Ship ?_
        refine s_ast (pc := 38) (L2 := [(1, va_rf a1), (2, .int a2), (3, va_rf a3)]) [0, 1, 2] dX2_gaps_38 (by decide) rfl rfl (zcB (j := 2) rfl (zcat_rf a3) rfl) ?_
        refine s_aload (pc := 40) 0 dX2_gaps_40 rfl ?_
        refine s_gR (pc := 42) dX2_gaps_42 gf_X2_144 (fun r209 => ?_)
        refine s_gI (pc := 45) dX2_gaps_45 gf_X2_148 (fun x210 => ?_)
        refine s_iload_n (pc := 48) 2 dX2_gaps_48 rfl rfl ?_
        refine s_icmp_le (pc := 49) (tgt := 75) dX2_gaps_49 (by decide) (fun _ => ?_) (fun _ => ?_)
        · exact s_sub (pc := 75) [1, 3, 0] rfl (w_X2_gaps_75 (f_X2_gaps_20 n) ih a1 a3 r198 h199)
        · refine s_aload_n (pc := 52) 1 dX2_gaps_52 rfl rfl ?_
          refine s_new (pc := 53) dX2_gaps_53 nf_X2_149 (fun r211 h212 => ?_)
          refine s_dup (pc := 56) dX2_gaps_56 (zcat_rf _) ?_
          refine s_iload_n (pc := 57) 2 dX2_gaps_57 rfl rfl ?_
          refine s_aload (pc := 58) 0 dX2_gaps_58 rfl ?_
          refine s_gR (pc := 60) dX2_gaps_60 gf_X2_144 (fun r213 => ?_)
          refine s_gI (pc := 63) dX2_gaps_63 gf_X2_148 (fun x214 => ?_)
          refine s_iload_n (pc := 66) 2 dX2_gaps_66 rfl rfl ?_
          refine s_isub (pc := 67) dX2_gaps_67 ?_
          refine zS_ite (fun hr => ?_) (fun _ => zS_none)
          refine s_callC (pc := 68) (np := 2) (as := [.int a2, .int (x214 - a2)]) (rest := [va_rf r211, va_rf a1]) dX2_gaps_68 hr (c_X3_init (by decide) r211 a2 (x214 - a2) h212) ⟨_, _, q1291⟩ rfl rfl rfl q1289 q1290 rfl (by simp [zcat_rf, zcat_i, zcat_l, zcat_f, zcat_d]) (zkV (fun h215 => ?_)) zxo
          refine zS_ite (fun ht => ?_) (fun _ => zS_none)
          refine s_callV (pc := 71) (np := 1) (as := [va_rf r211]) (rest := []) dX2_gaps_71 ht (q := (RJ37, TJ37, 3)) rfl (c_J37_add_2 (by decide) a1 r211 h215) rfl rfl q1304 q1305 q1306 rfl (by decide) (zkI (fun x216 h217 => ?_)) zxo
          refine s_pop (pc := 74) dX2_gaps_74 rfl ?_
          exact s_sub (pc := 75) [1, 3, 0] rfl (w_X2_gaps_75 (f_X2_gaps_20 n) ih a1 a3 r198 h217)
      refine zS_ite (fun ht => ?_) (fun _ => ?_)
      · refine s_callF (pc := 30) (np := 0) (as := []) (rest := []) dX2_gaps_30 ht (q := (RJ17, TJ17, 5)) rfl (c_J17_next (by decide) a3 h9) ⟨_, _, _, q799⟩ rfl rfl q670 (by decide +kernel) q797 q795 rfl (by decide) (zkR (fun r198 h199 => ?_)) zxo
        refine s_cast (pc := 35) dX2_gaps_35 q836 zcs_FloatingDock_Ship ?_
        refine s_ast (pc := 38) (L2 := [(1, va_rf a1), (2, .int a2), (3, va_rf a3)]) [0, 1, 2] dX2_gaps_38 (by decide) rfl rfl (zcB (j := 2) rfl (zcat_rf a3) rfl) ?_
        refine s_aload (pc := 40) 0 dX2_gaps_40 rfl ?_
        refine s_gR (pc := 42) dX2_gaps_42 gf_X2_144 (fun r218 => ?_)
        refine s_gI (pc := 45) dX2_gaps_45 gf_X2_148 (fun x219 => ?_)
        refine s_iload_n (pc := 48) 2 dX2_gaps_48 rfl rfl ?_
        refine s_icmp_le (pc := 49) (tgt := 75) dX2_gaps_49 (by decide) (fun _ => ?_) (fun _ => ?_)
        · exact s_sub (pc := 75) [1, 3, 0] rfl (w_X2_gaps_75 (f_X2_gaps_20 n) ih a1 a3 r198 h199)
        · refine s_aload_n (pc := 52) 1 dX2_gaps_52 rfl rfl ?_
          refine s_new (pc := 53) dX2_gaps_53 nf_X2_149 (fun r220 h221 => ?_)
          refine s_dup (pc := 56) dX2_gaps_56 (zcat_rf _) ?_
          refine s_iload_n (pc := 57) 2 dX2_gaps_57 rfl rfl ?_
          refine s_aload (pc := 58) 0 dX2_gaps_58 rfl ?_
          refine s_gR (pc := 60) dX2_gaps_60 gf_X2_144 (fun r222 => ?_)
          refine s_gI (pc := 63) dX2_gaps_63 gf_X2_148 (fun x223 => ?_)
          refine s_iload_n (pc := 66) 2 dX2_gaps_66 rfl rfl ?_
          refine s_isub (pc := 67) dX2_gaps_67 ?_
          refine zS_ite (fun hr => ?_) (fun _ => zS_none)
          refine s_callC (pc := 68) (np := 2) (as := [.int a2, .int (x223 - a2)]) (rest := [va_rf r220, va_rf a1]) dX2_gaps_68 hr (c_X3_init (by decide) r220 a2 (x223 - a2) h221) ⟨_, _, q1291⟩ rfl rfl rfl q1289 q1290 rfl (by simp [zcat_rf, zcat_i, zcat_l, zcat_f, zcat_d]) (zkV (fun h224 => ?_)) zxo
          refine zS_ite (fun ht => ?_) (fun _ => zS_none)
          refine s_callV (pc := 71) (np := 1) (as := [va_rf r220]) (rest := []) dX2_gaps_71 ht (q := (RJ37, TJ37, 3)) rfl (c_J37_add_2 (by decide) a1 r220 h224) rfl rfl q1304 q1305 q1306 rfl (by decide) (zkI (fun x225 h226 => ?_)) zxo
          refine s_pop (pc := 74) dX2_gaps_74 rfl ?_
          exact s_sub (pc := 75) [1, 3, 0] rfl (w_X2_gaps_75 (f_X2_gaps_20 n) ih a1 a3 r198 h226)
      refine zS_ite (fun ht => ?_) (fun _ => ?_)
      · refine s_callF (pc := 30) (np := 0) (as := []) (rest := []) dX2_gaps_30 ht (q := (RJ21, TJ21, 5)) rfl (c_J21_next (by decide) a3 h9) ⟨_, _, _, q812⟩ rfl rfl q670 (by decide +kernel) q810 q808 rfl (by decide) (zkR (fun r198 h199 => ?_)) zxo
        refine s_cast (pc := 35) dX2_gaps_35 q836 zcs_FloatingDock_Ship ?_
        refine s_ast (pc := 38) (L2 := [(1, va_rf a1), (2, .int a2), (3, va_rf a3)]) [0, 1, 2] dX2_gaps_38 (by decide) rfl rfl (zcB (j := 2) rfl (zcat_rf a3) rfl) ?_
        refine s_aload (pc := 40) 0 dX2_gaps_40 rfl ?_
        refine s_gR (pc := 42) dX2_gaps_42 gf_X2_144 (fun r227 => ?_)
        refine s_gI (pc := 45) dX2_gaps_45 gf_X2_148 (fun x228 => ?_)
        refine s_iload_n (pc := 48) 2 dX2_gaps_48 rfl rfl ?_
        refine s_icmp_le (pc := 49) (tgt := 75) dX2_gaps_49 (by decide) (fun _ => ?_) (fun _ => ?_)
        · exact s_sub (pc := 75) [1, 3, 0] rfl (w_X2_gaps_75 (f_X2_gaps_20 n) ih a1 a3 r198 h199)
        · refine s_aload_n (pc := 52) 1 dX2_gaps_52 rfl rfl ?_
          refine s_new (pc := 53) dX2_gaps_53 nf_X2_149 (fun r229 h230 => ?_)
          refine s_dup (pc := 56) dX2_gaps_56 (zcat_rf _) ?_
          refine s_iload_n (pc := 57) 2 dX2_gaps_57 rfl rfl ?_
          refine s_aload (pc := 58) 0 dX2_gaps_58 rfl ?_
          refine s_gR (pc := 60) dX2_gaps_60 gf_X2_144 (fun r231 => ?_)
          refine s_gI (pc := 63) dX2_gaps_63 gf_X2_148 (fun x232 => ?_)
          refine s_iload_n (pc := 66) 2 dX2_gaps_66 rfl rfl ?_
          refine s_isub (pc := 67) dX2_gaps_67 ?_
          refine zS_ite (fun hr => ?_) (fun _ => zS_none)
          refine s_callC (pc := 68) (np := 2) (as := [.int a2, .int (x232 - a2)]) (rest := [va_rf r229, va_rf a1]) dX2_gaps_68 hr (c_X3_init (by decide) r229 a2 (x232 - a2) h230) ⟨_, _, q1291⟩ rfl rfl rfl q1289 q1290 rfl (by simp [zcat_rf, zcat_i, zcat_l, zcat_f, zcat_d]) (zkV (fun h233 => ?_)) zxo
          refine zS_ite (fun ht => ?_) (fun _ => zS_none)
          refine s_callV (pc := 71) (np := 1) (as := [va_rf r229]) (rest := []) dX2_gaps_71 ht (q := (RJ37, TJ37, 3)) rfl (c_J37_add_2 (by decide) a1 r229 h233) rfl rfl q1304 q1305 q1306 rfl (by decide) (zkI (fun x234 h235 => ?_)) zxo
          refine s_pop (pc := 74) dX2_gaps_74 rfl ?_
          exact s_sub (pc := 75) [1, 3, 0] rfl (w_X2_gaps_75 (f_X2_gaps_20 n) ih a1 a3 r198 h235)
      refine zS_ite (fun ht => ?_) (fun _ => zS_none)
      refine s_callF (pc := 30) (np := 0) (as := []) (rest := []) dX2_gaps_30 ht (q := (RJ22, TJ22, 5)) rfl (c_J22_next (by decide) a3 h9) ⟨_, _, _, q832⟩ rfl rfl q670 (by decide +kernel) q830 q828 rfl (by decide) (zkR (fun r198 h199 => ?_)) zxo
      refine s_cast (pc := 35) dX2_gaps_35 q836 zcs_FloatingDock_Ship ?_
      refine s_ast (pc := 38) (L2 := [(1, va_rf a1), (2, .int a2), (3, va_rf a3)]) [0, 1, 2] dX2_gaps_38 (by decide) rfl rfl (zcB (j := 2) rfl (zcat_rf a3) rfl) ?_
      refine s_aload (pc := 40) 0 dX2_gaps_40 rfl ?_
      refine s_gR (pc := 42) dX2_gaps_42 gf_X2_144 (fun r236 => ?_)
      refine s_gI (pc := 45) dX2_gaps_45 gf_X2_148 (fun x237 => ?_)
      refine s_iload_n (pc := 48) 2 dX2_gaps_48 rfl rfl ?_
      refine s_icmp_le (pc := 49) (tgt := 75) dX2_gaps_49 (by decide) (fun _ => ?_) (fun _ => ?_)
      · exact s_sub (pc := 75) [1, 3, 0] rfl (w_X2_gaps_75 (f_X2_gaps_20 n) ih a1 a3 r198 h199)
      · refine s_aload_n (pc := 52) 1 dX2_gaps_52 rfl rfl ?_
        refine s_new (pc := 53) dX2_gaps_53 nf_X2_149 (fun r238 h239 => ?_)
        refine s_dup (pc := 56) dX2_gaps_56 (zcat_rf _) ?_
        refine s_iload_n (pc := 57) 2 dX2_gaps_57 rfl rfl ?_
        refine s_aload (pc := 58) 0 dX2_gaps_58 rfl ?_
        refine s_gR (pc := 60) dX2_gaps_60 gf_X2_144 (fun r240 => ?_)
        refine s_gI (pc := 63) dX2_gaps_63 gf_X2_148 (fun x241 => ?_)
        refine s_iload_n (pc := 66) 2 dX2_gaps_66 rfl rfl ?_
        refine s_isub (pc := 67) dX2_gaps_67 ?_
        refine zS_ite (fun hr => ?_) (fun _ => zS_none)
        refine s_callC (pc := 68) (np := 2) (as := [.int a2, .int (x241 - a2)]) (rest := [va_rf r238, va_rf a1]) dX2_gaps_68 hr (c_X3_init (by decide) r238 a2 (x241 - a2) h239) ⟨_, _, q1291⟩ rfl rfl rfl q1289 q1290 rfl (by simp [zcat_rf, zcat_i, zcat_l, zcat_f, zcat_d]) (zkV (fun h242 => ?_)) zxo
        refine zS_ite (fun ht => ?_) (fun _ => zS_none)
        refine s_callV (pc := 71) (np := 1) (as := [va_rf r238]) (rest := []) dX2_gaps_71 ht (q := (RJ37, TJ37, 3)) rfl (c_J37_add_2 (by decide) a1 r238 h242) rfl rfl q1304 q1305 q1306 rfl (by decide) (zkI (fun x243 h244 => ?_)) zxo
        refine s_pop (pc := 74) dX2_gaps_74 rfl ?_
        exact s_sub (pc := 75) [1, 3, 0] rfl (w_X2_gaps_75 (f_X2_gaps_20 n) ih a1 a3 r198 h244)
theorem w_X2_gaps (v0 : Option Nat) (h : zH) : zS D z yX2_gaps cX2_gaps 5 (some (.object "java/util/ArrayList")) [] 11 h 0 [(0, va_rf v0)] [] (f_X2_gaps v0 h) := by
  unfold f_X2_gaps
  refine s_new (pc := 0) dX2_gaps_0 nf_X2_135 (fun r1 h2 => ?_)
  refine s_dup (pc := 3) dX2_gaps_3 (zcat_rf _) ?_
  refine s_bipush (pc := 4) (v := 9) dX2_gaps_4 (by decide) ?_
  refine zS_ite (fun hr => ?_) (fun _ => zS_none)
  refine s_callC (pc := 6) (np := 1) (as := [.int 9]) (rest := [va_rf r1]) dX2_gaps_6 hr (c_J37_init (by decide) r1 9 h2) ⟨_, _, q1150⟩ rfl rfl rfl q1148 q1149 rfl (by simp [zcat_rf, zcat_i, zcat_l, zcat_f, zcat_d]) (zkV (fun h3 => ?_)) zxo
  refine s_ast_n (pc := 9) (L2 := [(0, va_rf v0)]) [0] dX2_gaps_9 rfl (by decide) rfl rfl (zcB (j := 0) rfl (zcat_rf v0) rfl) ?_
  refine s_iconst (pc := 10) (v := 0) dX2_gaps_10 (by decide) ?_
  refine s_ist_n (pc := 11) (L2 := [(1, va_rf r1), (0, va_rf v0)]) [0, 1] dX2_gaps_11 rfl (by decide) rfl rfl (zcB (j := 0) rfl (zcat_rf r1) rfl) ?_
  refine s_aload_n (pc := 12) 2 dX2_gaps_12 rfl rfl ?_
  refine zS_ite (fun ht => ?_) (fun _ => zS_none)
  refine s_callV (pc := 13) (np := 0) (as := []) (rest := []) dX2_gaps_13 ht (q := (RX2, TX2, 10)) rfl (c_X2_shipsByPosition (by decide) v0 h3) rfl rfl q1181 q1182 q1183 rfl (by decide) (zkR (fun r4 h5 => ?_)) zxo
  refine zS_ite (fun ht => ?_) (fun _ => zS_none)
  refine s_callV (pc := 16) (np := 0) (as := []) (rest := []) dX2_gaps_16 ht (q := (RJ37, TJ37, 3)) rfl (c_J37_iterator (by decide) r4 h5) rfl rfl q1286 q474 q3762 rfl (by decide) (zkR (fun r6 h7 => ?_)) zxo
  refine s_ast_n (pc := 19) (L2 := [(2, .int 0), (1, va_rf r1)]) [0, 1] dX2_gaps_19 rfl (by decide) rfl rfl (zcB (j := 0) rfl rfl rfl) ?_
  exact s_sub (pc := 20) [2, 1, 0] rfl (w_X2_gaps_20 zfuel r1 0 r6 h7)
theorem c_X2_gaps {d0 : Nat} (hd0 : 11 < d0) (v0 : Option Nat) (h : zH) : zCal D z d0 h yX2_gaps [va_rf v0] (f_X2_gaps v0 h) :=
  ⟨cX2_gaps, 5, (some (.object "java/util/ArrayList")), [], 11, (show lv_args 0 [va_rf v0] = [(0, va_rf v0)] by simp [lv_args, zcat_rf, zcat_i, zcat_l, zcat_f, zcat_d]) ▸ w_X2_gaps v0 h, (plainFor_of_name (by decide)), by simp [lg_sl, zcat_rf, zcat_i, zcat_l, zcat_f, zcat_d], q1145, q96, hd0, by decide, by decide⟩
end WW5
