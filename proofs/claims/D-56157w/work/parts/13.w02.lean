set_option maxRecDepth 100000
theorem gf_X2_183 : zFg RX2 183 [5] 1 := ⟨_, _, _, .inr ⟨_, q2009⟩, ztc ⟨_, rfl, by decide, rfl, rfl, .inl rfl, in_X6⟩ (zt0)⟩
theorem nf_X2_149 : zFn RX2 149 2 [.int 0, .int 0] := ⟨_, tyX3, rfl, q1287, q1288, q138, in_X3, tyX3_ok, rfl⟩
theorem pf_X2_144 {nm : String} : zFp RX2 144 [5] 8 nm (.object "FloatingDock$Stretch") := ⟨_, _, _, .inr ⟨_, q2026⟩, by decide +kernel, ztc ⟨_, tyX6, rfl, by decide, rfl, rfl, .inl rfl, in_X6, tyX6_ok, nmX6, .inl rfl⟩ (zt0)⟩
theorem pf_X2_207 {nm : String} : zFp RX2 207 [5] 7 nm (.boolean) := ⟨_, _, _, .inr ⟨_, q2024⟩, by decide +kernel, ztc ⟨_, tyX6, rfl, by decide, rfl, rfl, .inl rfl, in_X6, tyX6_ok, nmX6, .inl rfl⟩ (zt0)⟩
theorem gf_X2_207 : zFg RX2 207 [5] 7 := ⟨_, _, _, .inr ⟨_, q2024⟩, ztc ⟨_, rfl, by decide, rfl, rfl, .inl rfl, in_X6⟩ (zt0)⟩
theorem xf_X1_95_97 : zFx RX1 95 97 34 := ⟨RJ44, ["java/lang/RuntimeException", "java/lang/Exception"], TJ44, rfl, by decide +kernel, by decide +kernel, q2357, q148, by decide, lw_in _ [123, 729, 738, 749, 752, 754, 730, 731, 164, 165, 732, 737, 750, 767, 719, 768, 721, 769, 723, 733, 735, 725, 2367, 2368, 2369, 759, 759, 760, 761, 762, 762, 763, 764, 730, 2366, 2358, 2360, 748, 2361, 2362, 2363, 2364, 728, 727, 2365] (by decide +kernel) (by decide +kernel), zin_tbl _ [710, 712, 714, 2359] (by decide +kernel) (by decide +kernel), List.all_eq_true.mp (by decide +kernel)⟩
theorem gf_X2_285 : zFg RX2 285 [7] 0 := ⟨_, _, _, .inr ⟨_, q1532⟩, ztc ⟨_, rfl, by decide, rfl, rfl, .inl rfl, in_X8⟩ (zt0)⟩
theorem gf_X2_240 : zFg RX2 240 [5] 4 := ⟨_, _, _, .inr ⟨_, q2015⟩, ztc ⟨_, rfl, by decide, rfl, rfl, .inl rfl, in_X6⟩ (zt0)⟩
theorem pf_X2_240 {nm : String} : zFp RX2 240 [5] 4 nm (.int) := ⟨_, _, _, .inr ⟨_, q2015⟩, by decide +kernel, ztc ⟨_, tyX6, rfl, by decide, rfl, rfl, .inl rfl, in_X6, tyX6_ok, nmX6, .inl rfl⟩ (zt0)⟩
theorem gf_X2_237 : zFg RX2 237 [5] 6 := ⟨_, _, _, .inr ⟨_, q2021⟩, ztc ⟨_, rfl, by decide, rfl, rfl, .inl rfl, in_X6⟩ (zt0)⟩
theorem pf_X2_237 {nm : String} : zFp RX2 237 [5] 6 nm (.int) := ⟨_, _, _, .inr ⟨_, q2021⟩, by decide +kernel, ztc ⟨_, tyX6, rfl, by decide, rfl, rfl, .inl rfl, in_X6, tyX6_ok, nmX6, .inl rfl⟩ (zt0)⟩
theorem pf_X2_170 {nm : String} : zFp RX2 170 [5] 5 nm (.int) := ⟨_, _, _, .inr ⟨_, q2018⟩, by decide +kernel, ztc ⟨_, tyX6, rfl, by decide, rfl, rfl, .inl rfl, in_X6, tyX6_ok, nmX6, .inl rfl⟩ (zt0)⟩
theorem gf_X1_9 : zFg RX1 9 [0] 0 := ⟨_, _, _, .inl q1381, ztc ⟨_, rfl, by decide, rfl, rfl, .inl rfl, in_X1⟩ (zt0)⟩
theorem pf_X8_7 : zFp RX8 7 [7] 0 "<init>" (.int) := ⟨_, _, _, .inl q1531, by decide +kernel, ztc ⟨_, tyX8, rfl, by decide, rfl, rfl, .inl rfl, in_X8, tyX8_ok, nmX8, .inr ⟨rfl, rfl, rfl, q1531⟩⟩ (zt0)⟩
theorem nf_X2_75 : zFn RX2 75 7 [.int 0] := ⟨_, tyX8, rfl, q1525, q1526, q151, in_X8, tyX8_ok, rfl⟩
section WW2
variable {D : va_G} {z : Nat}
theorem w_X2_countInDock_47 (K15 : Int32 → Option Nat → zH → zO) (hK15 : ∀ (a1 : Int32) (a2 : Option Nat) (h : zH), zS D z yX2_countInDock cX2_countInDock 4 (some .int) [] 10 h 15 [(1, .int a1), (2, va_rf a2)] [] (K15 a1 a2 h)) (a2 : Option Nat) (s0 : Int32) (s1 : Int32) (h : zH) : zS D z yX2_countInDock cX2_countInDock 4 (some .int) [] 10 h 47 [(2, va_rf a2)] [.int s0, .int s1] (f_X2_countInDock_47 K15 a2 s0 s1 h) := by
  unfold f_X2_countInDock_47
  refine s_iadd (pc := 47) dX2_countInDock_47 ?_
  refine s_nm (pc := 48) Value.int (fun x68 => ?_)
  refine s_ist_n (pc := 48) (L2 := [(2, va_rf a2)]) [0] dX2_countInDock_48 rfl (by decide) rfl rfl (zcA rfl) ?_
  refine s_goto (pc := 49) (tgt := 15) dX2_countInDock_49 (by decide) ?_
  exact s_sub (pc := 15) [0, 1] rfl (hK15 x68 a2 h)
theorem w_X2_countInDock_15 : ∀ (n : Nat) (a1 : Int32) (a2 : Option Nat) (h : zH), zS D z yX2_countInDock cX2_countInDock 4 (some .int) [] 10 h 15 [(1, .int a1), (2, va_rf a2)] [] (f_X2_countInDock_15 n a1 a2 h) := by
  intro n
  induction n with
  | zero => intros; exact zS_none
  | succ n ih =>
    intro a1 a2 h
    rw [f_X2_countInDock_15.eq_2]
    refine s_aload_n (pc := 15) 1 dX2_countInDock_15 rfl rfl ?_
    refine zS_ite (fun ht => ?_) (fun _ => ?_)
    · refine s_callF (pc := 16) (np := 0) (as := []) (rest := []) dX2_countInDock_16 ht (q := (RX9, TX9, 2)) rfl (c_X9_hasNext (by decide) a2 h) ⟨_, _, _, q637⟩ rfl rfl q629 (by decide +kernel) q635 q633 rfl (by decide) (zkI (fun x6 h7 => ?_)) zxo
      refine s_if_eq (pc := 21) (tgt := 52) dX2_countInDock_21 (by decide) (fun _ => ?_) (fun _ => ?_)
      · refine s_iload_n (pc := 52) 0 dX2_countInDock_52 rfl rfl ?_
        exact s_iret (pc := 53) dX2_countInDock_53 rfl
      · refine s_aload_n (pc := 24) 1 dX2_countInDock_24 rfl rfl ?_
        refine zS_ite (fun ht => ?_) (fun _ => ?_)
        · refine s_callF (pc := 25) (np := 0) (as := []) (rest := []) dX2_countInDock_25 ht (q := (RX9, TX9, 2)) rfl (c_X9_next (by decide) a2 h7) ⟨_, _, _, q677⟩ rfl rfl q670 (by decide +kernel) q675 q673 rfl (by decide) (zkR (fun r8 h9 => ?_)) zxo
          refine s_cast (pc := 30) dX2_countInDock_30 q836 zcs_FloatingDock_Ship ?_
          refine s_ast_n (pc := 33) (L2 := [(1, .int a1), (2, va_rf a2)]) [0, 1] dX2_countInDock_33 rfl (by decide) rfl rfl (zcB (j := 1) rfl (zcat_rf a2) rfl) ?_
          refine s_iload_n (pc := 34) 1 dX2_countInDock_34 rfl rfl ?_
          refine s_aload_n (pc := 35) 0 dX2_countInDock_35 rfl rfl ?_
          refine zS_ite (fun ht => ?_) (fun _ => zS_none)
          refine s_callV (pc := 36) (np := 0) (as := []) (rest := [.int a1]) dX2_countInDock_36 ht (q := (RX6, TX6, 9)) rfl (c_X6_isInDock (by decide) r8 h9) rfl rfl q837 q367 q368 rfl (by simp [zcat_rf, zcat_i, zcat_l, zcat_f, zcat_d]) (zkI (fun x10 h11 => ?_)) zxo
          refine s_if_eq (pc := 39) (tgt := 46) dX2_countInDock_39 (by decide) (fun _ => ?_) (fun _ => ?_)
          · refine s_iconst (pc := 46) (v := 0) dX2_countInDock_46 (by decide) ?_
            exact s_sub (pc := 47) [2] rfl (w_X2_countInDock_47 (f_X2_countInDock_15 n) ih a2 0 a1 h11)
          · refine s_iconst (pc := 42) (v := 1) dX2_countInDock_42 (by decide) ?_
            refine s_goto (pc := 43) (tgt := 47) dX2_countInDock_43 (by decide) ?_
            exact s_sub (pc := 47) [2] rfl (w_X2_countInDock_47 (f_X2_countInDock_15 n) ih a2 1 a1 h11)
        refine zS_ite (fun ht => ?_) (fun _ => ?_)
        · refine s_callF (pc := 25) (np := 0) (as := []) (rest := []) dX2_countInDock_25 ht (q := (RJ15, TJ15, 4)) rfl (c_J15_next (by decide) a2 h7) ⟨_, _, _, q788⟩ rfl rfl q670 (by decide +kernel) q786 q784 rfl (by decide) (zkR (fun r8 h9 => ?_)) zxo
          refine s_cast (pc := 30) dX2_countInDock_30 q836 zcs_FloatingDock_Ship ?_
          refine s_ast_n (pc := 33) (L2 := [(1, .int a1), (2, va_rf a2)]) [0, 1] dX2_countInDock_33 rfl (by decide) rfl rfl (zcB (j := 1) rfl (zcat_rf a2) rfl) ?_
          refine s_iload_n (pc := 34) 1 dX2_countInDock_34 rfl rfl ?_
          refine s_aload_n (pc := 35) 0 dX2_countInDock_35 rfl rfl ?_
          refine zS_ite (fun ht => ?_) (fun _ => zS_none)
          refine s_callV (pc := 36) (np := 0) (as := []) (rest := [.int a1]) dX2_countInDock_36 ht (q := (RX6, TX6, 9)) rfl (c_X6_isInDock (by decide) r8 h9) rfl rfl q837 q367 q368 rfl (by simp [zcat_rf, zcat_i, zcat_l, zcat_f, zcat_d]) (zkI (fun x12 h13 => ?_)) zxo
          refine s_if_eq (pc := 39) (tgt := 46) dX2_countInDock_39 (by decide) (fun _ => ?_) (fun _ => ?_)
          · refine s_iconst (pc := 46) (v := 0) dX2_countInDock_46 (by decide) ?_
            exact s_sub (pc := 47) [2] rfl (w_X2_countInDock_47 (f_X2_countInDock_15 n) ih a2 0 a1 h13)
          · refine s_iconst (pc := 42) (v := 1) dX2_countInDock_42 (by decide) ?_
            refine s_goto (pc := 43) (tgt := 47) dX2_countInDock_43 (by decide) ?_
            exact s_sub (pc := 47) [2] rfl (w_X2_countInDock_47 (f_X2_countInDock_15 n) ih a2 1 a1 h13)
        refine zS_ite (fun ht => ?_) (fun _ => ?_)
        · refine s_callF (pc := 25) (np := 0) (as := []) (rest := []) dX2_countInDock_25 ht (q := (RJ17, TJ17, 5)) rfl (c_J17_next (by decide) a2 h7) ⟨_, _, _, q799⟩ rfl rfl q670 (by decide +kernel) q797 q795 rfl (by decide) (zkR (fun r8 h9 => ?_)) zxo
          refine s_cast (pc := 30) dX2_countInDock_30 q836 zcs_FloatingDock_Ship ?_
          refine s_ast_n (pc := 33) (L2 := [(1, .int a1), (2, va_rf a2)]) [0, 1] dX2_countInDock_33 rfl (by decide) rfl rfl (zcB (j := 1) rfl (zcat_rf a2) rfl) ?_
          refine s_iload_n (pc := 34) 1 dX2_countInDock_34 rfl rfl ?_
          refine s_aload_n (pc := 35) 0 dX2_countInDock_35 rfl rfl ?_
          refine zS_ite (fun ht => ?_) (fun _ => zS_none)
          refine s_callV (pc := 36) (np := 0) (as := []) (rest := [.int a1]) dX2_countInDock_36 ht (q := (RX6, TX6, 9)) rfl (c_X6_isInDock (by decide) r8 h9) rfl rfl q837 q367 q368 rfl (by simp [zcat_rf, zcat_i, zcat_l, zcat_f, zcat_d]) (zkI (fun x14 h15 => ?_)) zxo
          refine s_if_eq (pc := 39) (tgt := 46) dX2_countInDock_39 (by decide) (fun _ => ?_) (fun _ => ?_)
          · refine s_iconst (pc := 46) (v := 0) dX2_countInDock_46 (by decide) ?_
            exact s_sub (pc := 47) [2] rfl (w_X2_countInDock_47 (f_X2_countInDock_15 n) ih a2 0 a1 h15)
          · refine s_iconst (pc := 42) (v := 1) dX2_countInDock_42 (by decide) ?_
            refine s_goto (pc := 43) (tgt := 47) dX2_countInDock_43 (by decide) ?_
            exact s_sub (pc := 47) [2] rfl (w_X2_countInDock_47 (f_X2_countInDock_15 n) ih a2 1 a1 h15)
        refine zS_ite (fun ht => ?_) (fun _ => ?_)
        · refine s_callF (pc := 25) (np := 0) (as := []) (rest := []) dX2_countInDock_25 ht (q := (RJ21, TJ21, 5)) rfl (c_J21_next (by decide) a2 h7) ⟨_, _, _, q812⟩ rfl rfl q670 (by decide +kernel) q810 q808 rfl (by decide) (zkR (fun r8 h9 => ?_)) zxo
          refine s_cast (pc := 30) dX2_countInDock_30 q836 zcs_FloatingDock_Ship ?_
          refine s_ast_n (pc := 33) (L2 := [(1, .int a1), (2, va_rf a2)]) [0, 1] dX2_countInDock_33 rfl (by decide) rfl rfl (zcB (j := 1) rfl (zcat_rf a2) rfl) ?_
          refine s_iload_n (pc := 34) 1 dX2_countInDock_34 rfl rfl ?_
          refine s_aload_n (pc := 35) 0 dX2_countInDock_35 rfl rfl ?_
          refine zS_ite (fun ht => ?_) (fun _ => zS_none)
          refine s_callV (pc := 36) (np := 0) (as := []) (rest := [.int a1]) dX2_countInDock_36 ht (q := (RX6, TX6, 9)) rfl (c_X6_isInDock (by decide) r8 h9) rfl rfl q837 q367 q368 rfl (by simp [zcat_rf, zcat_i, zcat_l, zcat_f, zcat_d]) (zkI (fun x16 h17 => ?_)) zxo
          refine s_if_eq (pc := 39) (tgt := 46) dX2_countInDock_39 (by decide) (fun _ => ?_) (fun _ => ?_)
          · refine s_iconst (pc := 46) (v := 0) dX2_countInDock_46 (by decide) ?_
            exact s_sub (pc := 47) [2] rfl (w_X2_countInDock_47 (f_X2_countInDock_15 n) ih a2 0 a1 h17)
          · refine s_iconst (pc := 42) (v := 1) dX2_countInDock_42 (by decide) ?_
            refine s_goto (pc := 43) (tgt := 47) dX2_countInDock_43 (by decide) ?_
            exact s_sub (pc := 47) [2] rfl (w_X2_countInDock_47 (f_X2_countInDock_15 n) ih a2 1 a1 h17)
        refine zS_ite (fun ht => ?_) (fun _ => zS_none)
        refine s_callF (pc := 25) (np := 0) (as := []) (rest := []) dX2_countInDock_25 ht (q := (RJ22, TJ22, 5)) rfl (c_J22_next (by decide) a2 h7) ⟨_, _, _, q832⟩ rfl rfl q670 (by decide +kernel) q830 q828 rfl (by decide) (zkR (fun r8 h9 => ?_)) zxo
        refine s_cast (pc := 30) dX2_countInDock_30 q836 zcs_FloatingDock_Ship ?_
        refine s_ast_n (pc := 33) (L2 := [(1, .int a1), (2, va_rf a2)]) [0, 1] dX2_countInDock_33 rfl (by decide) rfl rfl (zcB (j := 1) rfl (zcat_rf a2) rfl) ?_
        refine s_iload_n (pc := 34) 1 dX2_countInDock_34 rfl rfl ?_
        refine s_aload_n (pc := 35) 0 dX2_countInDock_35 rfl rfl ?_
        refine zS_ite (fun ht => ?_) (fun _ => zS_none)
        refine s_callV (pc := 36) (np := 0) (as := []) (rest := [.int a1]) dX2_countInDock_36 ht (q := (RX6, TX6, 9)) rfl (c_X6_isInDock (by decide) r8 h9) rfl rfl q837 q367 q368 rfl (by simp [zcat_rf, zcat_i, zcat_l, zcat_f, zcat_d]) (zkI (fun x18 h19 => ?_)) zxo
        refine s_if_eq (pc := 39) (tgt := 46) dX2_countInDock_39 (by decide) (fun _ => ?_) (fun _ => ?_)
        · refine s_iconst (pc := 46) (v := 0) dX2_countInDock_46 (by decide) ?_
          exact s_sub (pc := 47) [2] rfl (w_X2_countInDock_47 (f_X2_countInDock_15 n) ih a2 0 a1 h19)
        · refine s_iconst (pc := 42) (v := 1) dX2_countInDock_42 (by decide) ?_
          refine s_goto (pc := 43) (tgt := 47) dX2_countInDock_43 (by decide) ?_
          exact s_sub (pc := 47) [2] rfl (w_X2_countInDock_47 (f_X2_countInDock_15 n) ih a2 1 a1 h19)
    refine zS_ite (fun ht => ?_) (fun _ => ?_)
    · refine s_callF (pc := 16) (np := 0) (as := []) (rest := []) dX2_countInDock_16 ht (q := (RJ15, TJ15, 4)) rfl (c_J15_hasNext (by decide) a2 h) ⟨_, _, _, q653⟩ rfl rfl q629 (by decide +kernel) q651 q649 rfl (by decide) (zkI (fun x6 h7 => ?_)) zxo
      refine s_if_eq (pc := 21) (tgt := 52) dX2_countInDock_21 (by decide) (fun _ => ?_) (fun _ => ?_)
      · refine s_iload_n (pc := 52) 0 dX2_countInDock_52 rfl rfl ?_
        exact s_iret (pc := 53) dX2_countInDock_53 rfl
      · refine s_aload_n (pc := 24) 1 dX2_countInDock_24 rfl rfl ?_
        refine zS_ite (fun ht => ?_) (fun _ => ?_)
        · refine s_callF (pc := 25) (np := 0) (as := []) (rest := []) dX2_countInDock_25 ht (q := (RX9, TX9, 2)) rfl (c_X9_next (by decide) a2 h7) ⟨_, _, _, q677⟩ rfl rfl q670 (by decide +kernel) q675 q673 rfl (by decide) (zkR (fun r20 h21 => ?_)) zxo
          refine s_cast (pc := 30) dX2_countInDock_30 q836 zcs_FloatingDock_Ship ?_
          refine s_ast_n (pc := 33) (L2 := [(1, .int a1), (2, va_rf a2)]) [0, 1] dX2_countInDock_33 rfl (by decide) rfl rfl (zcB (j := 1) rfl (zcat_rf a2) rfl) ?_
          refine s_iload_n (pc := 34) 1 dX2_countInDock_34 rfl rfl ?_
          refine s_aload_n (pc := 35) 0 dX2_countInDock_35 rfl rfl ?_
          refine zS_ite (fun ht => ?_) (fun _ => zS_none)
          refine s_callV (pc := 36) (np := 0) (as := []) (rest := [.int a1]) dX2_countInDock_36 ht (q := (RX6, TX6, 9)) rfl (c_X6_isInDock (by decide) r20 h21) rfl rfl q837 q367 q368 rfl (by simp [zcat_rf, zcat_i, zcat_l, zcat_f, zcat_d]) (zkI (fun x22 h23 => ?_)) zxo
          refine s_if_eq (pc := 39) (tgt := 46) dX2_countInDock_39 (by decide) (fun _ => ?_) (fun _ => ?_)
          · refine s_iconst (pc := 46) (v := 0) dX2_countInDock_46 (by decide) ?_
            exact s_sub (pc := 47) [2] rfl (w_X2_countInDock_47 (f_X2_countInDock_15 n) ih a2 0 a1 h23)
          · refine s_iconst (pc := 42) (v := 1) dX2_countInDock_42 (by decide) ?_
            refine s_goto (pc := 43) (tgt := 47) dX2_countInDock_43 (by decide) ?_
            exact s_sub (pc := 47) [2] rfl (w_X2_countInDock_47 (f_X2_countInDock_15 n) ih a2 1 a1 h23)
        refine zS_ite (fun ht => ?_) (fun _ => ?_)
        · refine s_callF (pc := 25) (np := 0) (as := []) (rest := []) dX2_countInDock_25 ht (q := (RJ15, TJ15, 4)) rfl (c_J15_next (by decide) a2 h7) ⟨_, _, _, q788⟩ rfl rfl q670 (by decide +kernel) q786 q784 rfl (by decide) (zkR (fun r20 h21 => ?_)) zxo
          refine s_cast (pc := 30) dX2_countInDock_30 q836 zcs_FloatingDock_Ship ?_
          refine s_ast_n (pc := 33) (L2 := [(1, .int a1), (2, va_rf a2)]) [0, 1] dX2_countInDock_33 rfl (by decide) rfl rfl (zcB (j := 1) rfl (zcat_rf a2) rfl) ?_
          refine s_iload_n (pc := 34) 1 dX2_countInDock_34 rfl rfl ?_
          refine s_aload_n (pc := 35) 0 dX2_countInDock_35 rfl rfl ?_
          refine zS_ite (fun ht => ?_) (fun _ => zS_none)
          refine s_callV (pc := 36) (np := 0) (as := []) (rest := [.int a1]) dX2_countInDock_36 ht (q := (RX6, TX6, 9)) rfl (c_X6_isInDock (by decide) r20 h21) rfl rfl q837 q367 q368 rfl (by simp [zcat_rf, zcat_i, zcat_l, zcat_f, zcat_d]) (zkI (fun x24 h25 => ?_)) zxo
          refine s_if_eq (pc := 39) (tgt := 46) dX2_countInDock_39 (by decide) (fun _ => ?_) (fun _ => ?_)
          · refine s_iconst (pc := 46) (v := 0) dX2_countInDock_46 (by decide) ?_
            exact s_sub (pc := 47) [2] rfl (w_X2_countInDock_47 (f_X2_countInDock_15 n) ih a2 0 a1 h25)
          · refine s_iconst (pc := 42) (v := 1) dX2_countInDock_42 (by decide) ?_
            refine s_goto (pc := 43) (tgt := 47) dX2_countInDock_43 (by decide) ?_
            exact s_sub (pc := 47) [2] rfl (w_X2_countInDock_47 (f_X2_countInDock_15 n) ih a2 1 a1 h25)
        refine zS_ite (fun ht => ?_) (fun _ => ?_)
        · refine s_callF (pc := 25) (np := 0) (as := []) (rest := []) dX2_countInDock_25 ht (q := (RJ17, TJ17, 5)) rfl (c_J17_next (by decide) a2 h7) ⟨_, _, _, q799⟩ rfl rfl q670 (by decide +kernel) q797 q795 rfl (by decide) (zkR (fun r20 h21 => ?_)) zxo
          refine s_cast (pc := 30) dX2_countInDock_30 q836 zcs_FloatingDock_Ship ?_
          refine s_ast_n (pc := 33) (L2 := [(1, .int a1), (2, va_rf a2)]) [0, 1] dX2_countInDock_33 rfl (by decide) rfl rfl (zcB (j := 1) rfl (zcat_rf a2) rfl) ?_
          refine s_iload_n (pc := 34) 1 dX2_countInDock_34 rfl rfl ?_
          refine s_aload_n (pc := 35) 0 dX2_countInDock_35 rfl rfl ?_
          refine zS_ite (fun ht => ?_) (fun _ => zS_none)
          refine s_callV (pc := 36) (np := 0) (as := []) (rest := [.int a1]) dX2_countInDock_36 ht (q := (RX6, TX6, 9)) rfl (c_X6_isInDock (by decide) r20 h21) rfl rfl q837 q367 q368 rfl (by simp [zcat_rf, zcat_i, zcat_l, zcat_f, zcat_d]) (zkI (fun x26 h27 => ?_)) zxo
          refine s_if_eq (pc := 39) (tgt := 46) dX2_countInDock_39 (by decide) (fun _ => ?_) (fun _ => ?_)
          · refine s_iconst (pc := 46) (v := 0) dX2_countInDock_46 (by decide) ?_
            exact s_sub (pc := 47) [2] rfl (w_X2_countInDock_47 (f_X2_countInDock_15 n) ih a2 0 a1 h27)
          · refine s_iconst (pc := 42) (v := 1) dX2_countInDock_42 (by decide) ?_
            refine s_goto (pc := 43) (tgt := 47) dX2_countInDock_43 (by decide) ?_
            exact s_sub (pc := 47) [2] rfl (w_X2_countInDock_47 (f_X2_countInDock_15 n) ih a2 1 a1 h27)
        refine zS_ite (fun ht => ?_) (fun _ => ?_)
        · refine s_callF (pc := 25) (np := 0) (as := []) (rest := []) dX2_countInDock_25 ht (q := (RJ21, TJ21, 5)) rfl (c_J21_next (by decide) a2 h7) ⟨_, _, _, q812⟩ rfl rfl q670 (by decide +kernel) q810 q808 rfl (by decide) (zkR (fun r20 h21 => ?_)) zxo
          refine s_cast (pc := 30) dX2_countInDock_30 q836 zcs_FloatingDock_Ship ?_
          refine s_ast_n (pc := 33) (L2 := [(1, .int a1), (2, va_rf a2)]) [0, 1] dX2_countInDock_33 rfl (by decide) rfl rfl (zcB (j := 1) rfl (zcat_rf a2) rfl) ?_
          refine s_iload_n (pc := 34) 1 dX2_countInDock_34 rfl rfl ?_
          refine s_aload_n (pc := 35) 0 dX2_countInDock_35 rfl rfl ?_
          refine zS_ite (fun ht => ?_) (fun _ => zS_none)
          refine s_callV (pc := 36) (np := 0) (as := []) (rest := [.int a1]) dX2_countInDock_36 ht (q := (RX6, TX6, 9)) rfl (c_X6_isInDock (by decide) r20 h21) rfl rfl q837 q367 q368 rfl (by simp [zcat_rf, zcat_i, zcat_l, zcat_f, zcat_d]) (zkI (fun x28 h29 => ?_)) zxo
          refine s_if_eq (pc := 39) (tgt := 46) dX2_countInDock_39 (by decide) (fun _ => ?_) (fun _ => ?_)
          · refine s_iconst (pc := 46) (v := 0) dX2_countInDock_46 (by decide) ?_
            exact s_sub (pc := 47) [2] rfl (w_X2_countInDock_47 (f_X2_countInDock_15 n) ih a2 0 a1 h29)
          · refine s_iconst (pc := 42) (v := 1) dX2_countInDock_42 (by decide) ?_
            refine s_goto (pc := 43) (tgt := 47) dX2_countInDock_43 (by decide) ?_
            exact s_sub (pc := 47) [2] rfl (w_X2_countInDock_47 (f_X2_countInDock_15 n) ih a2 1 a1 h29)
        refine zS_ite (fun ht => ?_) (fun _ => zS_none)
        refine s_callF (pc := 25) (np := 0) (as := []) (rest := []) dX2_countInDock_25 ht (q := (RJ22, TJ22, 5)) rfl (c_J22_next (by decide) a2 h7) ⟨_, _, _, q832⟩ rfl rfl q670 (by decide +kernel) q830 q828 rfl (by decide) (zkR (fun r20 h21 => ?_)) zxo
        refine s_cast (pc := 30) dX2_countInDock_30 q836 zcs_FloatingDock_Ship ?_
        refine s_ast_n (pc := 33) (L2 := [(1, .int a1), (2, va_rf a2)]) [0, 1] dX2_countInDock_33 rfl (by decide) rfl rfl (zcB (j := 1) rfl (zcat_rf a2) rfl) ?_
        refine s_iload_n (pc := 34) 1 dX2_countInDock_34 rfl rfl ?_
        refine s_aload_n (pc := 35) 0 dX2_countInDock_35 rfl rfl ?_
        refine zS_ite (fun ht => ?_) (fun _ => zS_none)
        refine s_callV (pc := 36) (np := 0) (as := []) (rest := [.int a1]) dX2_countInDock_36 ht (q := (RX6, TX6, 9)) rfl (c_X6_isInDock (by decide) r20 h21) rfl rfl q837 q367 q368 rfl (by simp [zcat_rf, zcat_i, zcat_l, zcat_f, zcat_d]) (zkI (fun x30 h31 => ?_)) zxo
        refine s_if_eq (pc := 39) (tgt := 46) dX2_countInDock_39 (by decide) (fun _ => ?_) (fun _ => ?_)
        · refine s_iconst (pc := 46) (v := 0) dX2_countInDock_46 (by decide) ?_
          exact s_sub (pc := 47) [2] rfl (w_X2_countInDock_47 (f_X2_countInDock_15 n) ih a2 0 a1 h31)
        · refine s_iconst (pc := 42) (v := 1) dX2_countInDock_42 (by decide) ?_
          refine s_goto (pc := 43) (tgt := 47) dX2_countInDock_43 (by decide) ?_
          exact s_sub (pc := 47) [2] rfl (w_X2_countInDock_47 (f_X2_countInDock_15 n) ih a2 1 a1 h31)
    refine zS_ite (fun ht => ?_) (fun _ => ?_)
    · refine s_callF (pc := 16) (np := 0) (as := []) (rest := []) dX2_countInDock_16 ht (q := (RJ17, TJ17, 5)) rfl (c_J16_hasNext (by decide) a2 h) ⟨_, _, _, q659⟩ rfl rfl q629 (by decide +kernel) q657 q655 rfl (by decide) (zkI (fun x6 h7 => ?_)) zxo
      refine s_if_eq (pc := 21) (tgt := 52) dX2_countInDock_21 (by decide) (fun _ => ?_) (fun _ => ?_)
      · refine s_iload_n (pc := 52) 0 dX2_countInDock_52 rfl rfl ?_
        exact s_iret (pc := 53) dX2_countInDock_53 rfl
      · refine s_aload_n (pc := 24) 1 dX2_countInDock_24 rfl rfl ?_
        refine zS_ite (fun ht => ?_) (fun _ => ?_)
        · refine s_callF (pc := 25) (np := 0) (as := []) (rest := []) dX2_countInDock_25 ht (q := (RX9, TX9, 2)) rfl (c_X9_next (by decide) a2 h7) ⟨_, _, _, q677⟩ rfl rfl q670 (by decide +kernel) q675 q673 rfl (by decide) (zkR (fun r32 h33 => ?_)) zxo
          refine s_cast (pc := 30) dX2_countInDock_30 q836 zcs_FloatingDock_Ship ?_
          refine s_ast_n (pc := 33) (L2 := [(1, .int a1), (2, va_rf a2)]) [0, 1] dX2_countInDock_33 rfl (by decide) rfl rfl (zcB (j := 1) rfl (zcat_rf a2) rfl) ?_
          refine s_iload_n (pc := 34) 1 dX2_countInDock_34 rfl rfl ?_
          refine s_aload_n (pc := 35) 0 dX2_countInDock_35 rfl rfl ?_
          refine zS_ite (fun ht => ?_) (fun _ => zS_none)
          refine s_callV (pc := 36) (np := 0) (as := []) (rest := [.int a1]) dX2_countInDock_36 ht (q := (RX6, TX6, 9)) rfl (c_X6_isInDock (by decide) r32 h33) rfl rfl q837 q367 q368 rfl (by simp [zcat_rf, zcat_i, zcat_l, zcat_f, zcat_d]) (zkI (fun x34 h35 => ?_)) zxo
          refine s_if_eq (pc := 39) (tgt := 46) dX2_countInDock_39 (by decide) (fun _ => ?_) (fun _ => ?_)
          · refine s_iconst (pc := 46) (v := 0) dX2_countInDock_46 (by decide) ?_
            exact s_sub (pc := 47) [2] rfl (w_X2_countInDock_47 (f_X2_countInDock_15 n) ih a2 0 a1 h35)
          · refine s_iconst (pc := 42) (v := 1) dX2_countInDock_42 (by decide) ?_
            refine s_goto (pc := 43) (tgt := 47) dX2_countInDock_43 (by decide) ?_
            exact s_sub (pc := 47) [2] rfl (w_X2_countInDock_47 (f_X2_countInDock_15 n) ih a2 1 a1 h35)
        refine zS_ite (fun ht => ?_) (fun _ => ?_)
        · refine s_callF (pc := 25) (np := 0) (as := []) (rest := []) dX2_countInDock_25 ht (q := (RJ15, TJ15, 4)) rfl (c_J15_next (by decide) a2 h7) ⟨_, _, _, q788⟩ rfl rfl q670 (by decide +kernel) q786 q784 rfl (by decide) (zkR (fun r32 h33 => ?_)) zxo
          refine s_cast (pc := 30) dX2_countInDock_30 q836 zcs_FloatingDock_Ship ?_
          refine s_ast_n (pc := 33) (L2 := [(1, .int a1), (2, va_rf a2)]) [0, 1] dX2_countInDock_33 rfl (by decide) rfl rfl (zcB (j := 1) rfl (zcat_rf a2) rfl) ?_
          refine s_iload_n (pc := 34) 1 dX2_countInDock_34 rfl rfl ?_
          refine s_aload_n (pc := 35) 0 dX2_countInDock_35 rfl rfl ?_
          refine zS_ite (fun ht => ?_) (fun _ => zS_none)
          refine s_callV (pc := 36) (np := 0) (as := []) (rest := [.int a1]) dX2_countInDock_36 ht (q := (RX6, TX6, 9)) rfl (c_X6_isInDock (by decide) r32 h33) rfl rfl q837 q367 q368 rfl (by simp [zcat_rf, zcat_i, zcat_l, zcat_f, zcat_d]) (zkI (fun x36 h37 => ?_)) zxo
          refine s_if_eq (pc := 39) (tgt := 46) dX2_countInDock_39 (by decide) (fun _ => ?_) (fun _ => ?_)
          · refine s_iconst (pc := 46) (v := 0) dX2_countInDock_46 (by decide) ?_
            exact s_sub (pc := 47) [2] rfl (w_X2_countInDock_47 (f_X2_countInDock_15 n) ih a2 0 a1 h37)
          · refine s_iconst (pc := 42) (v := 1) dX2_countInDock_42 (by decide) ?_
            refine s_goto (pc := 43) (tgt := 47) dX2_countInDock_43 (by decide) ?_
            exact s_sub (pc := 47) [2] rfl (w_X2_countInDock_47 (f_X2_countInDock_15 n) ih a2 1 a1 h37)
        refine zS_ite (fun ht => ?_) (fun _ => ?_)
        · refine s_callF (pc := 25) (np := 0) (as := []) (rest := []) dX2_countInDock_25 ht (q := (RJ17, TJ17, 5)) rfl (c_J17_next (by decide) a2 h7) ⟨_, _, _, q799⟩ rfl rfl q670 (by decide +kernel) q797 q795 rfl (by decide) (zkR (fun r32 h33 => ?_)) zxo
          refine s_cast (pc := 30) dX2_countInDock_30 q836 zcs_FloatingDock_Ship ?_
          refine s_ast_n (pc := 33) (L2 := [(1, .int a1), (2, va_rf a2)]) [0, 1] dX2_countInDock_33 rfl (by decide) rfl rfl (zcB (j := 1) rfl (zcat_rf a2) rfl) ?_
          refine s_iload_n (pc := 34) 1 dX2_countInDock_34 rfl rfl ?_
          refine s_aload_n (pc := 35) 0 dX2_countInDock_35 rfl rfl ?_
          refine zS_ite (fun ht => ?_) (fun _ => zS_none)
          refine s_callV (pc := 36) (np := 0) (as := []) (rest := [.int a1]) dX2_countInDock_36 ht (q := (RX6, TX6, 9)) rfl (c_X6_isInDock (by decide) r32 h33) rfl rfl q837 q367 q368 rfl (by simp [zcat_rf, zcat_i, zcat_l, zcat_f, zcat_d]) (zkI (fun x38 h39 => ?_)) zxo
          refine s_if_eq (pc := 39) (tgt := 46) dX2_countInDock_39 (by decide) (fun _ => ?_) (fun _ => ?_)
          · refine s_iconst (pc := 46) (v := 0) dX2_countInDock_46 (by decide) ?_
            exact s_sub (pc := 47) [2] rfl (w_X2_countInDock_47 (f_X2_countInDock_15 n) ih a2 0 a1 h39)
          · refine s_iconst (pc := 42) (v := 1) dX2_countInDock_42 (by decide) ?_
            refine s_goto (pc := 43) (tgt := 47) dX2_countInDock_43 (by decide) ?_
            exact s_sub (pc := 47) [2] rfl (w_X2_countInDock_47 (f_X2_countInDock_15 n) ih a2 1 a1 h39)
        refine zS_ite (fun ht => ?_) (fun _ => ?_)
        · refine s_callF (pc := 25) (np := 0) (as := []) (rest := []) dX2_countInDock_25 ht (q := (RJ21, TJ21, 5)) rfl (c_J21_next (by decide) a2 h7) ⟨_, _, _, q812⟩ rfl rfl q670 (by decide +kernel) q810 q808 rfl (by decide) (zkR (fun r32 h33 => ?_)) zxo
          refine s_cast (pc := 30) dX2_countInDock_30 q836 zcs_FloatingDock_Ship ?_
          refine s_ast_n (pc := 33) (L2 := [(1, .int a1), (2, va_rf a2)]) [0, 1] dX2_countInDock_33 rfl (by decide) rfl rfl (zcB (j := 1) rfl (zcat_rf a2) rfl) ?_
          refine s_iload_n (pc := 34) 1 dX2_countInDock_34 rfl rfl ?_
          refine s_aload_n (pc := 35) 0 dX2_countInDock_35 rfl rfl ?_
          refine zS_ite (fun ht => ?_) (fun _ => zS_none)
          refine s_callV (pc := 36) (np := 0) (as := []) (rest := [.int a1]) dX2_countInDock_36 ht (q := (RX6, TX6, 9)) rfl (c_X6_isInDock (by decide) r32 h33) rfl rfl q837 q367 q368 rfl (by simp [zcat_rf, zcat_i, zcat_l, zcat_f, zcat_d]) (zkI (fun x40 h41 => ?_)) zxo
          refine s_if_eq (pc := 39) (tgt := 46) dX2_countInDock_39 (by decide) (fun _ => ?_) (fun _ => ?_)
          · refine s_iconst (pc := 46) (v := 0) dX2_countInDock_46 (by decide) ?_
            exact s_sub (pc := 47) [2] rfl (w_X2_countInDock_47 (f_X2_countInDock_15 n) ih a2 0 a1 h41)
          · refine s_iconst (pc := 42) (v := 1) dX2_countInDock_42 (by decide) ?_
            refine s_goto (pc := 43) (tgt := 47) dX2_countInDock_43 (by decide) ?_
            exact s_sub (pc := 47) [2] rfl (w_X2_countInDock_47 (f_X2_countInDock_15 n) ih a2 1 a1 h41)
        refine zS_ite (fun ht => ?_) (fun _ => zS_none)
        refine s_callF (pc := 25) (np := 0) (as := []) (rest := []) dX2_countInDock_25 ht (q := (RJ22, TJ22, 5)) rfl (c_J22_next (by decide) a2 h7) ⟨_, _, _, q832⟩ rfl rfl q670 (by decide +kernel) q830 q828 rfl (by decide) (zkR (fun r32 h33 => ?_)) zxo
        refine s_cast (pc := 30) dX2_countInDock_30 q836 zcs_FloatingDock_Ship ?_
        refine s_ast_n (pc := 33) (L2 := [(1, .int a1), (2, va_rf a2)]) [0, 1] dX2_countInDock_33 rfl (by decide) rfl rfl (zcB (j := 1) rfl (zcat_rf a2) rfl) ?_
        refine s_iload_n (pc := 34) 1 dX2_countInDock_34 rfl rfl ?_
        refine s_aload_n (pc := 35) 0 dX2_countInDock_35 rfl rfl ?_
        refine zS_ite (fun ht => ?_) (fun _ => zS_none)
        refine s_callV (pc := 36) (np := 0) (as := []) (rest := [.int a1]) dX2_countInDock_36 ht (q := (RX6, TX6, 9)) rfl (c_X6_isInDock (by decide) r32 h33) rfl rfl q837 q367 q368 rfl (by simp [zcat_rf, zcat_i, zcat_l, zcat_f, zcat_d]) (zkI (fun x42 h43 => ?_)) zxo
        refine s_if_eq (pc := 39) (tgt := 46) dX2_countInDock_39 (by decide) (fun _ => ?_) (fun _ => ?_)
        · refine s_iconst (pc := 46) (v := 0) dX2_countInDock_46 (by decide) ?_
          exact s_sub (pc := 47) [2] rfl (w_X2_countInDock_47 (f_X2_countInDock_15 n) ih a2 0 a1 h43)
        · refine s_iconst (pc := 42) (v := 1) dX2_countInDock_42 (by decide) ?_
          refine s_goto (pc := 43) (tgt := 47) dX2_countInDock_43 (by decide) ?_
          exact s_sub (pc := 47) [2] rfl (w_X2_countInDock_47 (f_X2_countInDock_15 n) ih a2 1 a1 h43)
    refine zS_ite (fun ht => ?_) (fun _ => ?_)
    · refine s_callF (pc := 16) (np := 0) (as := []) (rest := []) dX2_countInDock_16 ht (q := (RJ21, TJ21, 5)) rfl (c_J20_hasNext (by decide) a2 h) ⟨_, _, _, q665⟩ rfl rfl q629 (by decide +kernel) q663 q661 rfl (by decide) (zkI (fun x6 h7 => ?_)) zxo
      refine s_if_eq (pc := 21) (tgt := 52) dX2_countInDock_21 (by decide) (fun _ => ?_) (fun _ => ?_)
      · refine s_iload_n (pc := 52) 0 dX2_countInDock_52 rfl rfl ?_
        exact s_iret (pc := 53) dX2_countInDock_53 rfl
      · refine s_aload_n (pc := 24) 1 dX2_countInDock_24 rfl rfl ?_
        refine zS_ite (fun ht => ?_) (fun _ => ?_)
        · refine s_callF (pc := 25) (np := 0) (as := []) (rest := []) dX2_countInDock_25 ht (q := (RX9, TX9, 2)) rfl (c_X9_next (by decide) a2 h7) ⟨_, _, _, q677⟩ rfl rfl q670 (by decide +kernel) q675 q673 rfl (by decide) (zkR (fun r44 h45 => ?_)) zxo
          refine s_cast (pc := 30) dX2_countInDock_30 q836 zcs_FloatingDock_Ship ?_
          refine s_ast_n (pc := 33) (L2 := [(1, .int a1), (2, va_rf a2)]) [0, 1] dX2_countInDock_33 rfl (by decide) rfl rfl (zcB (j := 1) rfl (zcat_rf a2) rfl) ?_
          refine s_iload_n (pc := 34) 1 dX2_countInDock_34 rfl rfl ?_
          refine s_aload_n (pc := 35) 0 dX2_countInDock_35 rfl rfl ?_
          refine zS_ite (fun ht => ?_) (fun _ => zS_none)
          refine s_callV (pc := 36) (np := 0) (as := []) (rest := [.int a1]) dX2_countInDock_36 ht (q := (RX6, TX6, 9)) rfl (c_X6_isInDock (by decide) r44 h45) rfl rfl q837 q367 q368 rfl (by simp [zcat_rf, zcat_i, zcat_l, zcat_f, zcat_d]) (zkI (fun x46 h47 => ?_)) zxo
          refine s_if_eq (pc := 39) (tgt := 46) dX2_countInDock_39 (by decide) (fun _ => ?_) (fun _ => ?_)
          · refine s_iconst (pc := 46) (v := 0) dX2_countInDock_46 (by decide) ?_
            exact s_sub (pc := 47) [2] rfl (w_X2_countInDock_47 (f_X2_countInDock_15 n) ih a2 0 a1 h47)
          · refine s_iconst (pc := 42) (v := 1) dX2_countInDock_42 (by decide) ?_
            refine s_goto (pc := 43) (tgt := 47) dX2_countInDock_43 (by decide) ?_
            exact s_sub (pc := 47) [2] rfl (w_X2_countInDock_47 (f_X2_countInDock_15 n) ih a2 1 a1 h47)
        refine zS_ite (fun ht => ?_) (fun _ => ?_)
        · refine s_callF (pc := 25) (np := 0) (as := []) (rest := []) dX2_countInDock_25 ht (q := (RJ15, TJ15, 4)) rfl (c_J15_next (by decide) a2 h7) ⟨_, _, _, q788⟩ rfl rfl q670 (by decide +kernel) q786 q784 rfl (by decide) (zkR (fun r44 h45 => ?_)) zxo
          refine s_cast (pc := 30) dX2_countInDock_30 q836 zcs_FloatingDock_Ship ?_
          refine s_ast_n (pc := 33) (L2 := [(1, .int a1), (2, va_rf a2)]) [0, 1] dX2_countInDock_33 rfl (by decide) rfl rfl (zcB (j := 1) rfl (zcat_rf a2) rfl) ?_
          refine s_iload_n (pc := 34) 1 dX2_countInDock_34 rfl rfl ?_
          refine s_aload_n (pc := 35) 0 dX2_countInDock_35 rfl rfl ?_
          refine zS_ite (fun ht => ?_) (fun _ => zS_none)
          refine s_callV (pc := 36) (np := 0) (as := []) (rest := [.int a1]) dX2_countInDock_36 ht (q := (RX6, TX6, 9)) rfl (c_X6_isInDock (by decide) r44 h45) rfl rfl q837 q367 q368 rfl (by simp [zcat_rf, zcat_i, zcat_l, zcat_f, zcat_d]) (zkI (fun x48 h49 => ?_)) zxo
          refine s_if_eq (pc := 39) (tgt := 46) dX2_countInDock_39 (by decide) (fun _ => ?_) (fun _ => ?_)
          · refine s_iconst (pc := 46) (v := 0) dX2_countInDock_46 (by decide) ?_
            exact s_sub (pc := 47) [2] rfl (w_X2_countInDock_47 (f_X2_countInDock_15 n) ih a2 0 a1 h49)
          · refine s_iconst (pc := 42) (v := 1) dX2_countInDock_42 (by decide) ?_
            refine s_goto (pc := 43) (tgt := 47) dX2_countInDock_43 (by decide) ?_
            exact s_sub (pc := 47) [2] rfl (w_X2_countInDock_47 (f_X2_countInDock_15 n) ih a2 1 a1 h49)
        refine zS_ite (fun ht => ?_) (fun _ => ?_)
        · refine s_callF (pc := 25) (np := 0) (as := []) (rest := []) dX2_countInDock_25 ht (q := (RJ17, TJ17, 5)) rfl (c_J17_next (by decide) a2 h7) ⟨_, _, _, q799⟩ rfl rfl q670 (by decide +kernel) q797 q795 rfl (by decide) (zkR (fun r44 h45 => ?_)) zxo
          refine s_cast (pc := 30) dX2_countInDock_30 q836 zcs_FloatingDock_Ship ?_
          refine s_ast_n (pc := 33) (L2 := [(1, .int a1), (2, va_rf a2)]) [0, 1] dX2_countInDock_33 rfl (by decide) rfl rfl (zcB (j := 1) rfl (zcat_rf a2) rfl) ?_
          refine s_iload_n (pc := 34) 1 dX2_countInDock_34 rfl rfl ?_
          refine s_aload_n (pc := 35) 0 dX2_countInDock_35 rfl rfl ?_
          refine zS_ite (fun ht => ?_) (fun _ => zS_none)
          refine s_callV (pc := 36) (np := 0) (as := []) (rest := [.int a1]) dX2_countInDock_36 ht (q := (RX6, TX6, 9)) rfl (c_X6_isInDock (by decide) r44 h45) rfl rfl q837 q367 q368 rfl (by simp [zcat_rf, zcat_i, zcat_l, zcat_f, zcat_d]) (zkI (fun x50 h51 => ?_)) zxo
          refine s_if_eq (pc := 39) (tgt := 46) dX2_countInDock_39 (by decide) (fun _ => ?_) (fun _ => ?_)
          · refine s_iconst (pc := 46) (v := 0) dX2_countInDock_46 (by decide) ?_
            exact s_sub (pc := 47) [2] rfl (w_X2_countInDock_47 (f_X2_countInDock_15 n) ih a2 0 a1 h51)
          · refine s_iconst (pc := 42) (v := 1) dX2_countInDock_42 (by decide) ?_
            refine s_goto (pc := 43) (tgt := 47) dX2_countInDock_43 (by decide) ?_
            exact s_sub (pc := 47) [2] rfl (w_X2_countInDock_47 (f_X2_countInDock_15 n) ih a2 1 a1 h51)
        refine zS_ite (fun ht => ?_) (fun _ => ?_)
        · refine s_callF (pc := 25) (np := 0) (as := []) (rest := []) dX2_countInDock_25 ht (q := (RJ21, TJ21, 5)) rfl (c_J21_next (by decide) a2 h7) ⟨_, _, _, q812⟩ rfl rfl q670 (by decide +kernel) q810 q808 rfl (by decide) (zkR (fun r44 h45 => ?_)) zxo
          refine s_cast (pc := 30) dX2_countInDock_30 q836 zcs_FloatingDock_Ship ?_
          refine s_ast_n (pc := 33) (L2 := [(1, .int a1), (2, va_rf a2)]) [0, 1] dX2_countInDock_33 rfl (by decide) rfl rfl (zcB (j := 1) rfl (zcat_rf a2) rfl) ?_
          refine s_iload_n (pc := 34) 1 dX2_countInDock_34 rfl rfl ?_
          refine s_aload_n (pc := 35) 0 dX2_countInDock_35 rfl rfl ?_
          refine zS_ite (fun ht => ?_) (fun _ => zS_none)
          refine s_callV (pc := 36) (np := 0) (as := []) (rest := [.int a1]) dX2_countInDock_36 ht (q := (RX6, TX6, 9)) rfl (c_X6_isInDock (by decide) r44 h45) rfl rfl q837 q367 q368 rfl (by simp [zcat_rf, zcat_i, zcat_l, zcat_f, zcat_d]) (zkI (fun x52 h53 => ?_)) zxo
          refine s_if_eq (pc := 39) (tgt := 46) dX2_countInDock_39 (by decide) (fun _ => ?_) (fun _ => ?_)
          · refine s_iconst (pc := 46) (v := 0) dX2_countInDock_46 (by decide) ?_
            exact s_sub (pc := 47) [2] rfl (w_X2_countInDock_47 (f_X2_countInDock_15 n) ih a2 0 a1 h53)
          · refine s_iconst (pc := 42) (v := 1) dX2_countInDock_42 (by decide) ?_
            refine s_goto (pc := 43) (tgt := 47) dX2_countInDock_43 (by decide) ?_
            exact s_sub (pc := 47) [2] rfl (w_X2_countInDock_47 (f_X2_countInDock_15 n) ih a2 1 a1 h53)
        refine zS_ite (fun ht => ?_) (fun _ => zS_none)
        refine s_callF (pc := 25) (np := 0) (as := []) (rest := []) dX2_countInDock_25 ht (q := (RJ22, TJ22, 5)) rfl (c_J22_next (by decide) a2 h7) ⟨_, _, _, q832⟩ rfl rfl q670 (by decide +kernel) q830 q828 rfl (by decide) (zkR (fun r44 h45 => ?_)) zxo
        refine s_cast (pc := 30) dX2_countInDock_30 q836 zcs_FloatingDock_Ship ?_
        refine s_ast_n (pc := 33) (L2 := [(1, .int a1), (2, va_rf a2)]) [0, 1] dX2_countInDock_33 rfl (by decide) rfl rfl (zcB (j := 1) rfl (zcat_rf a2) rfl) ?_
        refine s_iload_n (pc := 34) 1 dX2_countInDock_34 rfl rfl ?_
        refine s_aload_n (pc := 35) 0 dX2_countInDock_35 rfl rfl ?_
        refine zS_ite (fun ht => ?_) (fun _ => zS_none)
        refine s_callV (pc := 36) (np := 0) (as := []) (rest := [.int a1]) dX2_countInDock_36 ht (q := (RX6, TX6, 9)) rfl (c_X6_isInDock (by decide) r44 h45) rfl rfl q837 q367 q368 rfl (by simp [zcat_rf, zcat_i, zcat_l, zcat_f, zcat_d]) (zkI (fun x54 h55 => ?_)) zxo
        refine s_if_eq (pc := 39) (tgt := 46) dX2_countInDock_39 (by decide) (fun _ => ?_) (fun _ => ?_)
        · refine s_iconst (pc := 46) (v := 0) dX2_countInDock_46 (by decide) ?_
          exact s_sub (pc := 47) [2] rfl (w_X2_countInDock_47 (f_X2_countInDock_15 n) ih a2 0 a1 h55)
        · refine s_iconst (pc := 42) (v := 1) dX2_countInDock_42 (by decide) ?_
          refine s_goto (pc := 43) (tgt := 47) dX2_countInDock_43 (by decide) ?_
          exact s_sub (pc := 47) [2] rfl (w_X2_countInDock_47 (f_X2_countInDock_15 n) ih a2 1 a1 h55)
    refine zS_ite (fun ht => ?_) (fun _ => zS_none)
    refine s_callF (pc := 16) (np := 0) (as := []) (rest := []) dX2_countInDock_16 ht (q := (RJ22, TJ22, 5)) rfl (c_J20_hasNext (by decide) a2 h) ⟨_, _, _, q665⟩ rfl rfl q629 (by decide +kernel) q663 q667 rfl (by decide) (zkI (fun x6 h7 => ?_)) zxo
    refine s_if_eq (pc := 21) (tgt := 52) dX2_countInDock_21 (by decide) (fun _ => ?_) (fun _ => ?_)
    · refine s_iload_n (pc := 52) 0 dX2_countInDock_52 rfl rfl ?_
      exact s_iret (pc := 53) dX2_countInDock_53 rfl
    · refine s_aload_n (pc := 24) 1 dX2_countInDock_24 rfl rfl ?_
      refine zS_ite (fun ht => ?_) (fun _ => ?_)
      · refine s_callF (pc := 25) (np := 0) (as := []) (rest := []) dX2_countInDock_25 ht (q := (RX9, TX9, 2)) rfl (c_X9_next (by decide) a2 h7) ⟨_, _, _, q677⟩ rfl rfl q670 (by decide +kernel) q675 q673 rfl (by decide) (zkR (fun r56 h57 => ?_)) zxo
        refine s_cast (pc := 30) dX2_countInDock_30 q836 zcs_FloatingDock_Ship ?_
        refine s_ast_n (pc := 33) (L2 := [(1, .int a1), (2, va_rf a2)]) [0, 1] dX2_countInDock_33 rfl (by decide) rfl rfl (zcB (j := 1) rfl (zcat_rf a2) rfl) ?_
        refine s_iload_n (pc := 34) 1 dX2_countInDock_34 rfl rfl ?_
        refine s_aload_n (pc := 35) 0 dX2_countInDock_35 rfl rfl ?_
        refine zS_ite (fun ht => ?_) (fun _ => zS_none)
        refine s_callV (pc := 36) (np := 0) (as := []) (rest := [.int a1]) dX2_countInDock_36 ht (q := (RX6, TX6, 9)) rfl (c_X6_isInDock (by decide) r56 h57) rfl rfl q837 q367 q368 rfl (by simp [zcat_rf, zcat_i, zcat_l, zcat_f, zcat_d]) (zkI (fun x58 h59 => ?_)) zxo
        refine s_if_eq (pc := 39) (tgt := 46) dX2_countInDock_39 (by decide) (fun _ => ?_) (fun _ => ?_)
        · refine s_iconst (pc := 46) (v := 0) dX2_countInDock_46 (by decide) ?_
          exact s_sub (pc := 47) [2] rfl (w_X2_countInDock_47 (f_X2_countInDock_15 n) ih a2 0 a1 h59)
        · refine s_iconst (pc := 42) (v := 1) dX2_countInDock_42 (by decide) ?_
          refine s_goto (pc := 43) (tgt := 47) dX2_countInDock_43 (by decide) ?_
          exact s_sub (pc := 47) [2] rfl (w_X2_countInDock_47 (f_X2_countInDock_15 n) ih a2 1 a1 h59)
      refine zS_ite (fun ht => ?_) (fun _ => ?_)
      · refine s_callF (pc := 25) (np := 0) (as := []) (rest := []) dX2_countInDock_25 ht (q := (RJ15, TJ15, 4)) rfl (c_J15_next (by decide) a2 h7) ⟨_, _, _, q788⟩ rfl rfl q670 (by decide +kernel) q786 q784 rfl (by decide) (zkR (fun r56 h57 => ?_)) zxo
        refine s_cast (pc := 30) dX2_countInDock_30 q836 zcs_FloatingDock_Ship ?_
        refine s_ast_n (pc := 33) (L2 := [(1, .int a1), (2, va_rf a2)]) [0, 1] dX2_countInDock_33 rfl (by decide) rfl rfl (zcB (j := 1) rfl (zcat_rf a2) rfl) ?_
        refine s_iload_n (pc := 34) 1 dX2_countInDock_34 rfl rfl ?_
        refine s_aload_n (pc := 35) 0 dX2_countInDock_35 rfl rfl ?_
        refine zS_ite (fun ht => ?_) (fun _ => zS_none)
        refine s_callV (pc := 36) (np := 0) (as := []) (rest := [.int a1]) dX2_countInDock_36 ht (q := (RX6, TX6, 9)) rfl (c_X6_isInDock (by decide) r56 h57) rfl rfl q837 q367 q368 rfl (by simp [zcat_rf, zcat_i, zcat_l, zcat_f, zcat_d]) (zkI (fun x60 h61 => ?_)) zxo
        refine s_if_eq (pc := 39) (tgt := 46) dX2_countInDock_39 (by decide) (fun _ => ?_) (fun _ => ?_)
        · refine s_iconst (pc := 46) (v := 0) dX2_countInDock_46 (by decide) ?_
          exact s_sub (pc := 47) [2] rfl (w_X2_countInDock_47 (f_X2_countInDock_15 n) ih a2 0 a1 h61)
        · refine s_iconst (pc := 42) (v := 1) dX2_countInDock_42 (by decide) ?_
          refine s_goto (pc := 43) (tgt := 47) dX2_countInDock_43 (by decide) ?_
          exact s_sub (pc := 47) [2] rfl (w_X2_countInDock_47 (f_X2_countInDock_15 n) ih a2 1 a1 h61)
      refine zS_ite (fun ht => ?_) (fun _ => ?_)
      · refine s_callF (pc := 25) (np := 0) (as := []) (rest := []) dX2_countInDock_25 ht (q := (RJ17, TJ17, 5)) rfl (c_J17_next (by decide) a2 h7) ⟨_, _, _, q799⟩ rfl rfl q670 (by decide +kernel) q797 q795 rfl (by decide) (zkR (fun r56 h57 => ?_)) zxo
        refine s_cast (pc := 30) dX2_countInDock_30 q836 zcs_FloatingDock_Ship ?_
        refine s_ast_n (pc := 33) (L2 := [(1, .int a1), (2, va_rf a2)]) [0, 1] dX2_countInDock_33 rfl (by decide) rfl rfl (zcB (j := 1) rfl (zcat_rf a2) rfl) ?_
        refine s_iload_n (pc := 34) 1 dX2_countInDock_34 rfl rfl ?_
        refine s_aload_n (pc := 35) 0 dX2_countInDock_35 rfl rfl ?_
        refine zS_ite (fun ht => ?_) (fun _ => zS_none)
        refine s_callV (pc := 36) (np := 0) (as := []) (rest := [.int a1]) dX2_countInDock_36 ht (q := (RX6, TX6, 9)) rfl (c_X6_isInDock (by decide) r56 h57) rfl rfl q837 q367 q368 rfl (by simp [zcat_rf, zcat_i, zcat_l, zcat_f, zcat_d]) (zkI (fun x62 h63 => ?_)) zxo
        refine s_if_eq (pc := 39) (tgt := 46) dX2_countInDock_39 (by decide) (fun _ => ?_) (fun _ => ?_)
        · refine s_iconst (pc := 46) (v := 0) dX2_countInDock_46 (by decide) ?_
          exact s_sub (pc := 47) [2] rfl (w_X2_countInDock_47 (f_X2_countInDock_15 n) ih a2 0 a1 h63)
        · refine s_iconst (pc := 42) (v := 1) dX2_countInDock_42 (by decide) ?_
          refine s_goto (pc := 43) (tgt := 47) dX2_countInDock_43 (by decide) ?_
          exact s_sub (pc := 47) [2] rfl (w_X2_countInDock_47 (f_X2_countInDock_15 n) ih a2 1 a1 h63)
      refine zS_ite (fun ht => ?_) (fun _ => ?_)
      · refine s_callF (pc := 25) (np := 0) (as := []) (rest := []) dX2_countInDock_25 ht (q := (RJ21, TJ21, 5)) rfl (c_J21_next (by decide) a2 h7) ⟨_, _, _, q812⟩ rfl rfl q670 (by decide +kernel) q810 q808 rfl (by decide) (zkR (fun r56 h57 => ?_)) zxo
        refine s_cast (pc := 30) dX2_countInDock_30 q836 zcs_FloatingDock_Ship ?_
        refine s_ast_n (pc := 33) (L2 := [(1, .int a1), (2, va_rf a2)]) [0, 1] dX2_countInDock_33 rfl (by decide) rfl rfl (zcB (j := 1) rfl (zcat_rf a2) rfl) ?_
        refine s_iload_n (pc := 34) 1 dX2_countInDock_34 rfl rfl ?_
        refine s_aload_n (pc := 35) 0 dX2_countInDock_35 rfl rfl ?_
        refine zS_ite (fun ht => ?_) (fun _ => zS_none)
        refine s_callV (pc := 36) (np := 0) (as := []) (rest := [.int a1]) dX2_countInDock_36 ht (q := (RX6, TX6, 9)) rfl (c_X6_isInDock (by decide) r56 h57) rfl rfl q837 q367 q368 rfl (by simp [zcat_rf, zcat_i, zcat_l, zcat_f, zcat_d]) (zkI (fun x64 h65 => ?_)) zxo
        refine s_if_eq (pc := 39) (tgt := 46) dX2_countInDock_39 (by decide) (fun _ => ?_) (fun _ => ?_)
        · refine s_iconst (pc := 46) (v := 0) dX2_countInDock_46 (by decide) ?_
          exact s_sub (pc := 47) [2] rfl (w_X2_countInDock_47 (f_X2_countInDock_15 n) ih a2 0 a1 h65)
        · refine s_iconst (pc := 42) (v := 1) dX2_countInDock_42 (by decide) ?_
          refine s_goto (pc := 43) (tgt := 47) dX2_countInDock_43 (by decide) ?_
          exact s_sub (pc := 47) [2] rfl (w_X2_countInDock_47 (f_X2_countInDock_15 n) ih a2 1 a1 h65)
      refine zS_ite (fun ht => ?_) (fun _ => zS_none)
      refine s_callF (pc := 25) (np := 0) (as := []) (rest := []) dX2_countInDock_25 ht (q := (RJ22, TJ22, 5)) rfl (c_J22_next (by decide) a2 h7) ⟨_, _, _, q832⟩ rfl rfl q670 (by decide +kernel) q830 q828 rfl (by decide) (zkR (fun r56 h57 => ?_)) zxo
      refine s_cast (pc := 30) dX2_countInDock_30 q836 zcs_FloatingDock_Ship ?_
      refine s_ast_n (pc := 33) (L2 := [(1, .int a1), (2, va_rf a2)]) [0, 1] dX2_countInDock_33 rfl (by decide) rfl rfl (zcB (j := 1) rfl (zcat_rf a2) rfl) ?_
      refine s_iload_n (pc := 34) 1 dX2_countInDock_34 rfl rfl ?_
      refine s_aload_n (pc := 35) 0 dX2_countInDock_35 rfl rfl ?_
      refine zS_ite (fun ht => ?_) (fun _ => zS_none)
      refine s_callV (pc := 36) (np := 0) (as := []) (rest := [.int a1]) dX2_countInDock_36 ht (q := (RX6, TX6, 9)) rfl (c_X6_isInDock (by decide) r56 h57) rfl rfl q837 q367 q368 rfl (by simp [zcat_rf, zcat_i, zcat_l, zcat_f, zcat_d]) (zkI (fun x66 h67 => ?_)) zxo
      refine s_if_eq (pc := 39) (tgt := 46) dX2_countInDock_39 (by decide) (fun _ => ?_) (fun _ => ?_)
      · refine s_iconst (pc := 46) (v := 0) dX2_countInDock_46 (by decide) ?_
        exact s_sub (pc := 47) [2] rfl (w_X2_countInDock_47 (f_X2_countInDock_15 n) ih a2 0 a1 h67)
      · refine s_iconst (pc := 42) (v := 1) dX2_countInDock_42 (by decide) ?_
        refine s_goto (pc := 43) (tgt := 47) dX2_countInDock_43 (by decide) ?_
        exact s_sub (pc := 47) [2] rfl (w_X2_countInDock_47 (f_X2_countInDock_15 n) ih a2 1 a1 h67)
theorem w_X2_countInDock (v0 : Option Nat) (h : zH) : zS D z yX2_countInDock cX2_countInDock 4 (some .int) [] 10 h 0 [(0, va_rf v0)] [] (f_X2_countInDock v0 h) := by
  unfold f_X2_countInDock
  refine s_iconst (pc := 0) (v := 0) dX2_countInDock_0 (by decide) ?_
  refine s_ist_n (pc := 1) (L2 := [(0, va_rf v0)]) [0] dX2_countInDock_1 rfl (by decide) rfl rfl (zcB (j := 0) rfl (zcat_rf v0) rfl) ?_
  refine s_aload_n (pc := 2) 1 dX2_countInDock_2 rfl rfl ?_
  refine s_gR (pc := 3) dX2_countInDock_3 gf_X2_12 (fun r1 => ?_)
  refine zS_ite (fun ht => ?_) (fun _ => zS_none)
  refine s_callV (pc := 6) (np := 0) (as := []) (rest := []) dX2_countInDock_6 ht (q := (RJ2, TJ2, 12)) rfl (c_J2_values (by decide) r1 h) rfl rfl q413 q414 q415 rfl (by decide) (zkR (fun r2 h3 => ?_)) zxo
  refine zS_ite (fun ht => ?_) (fun _ => zS_none)
  refine s_callF (pc := 9) (np := 0) (as := []) (rest := []) dX2_countInDock_9 ht (q := (RJ13, TJ13, 2)) rfl (c_J13_iterator (by decide) r2 h3) ⟨_, _, _, q615⟩ rfl rfl q436 (by decide +kernel) q613 q611 rfl (by decide) (zkR (fun r4 h5 => ?_)) zxo
  refine s_ast_n (pc := 14) (L2 := [(1, .int 0)]) [0] dX2_countInDock_14 rfl (by decide) rfl rfl (zcB (j := 0) rfl rfl rfl) ?_
  exact s_sub (pc := 15) [1, 0] rfl (w_X2_countInDock_15 zfuel 0 r4 h5)
theorem c_X2_countInDock {d0 : Nat} (hd0 : 10 < d0) (v0 : Option Nat) (h : zH) : zCal D z d0 h yX2_countInDock [va_rf v0] (f_X2_countInDock v0 h) :=
  ⟨cX2_countInDock, 4, (some .int), [], 10, (show lv_args 0 [va_rf v0] = [(0, va_rf v0)] by simp [lv_args, zcat_rf, zcat_i, zcat_l, zcat_f, zcat_d]) ▸ w_X2_countInDock v0 h, (plainFor_of_name (by decide)), by simp [lg_sl, zcat_rf, zcat_i, zcat_l, zcat_f, zcat_d], q2486, q96, hd0, by decide, by decide⟩
theorem w_X2_enter_99 (a0 : Option Nat) (a3 : Option Nat) (a4 : Option Nat) (s0 : Int32) (h : zH) : zS D z yX2_enter cX2_enter 5 (some .int) [] 11 h 99 [(0, va_rf a0), (3, va_rf a3), (4, va_rf a4)] [.int s0] (f_X2_enter_99 a0 a3 a4 s0 h) := by
  unfold f_X2_enter_99
  refine s_iconst (pc := 99) (v := 2) dX2_enter_99 (by decide) ?_
  refine s_callSN (pc := 100) (np := 2) (as := [.int s0, .int 2]) (rest := []) dX2_enter_100 (c_X1_refuseIf (by decide) s0 2 h) ⟨_, _, _, q2451⟩ rfl rfl q2449 q2450 rfl (by decide) (zkV (fun h19 => ?_)) zxo
  refine s_aload_n (pc := 103) 1 dX2_enter_103 rfl rfl ?_
  refine s_aload (pc := 104) 2 dX2_enter_104 rfl ?_
  refine s_putR (pc := 106) dX2_enter_106 pf_X2_144 (fun h20 => ?_)
  refine s_aload_n (pc := 109) 0 dX2_enter_109 rfl rfl ?_
  refine zS_ite (fun ht => ?_) (fun _ => zS_none)
  refine s_callV (pc := 110) (np := 0) (as := []) (rest := []) dX2_enter_110 ht (q := (RX2, TX2, 10)) rfl (c_X2_countInDock (by decide) a0 h20) rfl rfl q2483 q2484 q2485 rfl (by decide) (zkI (fun x21 h22 => ?_)) zxo
  exact s_iret (pc := 113) dX2_enter_113 rfl
theorem w_X2_enter_81 (a0 : Option Nat) (a3 : Option Nat) (a4 : Option Nat) (s0 : Int32) (h : zH) : zS D z yX2_enter cX2_enter 5 (some .int) [] 11 h 81 [(0, va_rf a0), (3, va_rf a3), (4, va_rf a4)] [.int s0] (f_X2_enter_81 a0 a3 a4 s0 h) := by
  unfold f_X2_enter_81
  refine s_iconst (pc := 81) (v := 1) dX2_enter_81 (by decide) ?_
  refine s_callSN (pc := 82) (np := 2) (as := [.int s0, .int 1]) (rest := []) dX2_enter_82 (c_X1_refuseIf (by decide) s0 1 h) ⟨_, _, _, q2451⟩ rfl rfl q2449 q2450 rfl (by decide) (zkV (fun h16 => ?_)) zxo
  refine s_aload_n (pc := 85) 0 dX2_enter_85 rfl rfl ?_
  refine s_aload (pc := 86) 2 dX2_enter_86 rfl ?_
  refine zS_ite (fun ht => ?_) (fun _ => zS_none)
  refine s_callV (pc := 88) (np := 1) (as := [va_rf a4]) (rest := []) dX2_enter_88 ht (q := (RX2, TX2, 10)) rfl (c_X2_isFree (by decide) a0 a4 h16) rfl rfl q2475 q2477 qs21 rfl (by decide) (zkI (fun x17 h18 => ?_)) zxo
  refine s_if_ne (pc := 91) (tgt := 98) dX2_enter_91 (by decide) (fun _ => ?_) (fun _ => ?_)
  · refine s_iconst (pc := 98) (v := 0) dX2_enter_98 (by decide) ?_
    exact s_sub (pc := 99) [0, 1, 2] rfl (w_X2_enter_99 a0 a3 a4 0 h18)
  · refine s_iconst (pc := 94) (v := 1) dX2_enter_94 (by decide) ?_
    refine s_goto (pc := 95) (tgt := 99) dX2_enter_95 (by decide) ?_
    exact s_sub (pc := 99) [0, 1, 2] rfl (w_X2_enter_99 a0 a3 a4 1 h18)
theorem w_X2_enter_48 (a0 : Option Nat) (a2 : Int32) (a3 : Option Nat) (s0 : Int32) (h : zH) : zS D z yX2_enter cX2_enter 5 (some .int) [] 11 h 48 [(0, va_rf a0), (2, .int a2), (3, va_rf a3)] [.int s0] (f_X2_enter_48 a0 a2 a3 s0 h) := by
  unfold f_X2_enter_48
  refine s_callSN (pc := 48) (np := 1) (as := [.int s0]) (rest := []) dX2_enter_48 (c_X1_checkState (by decide) s0 h) ⟨_, _, _, q2290⟩ rfl rfl q2288 q2289 rfl (by decide) (zkV (fun h8 => ?_)) zxo
  refine s_new (pc := 51) dX2_enter_51 nf_X2_149 (fun r9 h10 => ?_)
  refine s_dup (pc := 54) dX2_enter_54 (zcat_rf _) ?_
  refine s_iload_n (pc := 55) 1 dX2_enter_55 rfl rfl ?_
  refine s_aload_n (pc := 56) 2 dX2_enter_56 rfl rfl ?_
  refine s_gI (pc := 57) dX2_enter_57 gf_X2_183 (fun x11 => ?_)
  refine zS_ite (fun hr => ?_) (fun _ => zS_none)
  refine s_callC (pc := 60) (np := 2) (as := [.int a2, .int x11]) (rest := [va_rf r9]) dX2_enter_60 hr (c_X3_init (by decide) r9 a2 x11 h10) ⟨_, _, q1291⟩ rfl rfl rfl q1289 q1290 rfl (by simp [zcat_rf, zcat_i, zcat_l, zcat_f, zcat_d]) (zkV (fun h12 => ?_)) zxo
  refine s_ast (pc := 63) (L2 := [(0, va_rf a0), (3, va_rf a3)]) [0, 2] dX2_enter_63 (by decide) rfl rfl (zcB (j := 1) rfl (zcat_rf a3) rfl) ?_
  refine s_aload_n (pc := 65) 2 dX2_enter_65 rfl rfl ?_
  refine s_aload_n (pc := 66) 1 dX2_enter_66 rfl rfl ?_
  refine s_gI (pc := 67) dX2_enter_67 gf_X2_25 (fun x13 => ?_)
  refine zS_ite (fun ht => ?_) (fun _ => zS_none)
  refine s_callV (pc := 70) (np := 1) (as := [.int x13]) (rest := []) dX2_enter_70 ht (q := (RX6, TX6, 9)) rfl (c_X6_isDeepEnough (by decide) a3 x13 h12) rfl rfl q1328 q1329 q1330 rfl (by decide) (zkI (fun x14 h15 => ?_)) zxo
  refine s_if_ne (pc := 73) (tgt := 80) dX2_enter_73 (by decide) (fun _ => ?_) (fun _ => ?_)
  · refine s_iconst (pc := 80) (v := 0) dX2_enter_80 (by decide) ?_
    exact s_sub (pc := 81) [1, 2, 0] rfl (w_X2_enter_81 a0 a3 r9 0 h15)
  · refine s_iconst (pc := 76) (v := 1) dX2_enter_76 (by decide) ?_
    refine s_goto (pc := 77) (tgt := 81) dX2_enter_77 (by decide) ?_
    exact s_sub (pc := 81) [1, 2, 0] rfl (w_X2_enter_81 a0 a3 r9 1 h15)
theorem w_X2_enter_47 (a0 : Option Nat) (a2 : Int32) (a3 : Option Nat) (h : zH) : zS D z yX2_enter cX2_enter 5 (some .int) [] 11 h 47 [(0, va_rf a0), (2, .int a2), (3, va_rf a3)] [] (f_X2_enter_47 a0 a2 a3 h) := by
  unfold f_X2_enter_47
  refine s_iconst (pc := 47) (v := 0) dX2_enter_47 (by decide) ?_
  exact s_sub (pc := 48) [0, 1, 2] rfl (w_X2_enter_48 a0 a2 a3 0 h)
theorem w_X2_enter_26 (a0 : Option Nat) (a2 : Int32) (a3 : Option Nat) (s0 : Int32) (h : zH) : zS D z yX2_enter cX2_enter 5 (some .int) [] 11 h 26 [(0, va_rf a0), (2, .int a2), (3, va_rf a3)] [.int s0] (f_X2_enter_26 a0 a2 a3 s0 h) := by
  unfold f_X2_enter_26
  refine s_callSN (pc := 26) (np := 1) (as := [.int s0]) (rest := []) dX2_enter_26 (c_X1_checkArgument (by decide) s0 h) ⟨_, _, _, q2281⟩ rfl rfl q2279 q2280 rfl (by decide) (zkV (fun h4 => ?_)) zxo
  refine s_aload_n (pc := 29) 2 dX2_enter_29 rfl rfl ?_
  refine zS_ite (fun ht => ?_) (fun _ => zS_none)
  refine s_callV (pc := 30) (np := 0) (as := []) (rest := []) dX2_enter_30 ht (q := (RX6, TX6, 9)) rfl (c_X6_isInDock (by decide) a3 h4) rfl rfl q837 q367 q368 rfl (by decide) (zkI (fun x5 h6 => ?_)) zxo
  refine s_if_ne (pc := 33) (tgt := 47) dX2_enter_33 (by decide) (fun _ => ?_) (fun _ => ?_)
  · exact s_sub (pc := 47) [0, 1, 2] rfl (w_X2_enter_47 a0 a2 a3 h6)
  · refine s_aload_n (pc := 36) 0 dX2_enter_36 rfl rfl ?_
    refine s_gI (pc := 37) dX2_enter_37 gf_X2_32 (fun x7 => ?_)
    refine s_if_eq (pc := 40) (tgt := 47) dX2_enter_40 (by decide) (fun _ => ?_) (fun _ => ?_)
    · exact s_sub (pc := 47) [0, 1, 2] rfl (w_X2_enter_47 a0 a2 a3 h6)
    · refine s_iconst (pc := 43) (v := 1) dX2_enter_43 (by decide) ?_
      refine s_goto (pc := 44) (tgt := 48) dX2_enter_44 (by decide) ?_
      exact s_sub (pc := 48) [0, 1, 2] rfl (w_X2_enter_48 a0 a2 a3 1 h6)
theorem w_X2_enter_25 (a0 : Option Nat) (a2 : Int32) (a3 : Option Nat) (h : zH) : zS D z yX2_enter cX2_enter 5 (some .int) [] 11 h 25 [(0, va_rf a0), (2, .int a2), (3, va_rf a3)] [] (f_X2_enter_25 a0 a2 a3 h) := by
  unfold f_X2_enter_25
  refine s_iconst (pc := 25) (v := 0) dX2_enter_25 (by decide) ?_
  exact s_sub (pc := 26) [0, 1, 2] rfl (w_X2_enter_26 a0 a2 a3 0 h)
theorem w_X2_enter (v0 : Option Nat) (v1 : Int32) (v2 : Int32) (h : zH) : zS D z yX2_enter cX2_enter 5 (some .int) [] 11 h 0 [(0, va_rf v0), (1, .int v1), (2, .int v2)] [] (f_X2_enter v0 v1 v2 h) := by
  unfold f_X2_enter
  refine s_aload_n (pc := 0) 0 dX2_enter_0 rfl rfl ?_
  refine s_iload_n (pc := 1) 1 dX2_enter_1 rfl rfl ?_
  refine zS_ite (fun ht => ?_) (fun _ => zS_none)
  refine s_callV (pc := 2) (np := 1) (as := [.int v1]) (rest := []) dX2_enter_2 ht (q := (RX2, TX2, 10)) rfl (c_X2_ship (by decide) v0 v1 h) rfl rfl q2386 q2387 q2388 rfl (by decide) (zkR (fun r1 h2 => ?_)) zxo
  refine s_ast_n (pc := 5) (L2 := [(0, va_rf v0), (2, .int v2)]) [0, 2] dX2_enter_5 rfl (by decide) rfl rfl (zcB (j := 1) rfl rfl rfl) ?_
  refine s_iload_n (pc := 6) 2 dX2_enter_6 rfl rfl ?_
  refine s_if_lt (pc := 7) (tgt := 25) dX2_enter_7 (by decide) (fun _ => ?_) (fun _ => ?_)
  · exact s_sub (pc := 25) [1, 2, 0] rfl (w_X2_enter_25 v0 v2 r1 h2)
  · refine s_iload_n (pc := 10) 2 dX2_enter_10 rfl rfl ?_
    refine s_bipush (pc := 11) (v := 60) dX2_enter_11 (by decide) ?_
    refine s_aload_n (pc := 13) 0 dX2_enter_13 rfl rfl ?_
    refine s_gI (pc := 14) dX2_enter_14 gf_X2_183 (fun x3 => ?_)
    refine s_isub (pc := 17) dX2_enter_17 ?_
    refine s_icmp_gt (pc := 18) (tgt := 25) dX2_enter_18 (by decide) (fun _ => ?_) (fun _ => ?_)
    · exact s_sub (pc := 25) [1, 2, 0] rfl (w_X2_enter_25 v0 v2 r1 h2)
    · refine s_iconst (pc := 21) (v := 1) dX2_enter_21 (by decide) ?_
      refine s_goto (pc := 22) (tgt := 26) dX2_enter_22 (by decide) ?_
      exact s_sub (pc := 26) [1, 2, 0] rfl (w_X2_enter_26 v0 v2 r1 1 h2)
theorem c_X2_enter {d0 : Nat} (hd0 : 11 < d0) (v0 : Option Nat) (v1 : Int32) (v2 : Int32) (h : zH) : zCal D z d0 h yX2_enter [va_rf v0, .int v1, .int v2] (f_X2_enter v0 v1 v2 h) :=
  ⟨cX2_enter, 5, (some .int), [], 11, (show lv_args 0 [va_rf v0, .int v1, .int v2] = [(0, va_rf v0), (1, .int v1), (2, .int v2)] by simp [lv_args, zcat_rf, zcat_i, zcat_l, zcat_f, zcat_d]) ▸ w_X2_enter v0 v1 v2 h, (plainFor_of_name (by decide)), by simp [lg_sl, zcat_rf, zcat_i, zcat_l, zcat_f, zcat_d], q2448, q96, hd0, by decide, by decide⟩
theorem w_X1_lambda_enter_9 (v0 : Int32) (v1 : Int32) (v2 : Option Nat) (h : zH) : zS D z yX1_lambda_enter_9 cX1_lambda_enter_9 3 (some .int) [] 12 h 0 [(0, .int v0), (1, .int v1), (2, va_rf v2)] [] (f_X1_lambda_enter_9 v0 v1 v2 h) := by
  unfold f_X1_lambda_enter_9
  refine s_aload_n (pc := 0) 2 dX1_lambda_enter_9_0 rfl rfl ?_
  refine s_iload_n (pc := 1) 0 dX1_lambda_enter_9_1 rfl rfl ?_
  refine s_iload_n (pc := 2) 1 dX1_lambda_enter_9_2 rfl rfl ?_
  refine zS_ite (fun ht => ?_) (fun _ => zS_none)
  refine s_callV (pc := 3) (np := 2) (as := [.int v0, .int v1]) (rest := []) dX1_lambda_enter_9_3 ht (q := (RX2, TX2, 10)) rfl (c_X2_enter (by decide) v2 v0 v1 h) rfl rfl q2445 q2446 q2447 rfl (by decide) (zkI (fun x1 h2 => ?_)) zxo
  exact s_iret (pc := 6) dX1_lambda_enter_9_6 rfl
theorem c_X1_lambda_enter_9 {d0 : Nat} (hd0 : 12 < d0) (v0 : Int32) (v1 : Int32) (v2 : Option Nat) (h : zH) : zCal D z d0 h yX1_lambda_enter_9 [.int v0, .int v1, va_rf v2] (f_X1_lambda_enter_9 v0 v1 v2 h) :=
  ⟨cX1_lambda_enter_9, 3, (some .int), [], 12, (show lv_args 0 [.int v0, .int v1, va_rf v2] = [(0, .int v0), (1, .int v1), (2, va_rf v2)] by simp [lv_args, zcat_rf, zcat_i, zcat_l, zcat_f, zcat_d]) ▸ w_X1_lambda_enter_9 v0 v1 v2 h, (plainFor_of_name (by decide)), by simp [lg_sl, zcat_rf, zcat_i, zcat_l, zcat_f, zcat_d], q2444, q95, hd0, by decide, by decide⟩
theorem w_X2_shipInDock (v0 : Option Nat) (v1 : Int32) (h : zH) : zS D z yX2_shipInDock cX2_shipInDock 3 (some (.object "FloatingDock$Ship")) [] 10 h 0 [(0, va_rf v0), (1, .int v1)] [] (f_X2_shipInDock v0 v1 h) := by
  unfold f_X2_shipInDock
  refine s_aload_n (pc := 0) 0 dX2_shipInDock_0 rfl rfl ?_
  refine s_iload_n (pc := 1) 1 dX2_shipInDock_1 rfl rfl ?_
  refine zS_ite (fun ht => ?_) (fun _ => zS_none)
  refine s_callV (pc := 2) (np := 1) (as := [.int v1]) (rest := []) dX2_shipInDock_2 ht (q := (RX2, TX2, 10)) rfl (c_X2_ship (by decide) v0 v1 h) rfl rfl q2386 q2387 q2388 rfl (by decide) (zkR (fun r1 h2 => ?_)) zxo
  refine s_ast_n (pc := 5) (L2 := []) [] dX2_shipInDock_5 rfl (by decide) rfl rfl (zcA rfl) ?_
  refine s_aload_n (pc := 6) 0 dX2_shipInDock_6 rfl rfl ?_
  refine zS_ite (fun ht => ?_) (fun _ => zS_none)
  refine s_callV (pc := 7) (np := 0) (as := []) (rest := []) dX2_shipInDock_7 ht (q := (RX6, TX6, 9)) rfl (c_X6_isInDock (by decide) r1 h2) rfl rfl q837 q367 q368 rfl (by decide) (zkI (fun x3 h4 => ?_)) zxo
  refine s_callSN (pc := 10) (np := 1) (as := [.int x3]) (rest := []) dX2_shipInDock_10 (c_X1_checkState (by decide) x3 h4) ⟨_, _, _, q2290⟩ rfl rfl q2288 q2289 rfl (by decide) (zkV (fun h5 => ?_)) zxo
  refine s_aload_n (pc := 13) 0 dX2_shipInDock_13 rfl rfl ?_
  exact s_aret (pc := 14) dX2_shipInDock_14 rfl (Or.inl ⟨_, rfl⟩)
theorem c_X2_shipInDock {d0 : Nat} (hd0 : 10 < d0) (v0 : Option Nat) (v1 : Int32) (h : zH) : zCal D z d0 h yX2_shipInDock [va_rf v0, .int v1] (f_X2_shipInDock v0 v1 h) :=
  ⟨cX2_shipInDock, 3, (some (.object "FloatingDock$Ship")), [], 10, (show lv_args 0 [va_rf v0, .int v1] = [(0, va_rf v0), (1, .int v1)] by simp [lv_args, zcat_rf, zcat_i, zcat_l, zcat_f, zcat_d]) ▸ w_X2_shipInDock v0 v1 h, (plainFor_of_name (by decide)), by simp [lg_sl, zcat_rf, zcat_i, zcat_l, zcat_f, zcat_d], q2503, q96, hd0, by decide, by decide⟩
theorem w_X6_rests (v0 : Option Nat) (v1 : Int32) (h : zH) : zS D z yX6_rests cX6_rests 2 (some .boolean) [] 2 h 0 [(0, va_rf v0), (1, .int v1)] [] (f_X6_rests v0 v1 h) := by
  unfold f_X6_rests
  refine s_aload_n (pc := 0) 0 dX6_rests_0 rfl rfl ?_
  refine zS_ite (fun ht => ?_) (fun _ => zS_none)
  refine s_callV (pc := 1) (np := 0) (as := []) (rest := []) dX6_rests_1 ht (q := (RX6, TX6, 9)) rfl (c_X6_isInDock (by decide) v0 h) rfl rfl q366 q367 q368 rfl (by decide) (zkI (fun x1 h2 => ?_)) zxo
  refine s_if_eq (pc := 4) (tgt := 19) dX6_rests_4 (by decide) (fun _ => ?_) (fun _ => ?_)
  · refine s_iconst (pc := 19) (v := 0) dX6_rests_19 (by decide) ?_
    exact s_nret (pc := 20) dX6_rests_20 rfl
  · refine s_iload_n (pc := 7) 1 dX6_rests_7 rfl rfl ?_
    refine s_aload_n (pc := 8) 0 dX6_rests_8 rfl rfl ?_
    refine s_gI (pc := 9) dX6_rests_9 gf_X6_18 (fun x3 => ?_)
    refine s_icmp_ge (pc := 12) (tgt := 19) dX6_rests_12 (by decide) (fun _ => ?_) (fun _ => ?_)
    · refine s_iconst (pc := 19) (v := 0) dX6_rests_19 (by decide) ?_
      exact s_nret (pc := 20) dX6_rests_20 rfl
    · refine s_iconst (pc := 15) (v := 1) dX6_rests_15 (by decide) ?_
      refine s_goto (pc := 16) (tgt := 20) dX6_rests_16 (by decide) ?_
      exact s_nret (pc := 20) dX6_rests_20 rfl
theorem c_X6_rests {d0 : Nat} (hd0 : 2 < d0) (v0 : Option Nat) (v1 : Int32) (h : zH) : zCal D z d0 h yX6_rests [va_rf v0, .int v1] (f_X6_rests v0 v1 h) :=
  ⟨cX6_rests, 2, (some .boolean), [], 2, (show lv_args 0 [va_rf v0, .int v1] = [(0, va_rf v0), (1, .int v1)] by simp [lv_args, zcat_rf, zcat_i, zcat_l, zcat_f, zcat_d]) ▸ w_X6_rests v0 v1 h, (plainFor_of_name (by decide)), by simp [lg_sl, zcat_rf, zcat_i, zcat_l, zcat_f, zcat_d], q365, q142, hd0, by decide, by decide⟩
theorem w_X2_leave_37 (a0 : Option Nat) (a2 : Option Nat) (s0 : Int32) (h : zH) : zS D z yX2_leave cX2_leave 3 (some .int) [] 11 h 37 [(0, va_rf a0), (2, va_rf a2)] [.int s0] (f_X2_leave_37 a0 a2 s0 h) := by
  unfold f_X2_leave_37
  refine s_iconst (pc := 37) (v := 4) dX2_leave_37 (by decide) ?_
  refine s_callSN (pc := 38) (np := 2) (as := [.int s0, .int 4]) (rest := []) dX2_leave_38 (c_X1_refuseIf (by decide) s0 4 h) ⟨_, _, _, q2451⟩ rfl rfl q2449 q2450 rfl (by decide) (zkV (fun h10 => ?_)) zxo
  refine s_aload_n (pc := 41) 1 dX2_leave_41 rfl rfl ?_
  refine s_null (pc := 42) dX2_leave_42 ?_
  refine s_putR (pc := 43) dX2_leave_43 pf_X2_144 (fun h11 => ?_)
  refine s_aload_n (pc := 46) 1 dX2_leave_46 rfl rfl ?_
  refine s_iconst (pc := 47) (v := 0) dX2_leave_47 (by decide) ?_
  refine s_putN (pc := 48) dX2_leave_48 pf_X2_207 (fun h12 => ?_)
  refine s_aload_n (pc := 51) 0 dX2_leave_51 rfl rfl ?_
  refine zS_ite (fun ht => ?_) (fun _ => zS_none)
  refine s_callV (pc := 52) (np := 0) (as := []) (rest := []) dX2_leave_52 ht (q := (RX2, TX2, 10)) rfl (c_X2_countInDock (by decide) a0 h12) rfl rfl q2483 q2484 q2485 rfl (by decide) (zkI (fun x13 h14 => ?_)) zxo
  exact s_iret (pc := 55) dX2_leave_55 rfl
theorem w_X2_leave (v0 : Option Nat) (v1 : Int32) (h : zH) : zS D z yX2_leave cX2_leave 3 (some .int) [] 11 h 0 [(0, va_rf v0), (1, .int v1)] [] (f_X2_leave v0 v1 h) := by
  unfold f_X2_leave
  refine s_aload_n (pc := 0) 0 dX2_leave_0 rfl rfl ?_
  refine s_iload_n (pc := 1) 1 dX2_leave_1 rfl rfl ?_
  refine zS_ite (fun ht => ?_) (fun _ => zS_none)
  refine s_callV (pc := 2) (np := 1) (as := [.int v1]) (rest := []) dX2_leave_2 ht (q := (RX2, TX2, 10)) rfl (c_X2_shipInDock (by decide) v0 v1 h) rfl rfl q2500 q2502 qs22 rfl (by decide) (zkR (fun r1 h2 => ?_)) zxo
  refine s_ast_n (pc := 5) (L2 := [(0, va_rf v0)]) [0] dX2_leave_5 rfl (by decide) rfl rfl (zcA rfl) ?_
  refine s_aload_n (pc := 6) 1 dX2_leave_6 rfl rfl ?_
  refine s_gI (pc := 7) dX2_leave_7 gf_X2_32 (fun x3 => ?_)
  refine s_callSN (pc := 10) (np := 1) (as := [.int x3]) (rest := []) dX2_leave_10 (c_X1_checkState (by decide) x3 h2) ⟨_, _, _, q2290⟩ rfl rfl q2288 q2289 rfl (by decide) (zkV (fun h4 => ?_)) zxo
  refine s_aload_n (pc := 13) 0 dX2_leave_13 rfl rfl ?_
  refine s_aload_n (pc := 14) 1 dX2_leave_14 rfl rfl ?_
  refine s_gI (pc := 15) dX2_leave_15 gf_X2_25 (fun x5 => ?_)
  refine zS_ite (fun ht => ?_) (fun _ => zS_none)
  refine s_callV (pc := 18) (np := 1) (as := [.int x5]) (rest := []) dX2_leave_18 ht (q := (RX6, TX6, 9)) rfl (c_X6_rests (by decide) r1 x5 h4) rfl rfl q2504 q363 q364 rfl (by decide) (zkI (fun x6 h7 => ?_)) zxo
  refine s_iconst (pc := 21) (v := 3) dX2_leave_21 (by decide) ?_
  refine s_callSN (pc := 22) (np := 2) (as := [.int x6, .int 3]) (rest := []) dX2_leave_22 (c_X1_refuseIf (by decide) x6 3 h7) ⟨_, _, _, q2451⟩ rfl rfl q2449 q2450 rfl (by decide) (zkV (fun h8 => ?_)) zxo
  refine s_aload_n (pc := 25) 0 dX2_leave_25 rfl rfl ?_
  refine s_gI (pc := 26) dX2_leave_26 gf_X2_170 (fun x9 => ?_)
  refine s_if_le (pc := 29) (tgt := 36) dX2_leave_29 (by decide) (fun _ => ?_) (fun _ => ?_)
  · refine s_iconst (pc := 36) (v := 0) dX2_leave_36 (by decide) ?_
    exact s_sub (pc := 37) [1, 0] rfl (w_X2_leave_37 v0 r1 0 h8)
  · refine s_iconst (pc := 32) (v := 1) dX2_leave_32 (by decide) ?_
    refine s_goto (pc := 33) (tgt := 37) dX2_leave_33 (by decide) ?_
    exact s_sub (pc := 37) [1, 0] rfl (w_X2_leave_37 v0 r1 1 h8)
theorem c_X2_leave {d0 : Nat} (hd0 : 11 < d0) (v0 : Option Nat) (v1 : Int32) (h : zH) : zCal D z d0 h yX2_leave [va_rf v0, .int v1] (f_X2_leave v0 v1 h) :=
  ⟨cX2_leave, 3, (some .int), [], 11, (show lv_args 0 [va_rf v0, .int v1] = [(0, va_rf v0), (1, .int v1)] by simp [lv_args, zcat_rf, zcat_i, zcat_l, zcat_f, zcat_d]) ▸ w_X2_leave v0 v1 h, (plainFor_of_name (by decide)), by simp [lg_sl, zcat_rf, zcat_i, zcat_l, zcat_f, zcat_d], q2499, q96, hd0, by decide, by decide⟩
theorem w_X1_lambda_leave_10 (v0 : Int32) (v1 : Option Nat) (h : zH) : zS D z yX1_lambda_leave_10 cX1_lambda_leave_10 2 (some .int) [] 12 h 0 [(0, .int v0), (1, va_rf v1)] [] (f_X1_lambda_leave_10 v0 v1 h) := by
  unfold f_X1_lambda_leave_10
  refine s_aload_n (pc := 0) 1 dX1_lambda_leave_10_0 rfl rfl ?_
  refine s_iload_n (pc := 1) 0 dX1_lambda_leave_10_1 rfl rfl ?_
  refine zS_ite (fun ht => ?_) (fun _ => zS_none)
  refine s_callV (pc := 2) (np := 1) (as := [.int v0]) (rest := []) dX1_lambda_leave_10_2 ht (q := (RX2, TX2, 10)) rfl (c_X2_leave (by decide) v1 v0 h) rfl rfl q2496 q2497 q2498 rfl (by decide) (zkI (fun x1 h2 => ?_)) zxo
  exact s_iret (pc := 5) dX1_lambda_leave_10_5 rfl
theorem c_X1_lambda_leave_10 {d0 : Nat} (hd0 : 12 < d0) (v0 : Int32) (v1 : Option Nat) (h : zH) : zCal D z d0 h yX1_lambda_leave_10 [.int v0, va_rf v1] (f_X1_lambda_leave_10 v0 v1 h) :=
  ⟨cX1_lambda_leave_10, 2, (some .int), [], 12, (show lv_args 0 [.int v0, va_rf v1] = [(0, .int v0), (1, va_rf v1)] by simp [lv_args, zcat_rf, zcat_i, zcat_l, zcat_f, zcat_d]) ▸ w_X1_lambda_leave_10 v0 v1 h, (plainFor_of_name (by decide)), by simp [lg_sl, zcat_rf, zcat_i, zcat_l, zcat_f, zcat_d], q2495, q95, hd0, by decide, by decide⟩
theorem w_X2_setCleaning (v0 : Option Nat) (v1 : Int32) (v2 : Int32) (h : zH) : zS D z yX2_setCleaning cX2_setCleaning 5 (some .int) [] 11 h 0 [(0, va_rf v0), (1, .int v1), (2, .int v2)] [] (f_X2_setCleaning v0 v1 v2 h) := by
  unfold f_X2_setCleaning
  refine s_aload_n (pc := 0) 0 dX2_setCleaning_0 rfl rfl ?_
  refine s_iload_n (pc := 1) 1 dX2_setCleaning_1 rfl rfl ?_
  refine zS_ite (fun ht => ?_) (fun _ => zS_none)
  refine s_callV (pc := 2) (np := 1) (as := [.int v1]) (rest := []) dX2_setCleaning_2 ht (q := (RX2, TX2, 10)) rfl (c_X2_shipInDock (by decide) v0 v1 h) rfl rfl q2500 q2502 qs22 rfl (by decide) (zkR (fun r1 h2 => ?_)) zxo
  refine s_ast_n (pc := 5) (L2 := [(2, .int v2)]) [2] dX2_setCleaning_5 rfl (by decide) rfl rfl (zcB (j := 0) rfl rfl rfl) ?_
  refine s_aload_n (pc := 6) 0 dX2_setCleaning_6 rfl rfl ?_
  refine s_gI (pc := 7) dX2_setCleaning_7 gf_X2_207 (fun x3 => ?_)
  refine s_ist (pc := 10) (L2 := [(3, va_rf r1), (2, .int v2)]) [0, 1] dX2_setCleaning_10 (by decide) rfl rfl (zcB (j := 0) rfl (zcat_rf r1) rfl) ?_
  refine s_aload_n (pc := 12) 1 dX2_setCleaning_12 rfl rfl ?_
  refine s_iload_n (pc := 13) 2 dX2_setCleaning_13 rfl rfl ?_
  refine s_putN (pc := 14) dX2_setCleaning_14 pf_X2_207 (fun h4 => ?_)
  refine s_iload (pc := 17) 0 dX2_setCleaning_17 rfl ?_
  refine s_if_eq (pc := 19) (tgt := 26) dX2_setCleaning_19 (by decide) (fun _ => ?_) (fun _ => ?_)
  · refine s_iconst (pc := 26) (v := 0) dX2_setCleaning_26 (by decide) ?_
    exact s_iret (pc := 27) dX2_setCleaning_27 rfl
  · refine s_iconst (pc := 22) (v := 1) dX2_setCleaning_22 (by decide) ?_
    refine s_goto (pc := 23) (tgt := 27) dX2_setCleaning_23 (by decide) ?_
    exact s_iret (pc := 27) dX2_setCleaning_27 rfl
theorem c_X2_setCleaning {d0 : Nat} (hd0 : 11 < d0) (v0 : Option Nat) (v1 : Int32) (v2 : Int32) (h : zH) : zCal D z d0 h yX2_setCleaning [va_rf v0, .int v1, .int v2] (f_X2_setCleaning v0 v1 v2 h) :=
  ⟨cX2_setCleaning, 5, (some .int), [], 11, (show lv_args 0 [va_rf v0, .int v1, .int v2] = [(0, va_rf v0), (1, .int v1), (2, .int v2)] by simp [lv_args, zcat_rf, zcat_i, zcat_l, zcat_f, zcat_d]) ▸ w_X2_setCleaning v0 v1 v2 h, (plainFor_of_name (by decide)), by simp [lg_sl, zcat_rf, zcat_i, zcat_l, zcat_f, zcat_d], q2517, q96, hd0, by decide, by decide⟩
theorem w_X1_lambda_setCleaning_11 (v0 : Int32) (v1 : Int32) (v2 : Option Nat) (h : zH) : zS D z yX1_lambda_setCleaning_11 cX1_lambda_setCleaning_11 3 (some .int) [] 12 h 0 [(0, .int v0), (1, .int v1), (2, va_rf v2)] [] (f_X1_lambda_setCleaning_11 v0 v1 v2 h) := by
  unfold f_X1_lambda_setCleaning_11
  refine s_aload_n (pc := 0) 2 dX1_lambda_setCleaning_11_0 rfl rfl ?_
  refine s_iload_n (pc := 1) 0 dX1_lambda_setCleaning_11_1 rfl rfl ?_
  refine s_iload_n (pc := 2) 1 dX1_lambda_setCleaning_11_2 rfl rfl ?_
  refine zS_ite (fun ht => ?_) (fun _ => zS_none)
  refine s_callV (pc := 3) (np := 2) (as := [.int v0, .int v1]) (rest := []) dX1_lambda_setCleaning_11_3 ht (q := (RX2, TX2, 10)) rfl (c_X2_setCleaning (by decide) v2 v0 v1 h) rfl rfl q2514 q2515 q2516 rfl (by decide) (zkI (fun x1 h2 => ?_)) zxo
  exact s_iret (pc := 6) dX1_lambda_setCleaning_11_6 rfl
theorem c_X1_lambda_setCleaning_11 {d0 : Nat} (hd0 : 12 < d0) (v0 : Int32) (v1 : Int32) (v2 : Option Nat) (h : zH) : zCal D z d0 h yX1_lambda_setCleaning_11 [.int v0, .int v1, va_rf v2] (f_X1_lambda_setCleaning_11 v0 v1 v2 h) :=
  ⟨cX1_lambda_setCleaning_11, 3, (some .int), [], 12, (show lv_args 0 [.int v0, .int v1, va_rf v2] = [(0, .int v0), (1, .int v1), (2, va_rf v2)] by simp [lv_args, zcat_rf, zcat_i, zcat_l, zcat_f, zcat_d]) ▸ w_X1_lambda_setCleaning_11 v0 v1 v2 h, (plainFor_of_name (by decide)), by simp [lg_sl, zcat_rf, zcat_i, zcat_l, zcat_f, zcat_d], q2513, q95, hd0, by decide, by decide⟩
theorem w_X1_seaLevelOf (v0 : Int32) (h : zH) : zS D z yX1_seaLevelOf cX1_seaLevelOf 2 (some .int) [] 1 h 0 [(0, .int v0)] [] (f_X1_seaLevelOf v0 h) := by
  unfold f_X1_seaLevelOf
  refine s_iload_n (pc := 0) 0 dX1_seaLevelOf_0 rfl rfl ?_
  refine s_bipush (pc := 1) (v := 12) dX1_seaLevelOf_1 (by decide) ?_
  refine s_irem (pc := 3) dX1_seaLevelOf_3 (fun _ => ?_)
  refine s_nm (pc := 4) Value.int (fun x1 => ?_)
  refine s_ist_n (pc := 4) (L2 := []) [] dX1_seaLevelOf_4 rfl (by decide) rfl rfl (zcA rfl) ?_
  refine s_iload_n (pc := 5) 0 dX1_seaLevelOf_5 rfl rfl ?_
  refine s_bipush (pc := 6) (v := 6) dX1_seaLevelOf_6 (by decide) ?_
  refine s_icmp_gt (pc := 8) (tgt := 21) dX1_seaLevelOf_8 (by decide) (fun _ => ?_) (fun _ => ?_)
  · refine s_sipush (pc := 21) (v := 160) dX1_seaLevelOf_21 (by decide) ?_
    refine s_bipush (pc := 24) (v := 20) dX1_seaLevelOf_24 (by decide) ?_
    refine s_iload_n (pc := 26) 0 dX1_seaLevelOf_26 rfl rfl ?_
    refine s_bipush (pc := 27) (v := 6) dX1_seaLevelOf_27 (by decide) ?_
    refine s_isub (pc := 29) dX1_seaLevelOf_29 ?_
    refine s_imul (pc := 30) dX1_seaLevelOf_30 ?_
    refine s_isub (pc := 31) dX1_seaLevelOf_31 ?_
    exact s_iret (pc := 32) dX1_seaLevelOf_32 rfl
  · refine s_bipush (pc := 11) (v := 40) dX1_seaLevelOf_11 (by decide) ?_
    refine s_bipush (pc := 13) (v := 20) dX1_seaLevelOf_13 (by decide) ?_
    refine s_iload_n (pc := 15) 0 dX1_seaLevelOf_15 rfl rfl ?_
    refine s_imul (pc := 16) dX1_seaLevelOf_16 ?_
    refine s_iadd (pc := 17) dX1_seaLevelOf_17 ?_
    refine s_goto (pc := 18) (tgt := 32) dX1_seaLevelOf_18 (by decide) ?_
    exact s_iret (pc := 32) dX1_seaLevelOf_32 rfl
theorem c_X1_seaLevelOf {d0 : Nat} (hd0 : 1 < d0) (v0 : Int32) (h : zH) : zCal D z d0 h yX1_seaLevelOf [.int v0] (f_X1_seaLevelOf v0 h) :=
  ⟨cX1_seaLevelOf, 2, (some .int), [], 1, (show lv_args 0 [.int v0] = [(0, .int v0)] by simp [lv_args, zcat_rf, zcat_i, zcat_l, zcat_f, zcat_d]) ▸ w_X1_seaLevelOf v0 h, (plainFor_of_name (by decide)), by simp [lg_sl, zcat_rf, zcat_i, zcat_l, zcat_f, zcat_d], q1976, q95, hd0, by decide, by decide⟩
theorem w_J11_abs (v0 : Int32) (h : zH) : zS D z yJ11_abs cJ11_abs 1 (some .int) [] 1 h 0 [(0, .int v0)] [] (f_J11_abs v0 h) := by
  unfold f_J11_abs
  refine s_iload_n (pc := 0) 0 dJ11_abs_0 rfl rfl ?_
  refine s_if_ge (pc := 1) (tgt := 9) dJ11_abs_1 (by decide) (fun _ => ?_) (fun _ => ?_)
  · refine s_iload_n (pc := 9) 0 dJ11_abs_9 rfl rfl ?_
    exact s_iret (pc := 10) dJ11_abs_10 rfl
  · refine s_iload_n (pc := 4) 0 dJ11_abs_4 rfl rfl ?_
    refine s_ineg (pc := 5) dJ11_abs_5 ?_
    refine s_goto (pc := 6) (tgt := 10) dJ11_abs_6 (by decide) ?_
    exact s_iret (pc := 10) dJ11_abs_10 rfl
theorem c_J11_abs {d0 : Nat} (hd0 : 1 < d0) (v0 : Int32) (h : zH) : zCal D z d0 h yJ11_abs [.int v0] (f_J11_abs v0 h) :=
  ⟨cJ11_abs, 1, (some .int), [], 1, (show lv_args 0 [.int v0] = [(0, .int v0)] by simp [lv_args, zcat_rf, zcat_i, zcat_l, zcat_f, zcat_d]) ▸ w_J11_abs v0 h, (by decide +kernel), by simp [lg_sl, zcat_rf, zcat_i, zcat_l, zcat_f, zcat_d], q2628, q108, hd0, by decide, by decide⟩
theorem w_J44_init (v0 : Option Nat) (h : zH) : zS D z yJ44_init cJ44_init 1 none [] 4 h 0 [(0, va_rf v0)] [] (f_J44_init v0 h) := by
  unfold f_J44_init
  refine s_aload_n (pc := 0) 0 dJ44_init_0 rfl rfl ?_
  refine zS_ite (fun hr => ?_) (fun _ => zS_none)
  refine s_callC (pc := 1) (np := 0) (as := []) (rest := []) dJ44_init_1 hr (c_J27_init (by decide) v0 h) ⟨_, _, q760⟩ rfl rfl rfl q2369 q759 rfl (by decide) (zkV (fun h1 => ?_)) zxo
  exact s_vret (pc := 4) dJ44_init_4 rfl
theorem c_J44_init {d0 : Nat} (hd0 : 4 < d0) (v0 : Option Nat) (h : zH) : zCal D z d0 h yJ44_init [va_rf v0] (f_J44_init v0 h) :=
  ⟨cJ44_init, 1, none, [], 4, (show lv_args 0 [va_rf v0] = [(0, va_rf v0)] by simp [lv_args, zcat_rf, zcat_i, zcat_l, zcat_f, zcat_d]) ▸ w_J44_init v0 h, (plainFor_of_name (by decide)), by simp [lg_sl, zcat_rf, zcat_i, zcat_l, zcat_f, zcat_d], q2368, q148, hd0, by decide, by decide⟩
theorem w_X1_checkSupported (v0 : Int32) (h : zH) : zS D z yX1_checkSupported cX1_checkSupported 1 none [] 8 h 0 [(0, .int v0)] [] (f_X1_checkSupported v0 h) := by
  unfold f_X1_checkSupported
  refine s_iload_n (pc := 0) 0 dX1_checkSupported_0 rfl rfl ?_
  refine s_if_ne (pc := 1) (tgt := 12) dX1_checkSupported_1 (by decide) (fun _ => ?_) (fun _ => ?_)
  · exact s_vret (pc := 12) dX1_checkSupported_12 rfl
  · refine s_make0 (pc := 4) dX1_checkSupported_4 dX1_checkSupported_7 dX1_checkSupported_8 xf_X1_95_97 (by decide) (by decide) (fun r1 h2 => ?_)
    exact s_athrow (pc := 11) dX1_checkSupported_11 rfl (fun x => zxo x _)
theorem c_X1_checkSupported {d0 : Nat} (hd0 : 8 < d0) (v0 : Int32) (h : zH) : zCal D z d0 h yX1_checkSupported [.int v0] (f_X1_checkSupported v0 h) :=
  ⟨cX1_checkSupported, 1, none, [], 8, (show lv_args 0 [.int v0] = [(0, .int v0)] by simp [lv_args, zcat_rf, zcat_i, zcat_l, zcat_f, zcat_d]) ▸ w_X1_checkSupported v0 h, (plainFor_of_name (by decide)), by simp [lg_sl, zcat_rf, zcat_i, zcat_l, zcat_f, zcat_d], q2631, q95, hd0, by decide, by decide⟩
theorem w_X2_setGate_29 (a0 : Option Nat) (a1 : Int32) (s0 : Int32) (h : zH) : zS D z yX2_setGate cX2_setGate 3 (some .int) [] 9 h 29 [(0, va_rf a0), (1, .int a1)] [.int s0] (f_X2_setGate_29 a0 a1 s0 h) := by
  unfold f_X2_setGate_29
  refine s_callSN (pc := 29) (np := 1) (as := [.int s0]) (rest := []) dX2_setGate_29 (c_X1_checkSupported (by decide) s0 h) ⟨_, _, _, q2631⟩ rfl rfl q2629 q2630 rfl (by decide) (zkV (fun h7 => ?_)) zxo
  refine s_aload_n (pc := 32) 0 dX2_setGate_32 rfl rfl ?_
  refine s_gI (pc := 33) dX2_setGate_33 gf_X2_32 (fun x8 => ?_)
  refine s_ist_n (pc := 36) (L2 := [(0, va_rf a0), (1, .int a1)]) [0, 1] dX2_setGate_36 rfl (by decide) rfl rfl (zcB (j := 1) rfl rfl rfl) ?_
  refine s_aload_n (pc := 37) 1 dX2_setGate_37 rfl rfl ?_
  refine s_iload_n (pc := 38) 2 dX2_setGate_38 rfl rfl ?_
  refine s_putN (pc := 39) dX2_setGate_39 pf_X2_32 (fun h9 => ?_)
  refine s_iload_n (pc := 42) 0 dX2_setGate_42 rfl rfl ?_
  refine s_if_eq (pc := 43) (tgt := 50) dX2_setGate_43 (by decide) (fun _ => ?_) (fun _ => ?_)
  · refine s_iconst (pc := 50) (v := 0) dX2_setGate_50 (by decide) ?_
    exact s_iret (pc := 51) dX2_setGate_51 rfl
  · refine s_iconst (pc := 46) (v := 1) dX2_setGate_46 (by decide) ?_
    refine s_goto (pc := 47) (tgt := 51) dX2_setGate_47 (by decide) ?_
    exact s_iret (pc := 51) dX2_setGate_51 rfl
theorem w_X2_setGate_24 (a0 : Option Nat) (a1 : Int32) (h : zH) : zS D z yX2_setGate cX2_setGate 3 (some .int) [] 9 h 24 [(0, va_rf a0), (1, .int a1)] [] (f_X2_setGate_24 a0 a1 h) := by
  unfold f_X2_setGate_24
  refine s_iconst (pc := 24) (v := 1) dX2_setGate_24 (by decide) ?_
  refine s_goto (pc := 25) (tgt := 29) dX2_setGate_25 (by decide) ?_
  exact s_sub (pc := 29) [0, 1] rfl (w_X2_setGate_29 a0 a1 1 h)
theorem w_X2_setGate (v0 : Option Nat) (v1 : Int32) (h : zH) : zS D z yX2_setGate cX2_setGate 3 (some .int) [] 9 h 0 [(0, va_rf v0), (1, .int v1)] [] (f_X2_setGate v0 v1 h) := by
  unfold f_X2_setGate
  refine s_iload_n (pc := 0) 1 dX2_setGate_0 rfl rfl ?_
  refine s_if_eq (pc := 1) (tgt := 24) dX2_setGate_1 (by decide) (fun _ => ?_) (fun _ => ?_)
  · exact s_sub (pc := 24) [0, 1] rfl (w_X2_setGate_24 v0 v1 h)
  · refine s_aload_n (pc := 4) 0 dX2_setGate_4 rfl rfl ?_
    refine s_gI (pc := 5) dX2_setGate_5 gf_X2_25 (fun x1 => ?_)
    refine s_aload_n (pc := 8) 0 dX2_setGate_8 rfl rfl ?_
    refine s_gI (pc := 9) dX2_setGate_9 gf_X2_29 (fun x2 => ?_)
    refine s_callSN (pc := 12) (np := 1) (as := [.int x2]) (rest := [.int x1]) dX2_setGate_12 (c_X1_seaLevelOf (by decide) x2 h) ⟨_, _, _, q1976⟩ rfl rfl q1974 q1975 rfl (by simp [zcat_rf, zcat_i, zcat_l, zcat_f, zcat_d]) (zkI (fun x3 h4 => ?_)) zxo
    refine s_isub (pc := 15) dX2_setGate_15 ?_
    refine s_callSS (pc := 16) (np := 1) (as := [.int (x1 - x3)]) (rest := []) dX2_setGate_16 (c_J11_abs (by decide) (x1 - x3) h4) rfl rfl q2626 q2627 rfl (by decide) (zkI (fun x5 h6 => ?_)) zxo
    refine s_bipush (pc := 19) (v := 20) dX2_setGate_19 (by decide) ?_
    refine s_icmp_gt (pc := 21) (tgt := 28) dX2_setGate_21 (by decide) (fun _ => ?_) (fun _ => ?_)
    · refine s_iconst (pc := 28) (v := 0) dX2_setGate_28 (by decide) ?_
      exact s_sub (pc := 29) [0, 1] rfl (w_X2_setGate_29 v0 v1 0 h6)
    · exact s_sub (pc := 24) [0, 1] rfl (w_X2_setGate_24 v0 v1 h6)
theorem c_X2_setGate {d0 : Nat} (hd0 : 9 < d0) (v0 : Option Nat) (v1 : Int32) (h : zH) : zCal D z d0 h yX2_setGate [va_rf v0, .int v1] (f_X2_setGate v0 v1 h) :=
  ⟨cX2_setGate, 3, (some .int), [], 9, (show lv_args 0 [va_rf v0, .int v1] = [(0, va_rf v0), (1, .int v1)] by simp [lv_args, zcat_rf, zcat_i, zcat_l, zcat_f, zcat_d]) ▸ w_X2_setGate v0 v1 h, (plainFor_of_name (by decide)), by simp [lg_sl, zcat_rf, zcat_i, zcat_l, zcat_f, zcat_d], q2625, q96, hd0, by decide, by decide⟩
theorem w_X1_lambda_setGate_12 (v0 : Int32) (v1 : Option Nat) (h : zH) : zS D z yX1_lambda_setGate_12 cX1_lambda_setGate_12 2 (some .int) [] 10 h 0 [(0, .int v0), (1, va_rf v1)] [] (f_X1_lambda_setGate_12 v0 v1 h) := by
  unfold f_X1_lambda_setGate_12
  refine s_aload_n (pc := 0) 1 dX1_lambda_setGate_12_0 rfl rfl ?_
  refine s_iload_n (pc := 1) 0 dX1_lambda_setGate_12_1 rfl rfl ?_
  refine zS_ite (fun ht => ?_) (fun _ => zS_none)
  refine s_callV (pc := 2) (np := 1) (as := [.int v0]) (rest := []) dX1_lambda_setGate_12_2 ht (q := (RX2, TX2, 10)) rfl (c_X2_setGate (by decide) v1 v0 h) rfl rfl q2622 q2623 q2624 rfl (by decide) (zkI (fun x1 h2 => ?_)) zxo
  exact s_iret (pc := 5) dX1_lambda_setGate_12_5 rfl
theorem c_X1_lambda_setGate_12 {d0 : Nat} (hd0 : 10 < d0) (v0 : Int32) (v1 : Option Nat) (h : zH) : zCal D z d0 h yX1_lambda_setGate_12 [.int v0, va_rf v1] (f_X1_lambda_setGate_12 v0 v1 h) :=
  ⟨cX1_lambda_setGate_12, 2, (some .int), [], 10, (show lv_args 0 [.int v0, va_rf v1] = [(0, .int v0), (1, va_rf v1)] by simp [lv_args, zcat_rf, zcat_i, zcat_l, zcat_f, zcat_d]) ▸ w_X1_lambda_setGate_12 v0 v1 h, (plainFor_of_name (by decide)), by simp [lg_sl, zcat_rf, zcat_i, zcat_l, zcat_f, zcat_d], q2621, q95, hd0, by decide, by decide⟩
theorem w_X2_setPump (v0 : Option Nat) (v1 : Int32) (h : zH) : zS D z yX2_setPump cX2_setPump 3 (some .int) [] 9 h 0 [(0, va_rf v0), (1, .int v1)] [] (f_X2_setPump v0 v1 h) := by
  unfold f_X2_setPump
  refine s_iload_n (pc := 0) 1 dX2_setPump_0 rfl rfl ?_
  refine s_bipush (pc := 1) (v := -30) dX2_setPump_1 (by decide) ?_
  refine s_bipush (pc := 3) (v := 30) dX2_setPump_3 (by decide) ?_
  refine s_callSN (pc := 5) (np := 3) (as := [.int v1, .int (-30), .int 30]) (rest := []) dX2_setPump_5 (c_X1_isBetween (by decide) v1 (-30) 30 h) ⟨_, _, _, q1519⟩ rfl rfl q2278 q1518 rfl (by decide) (zkI (fun x1 h2 => ?_)) zxo
  refine s_callSN (pc := 8) (np := 1) (as := [.int x1]) (rest := []) dX2_setPump_8 (c_X1_checkArgument (by decide) x1 h2) ⟨_, _, _, q2281⟩ rfl rfl q2279 q2280 rfl (by decide) (zkV (fun h3 => ?_)) zxo
  refine s_aload_n (pc := 11) 0 dX2_setPump_11 rfl rfl ?_
  refine s_gI (pc := 12) dX2_setPump_12 gf_X2_84 (fun x4 => ?_)
  refine s_ist_n (pc := 15) (L2 := [(0, va_rf v0), (1, .int v1)]) [0, 1] dX2_setPump_15 rfl (by decide) rfl rfl (zcB (j := 1) rfl rfl rfl) ?_
  refine s_aload_n (pc := 16) 1 dX2_setPump_16 rfl rfl ?_
  refine s_iload_n (pc := 17) 2 dX2_setPump_17 rfl rfl ?_
  refine s_putI (pc := 18) dX2_setPump_18 pf_X2_84 (fun h5 => ?_)
  refine s_iload_n (pc := 21) 0 dX2_setPump_21 rfl rfl ?_
  exact s_iret (pc := 22) dX2_setPump_22 rfl
theorem c_X2_setPump {d0 : Nat} (hd0 : 9 < d0) (v0 : Option Nat) (v1 : Int32) (h : zH) : zCal D z d0 h yX2_setPump [va_rf v0, .int v1] (f_X2_setPump v0 v1 h) :=
  ⟨cX2_setPump, 3, (some .int), [], 9, (show lv_args 0 [va_rf v0, .int v1] = [(0, va_rf v0), (1, .int v1)] by simp [lv_args, zcat_rf, zcat_i, zcat_l, zcat_f, zcat_d]) ▸ w_X2_setPump v0 v1 h, (plainFor_of_name (by decide)), by simp [lg_sl, zcat_rf, zcat_i, zcat_l, zcat_f, zcat_d], q2644, q96, hd0, by decide, by decide⟩
theorem w_X1_lambda_setPump_13 (v0 : Int32) (v1 : Option Nat) (h : zH) : zS D z yX1_lambda_setPump_13 cX1_lambda_setPump_13 2 (some .int) [] 10 h 0 [(0, .int v0), (1, va_rf v1)] [] (f_X1_lambda_setPump_13 v0 v1 h) := by
  unfold f_X1_lambda_setPump_13
  refine s_aload_n (pc := 0) 1 dX1_lambda_setPump_13_0 rfl rfl ?_
  refine s_iload_n (pc := 1) 0 dX1_lambda_setPump_13_1 rfl rfl ?_
  refine zS_ite (fun ht => ?_) (fun _ => zS_none)
  refine s_callV (pc := 2) (np := 1) (as := [.int v0]) (rest := []) dX1_lambda_setPump_13_2 ht (q := (RX2, TX2, 10)) rfl (c_X2_setPump (by decide) v1 v0 h) rfl rfl q2641 q2642 q2643 rfl (by decide) (zkI (fun x1 h2 => ?_)) zxo
  exact s_iret (pc := 5) dX1_lambda_setPump_13_5 rfl
theorem c_X1_lambda_setPump_13 {d0 : Nat} (hd0 : 10 < d0) (v0 : Int32) (v1 : Option Nat) (h : zH) : zCal D z d0 h yX1_lambda_setPump_13 [.int v0, va_rf v1] (f_X1_lambda_setPump_13 v0 v1 h) :=
  ⟨cX1_lambda_setPump_13, 2, (some .int), [], 10, (show lv_args 0 [.int v0, va_rf v1] = [(0, .int v0), (1, va_rf v1)] by simp [lv_args, zcat_rf, zcat_i, zcat_l, zcat_f, zcat_d]) ▸ w_X1_lambda_setPump_13 v0 v1 h, (plainFor_of_name (by decide)), by simp [lg_sl, zcat_rf, zcat_i, zcat_l, zcat_f, zcat_d], q2640, q95, hd0, by decide, by decide⟩
theorem w_J11_min (v0 : Int32) (v1 : Int32) (h : zH) : zS D z yJ11_min cJ11_min 2 (some .int) [] 1 h 0 [(0, .int v0), (1, .int v1)] [] (f_J11_min v0 v1 h) := by
  unfold f_J11_min
  refine s_iload_n (pc := 0) 0 dJ11_min_0 rfl rfl ?_
  refine s_iload_n (pc := 1) 1 dJ11_min_1 rfl rfl ?_
  refine s_icmp_gt (pc := 2) (tgt := 9) dJ11_min_2 (by decide) (fun _ => ?_) (fun _ => ?_)
  · refine s_iload_n (pc := 9) 1 dJ11_min_9 rfl rfl ?_
    exact s_iret (pc := 10) dJ11_min_10 rfl
  · refine s_iload_n (pc := 5) 0 dJ11_min_5 rfl rfl ?_
    refine s_goto (pc := 6) (tgt := 10) dJ11_min_6 (by decide) ?_
    exact s_iret (pc := 10) dJ11_min_10 rfl
theorem c_J11_min {d0 : Nat} (hd0 : 1 < d0) (v0 : Int32) (v1 : Int32) (h : zH) : zCal D z d0 h yJ11_min [.int v0, .int v1] (f_J11_min v0 v1 h) :=
  ⟨cJ11_min, 2, (some .int), [], 1, (show lv_args 0 [.int v0, .int v1] = [(0, .int v0), (1, .int v1)] by simp [lv_args, zcat_rf, zcat_i, zcat_l, zcat_f, zcat_d]) ▸ w_J11_min v0 v1 h, (by decide +kernel), by simp [lg_sl, zcat_rf, zcat_i, zcat_l, zcat_f, zcat_d], q378, q108, hd0, by decide, by decide⟩
theorem w_J11_max (v0 : Int32) (v1 : Int32) (h : zH) : zS D z yJ11_max cJ11_max 2 (some .int) [] 1 h 0 [(0, .int v0), (1, .int v1)] [] (f_J11_max v0 v1 h) := by
  unfold f_J11_max
  refine s_iload_n (pc := 0) 0 dJ11_max_0 rfl rfl ?_
  refine s_iload_n (pc := 1) 1 dJ11_max_1 rfl rfl ?_
  refine s_icmp_lt (pc := 2) (tgt := 9) dJ11_max_2 (by decide) (fun _ => ?_) (fun _ => ?_)
  · refine s_iload_n (pc := 9) 1 dJ11_max_9 rfl rfl ?_
    exact s_iret (pc := 10) dJ11_max_10 rfl
  · refine s_iload_n (pc := 5) 0 dJ11_max_5 rfl rfl ?_
    refine s_goto (pc := 6) (tgt := 10) dJ11_max_6 (by decide) ?_
    exact s_iret (pc := 10) dJ11_max_10 rfl
theorem c_J11_max {d0 : Nat} (hd0 : 1 < d0) (v0 : Int32) (v1 : Int32) (h : zH) : zCal D z d0 h yJ11_max [.int v0, .int v1] (f_J11_max v0 v1 h) :=
  ⟨cJ11_max, 2, (some .int), [], 1, (show lv_args 0 [.int v0, .int v1] = [(0, .int v0), (1, .int v1)] by simp [lv_args, zcat_rf, zcat_i, zcat_l, zcat_f, zcat_d]) ▸ w_J11_max v0 v1 h, (by decide +kernel), by simp [lg_sl, zcat_rf, zcat_i, zcat_l, zcat_f, zcat_d], q882, q108, hd0, by decide, by decide⟩
theorem w_X2_limited (v0 : Int32) (v1 : Int32) (v2 : Int32) (h : zH) : zS D z yX2_limited cX2_limited 3 (some .int) [] 2 h 0 [(0, .int v0), (1, .int v1), (2, .int v2)] [] (f_X2_limited v0 v1 v2 h) := by
  unfold f_X2_limited
  refine s_iload_n (pc := 0) 1 dX2_limited_0 rfl rfl ?_
  refine s_iload_n (pc := 1) 2 dX2_limited_1 rfl rfl ?_
  refine s_iload_n (pc := 2) 0 dX2_limited_2 rfl rfl ?_
  refine s_callSS (pc := 3) (np := 2) (as := [.int v2, .int v0]) (rest := [.int v1]) dX2_limited_3 (c_J11_min (by decide) v2 v0 h) rfl rfl q2687 q377 rfl (by simp [zcat_rf, zcat_i, zcat_l, zcat_f, zcat_d]) (zkI (fun x1 h2 => ?_)) zxo
  refine s_callSS (pc := 6) (np := 2) (as := [.int v1, .int x1]) (rest := []) dX2_limited_6 (c_J11_max (by decide) v1 x1 h2) rfl rfl q1380 q881 rfl (by decide) (zkI (fun x3 h4 => ?_)) zxo
  exact s_iret (pc := 9) dX2_limited_9 rfl
theorem c_X2_limited {d0 : Nat} (hd0 : 2 < d0) (v0 : Int32) (v1 : Int32) (v2 : Int32) (h : zH) : zCal D z d0 h yX2_limited [.int v0, .int v1, .int v2] (f_X2_limited v0 v1 v2 h) :=
  ⟨cX2_limited, 3, (some .int), [], 2, (show lv_args 0 [.int v0, .int v1, .int v2] = [(0, .int v0), (1, .int v1), (2, .int v2)] by simp [lv_args, zcat_rf, zcat_i, zcat_l, zcat_f, zcat_d]) ▸ w_X2_limited v0 v1 v2 h, (plainFor_of_name (by decide)), by simp [lg_sl, zcat_rf, zcat_i, zcat_l, zcat_f, zcat_d], q2686, q96, hd0, by decide, by decide⟩
theorem w_X2_changeLevel (v0 : Option Nat) (h : zH) : zS D z yX2_changeLevel cX2_changeLevel 1 none [] 3 h 0 [(0, va_rf v0)] [] (f_X2_changeLevel v0 h) := by
  unfold f_X2_changeLevel
  refine s_aload_n (pc := 0) 0 dX2_changeLevel_0 rfl rfl ?_
  refine s_gI (pc := 1) dX2_changeLevel_1 gf_X2_32 (fun x1 => ?_)
  refine s_if_eq (pc := 4) (tgt := 38) dX2_changeLevel_4 (by decide) (fun _ => ?_) (fun _ => ?_)
  · refine s_aload_n (pc := 38) 0 dX2_changeLevel_38 rfl rfl ?_
    refine s_aload_n (pc := 39) 0 dX2_changeLevel_39 rfl rfl ?_
    refine s_gI (pc := 40) dX2_changeLevel_40 gf_X2_25 (fun x2 => ?_)
    refine s_aload_n (pc := 43) 0 dX2_changeLevel_43 rfl rfl ?_
    refine s_gI (pc := 44) dX2_changeLevel_44 gf_X2_84 (fun x3 => ?_)
    refine s_iadd (pc := 47) dX2_changeLevel_47 ?_
    refine s_iconst (pc := 48) (v := 0) dX2_changeLevel_48 (by decide) ?_
    refine s_sipush (pc := 49) (v := 200) dX2_changeLevel_49 (by decide) ?_
    refine s_callSS (pc := 52) (np := 3) (as := [.int (x2 + x3), .int 0, .int 200]) (rest := [va_rf v0]) dX2_changeLevel_52 (c_X2_limited (by decide) (x2 + x3) 0 200 h) rfl rfl q2684 q2685 rfl (by simp [zcat_rf, zcat_i, zcat_l, zcat_f, zcat_d]) (zkI (fun x4 h5 => ?_)) zxo
    refine s_putI (pc := 55) dX2_changeLevel_55 pf_X2_25 (fun h6 => ?_)
    exact s_vret (pc := 58) dX2_changeLevel_58 rfl
  · refine s_aload_n (pc := 7) 0 dX2_changeLevel_7 rfl rfl ?_
    refine s_dup (pc := 8) dX2_changeLevel_8 (zcat_rf _) ?_
    refine s_gI (pc := 9) dX2_changeLevel_9 gf_X2_25 (fun x7 => ?_)
    refine s_aload_n (pc := 12) 0 dX2_changeLevel_12 rfl rfl ?_
    refine s_gI (pc := 13) dX2_changeLevel_13 gf_X2_29 (fun x8 => ?_)
    refine s_callSN (pc := 16) (np := 1) (as := [.int x8]) (rest := [.int x7, va_rf v0]) dX2_changeLevel_16 (c_X1_seaLevelOf (by decide) x8 h) ⟨_, _, _, q1976⟩ rfl rfl q1974 q1975 rfl (by simp [zcat_rf, zcat_i, zcat_l, zcat_f, zcat_d]) (zkI (fun x9 h10 => ?_)) zxo
    refine s_aload_n (pc := 19) 0 dX2_changeLevel_19 rfl rfl ?_
    refine s_gI (pc := 20) dX2_changeLevel_20 gf_X2_25 (fun x11 => ?_)
    refine s_isub (pc := 23) dX2_changeLevel_23 ?_
    refine s_bipush (pc := 24) (v := -20) dX2_changeLevel_24 (by decide) ?_
    refine s_bipush (pc := 26) (v := 20) dX2_changeLevel_26 (by decide) ?_
    refine s_callSS (pc := 28) (np := 3) (as := [.int (x9 - x11), .int (-20), .int 20]) (rest := [.int x7, va_rf v0]) dX2_changeLevel_28 (c_X2_limited (by decide) (x9 - x11) (-20) 20 h10) rfl rfl q2684 q2685 rfl (by simp [zcat_rf, zcat_i, zcat_l, zcat_f, zcat_d]) (zkI (fun x12 h13 => ?_)) zxo
    refine s_iadd (pc := 31) dX2_changeLevel_31 ?_
    refine s_putI (pc := 32) dX2_changeLevel_32 pf_X2_25 (fun h14 => ?_)
    refine s_goto (pc := 35) (tgt := 58) dX2_changeLevel_35 (by decide) ?_
    exact s_vret (pc := 58) dX2_changeLevel_58 rfl
theorem c_X2_changeLevel {d0 : Nat} (hd0 : 3 < d0) (v0 : Option Nat) (h : zH) : zCal D z d0 h yX2_changeLevel [va_rf v0] (f_X2_changeLevel v0 h) :=
  ⟨cX2_changeLevel, 1, none, [], 3, (show lv_args 0 [va_rf v0] = [(0, va_rf v0)] by simp [lv_args, zcat_rf, zcat_i, zcat_l, zcat_f, zcat_d]) ▸ w_X2_changeLevel v0 h, (plainFor_of_name (by decide)), by simp [lg_sl, zcat_rf, zcat_i, zcat_l, zcat_f, zcat_d], q2683, q96, hd0, by decide, by decide⟩
theorem w_X3_contains (v0 : Option Nat) (v1 : Int32) (h : zH) : zS D z yX3_contains cX3_contains 2 (some .boolean) [] 2 h 0 [(0, va_rf v0), (1, .int v1)] [] (f_X3_contains v0 v1 h) := by
  unfold f_X3_contains
  refine s_iload_n (pc := 0) 1 dX3_contains_0 rfl rfl ?_
  refine s_aload_n (pc := 1) 0 dX3_contains_1 rfl rfl ?_
  refine s_gI (pc := 2) dX3_contains_2 gf_X3_7 (fun x1 => ?_)
  refine s_aload_n (pc := 5) 0 dX3_contains_5 rfl rfl ?_
  refine zS_ite (fun ht => ?_) (fun _ => zS_none)
  refine s_callV (pc := 6) (np := 0) (as := []) (rest := [.int x1, .int v1]) dX3_contains_6 ht (q := (RX3, TX3, 2)) rfl (c_X3_end (by decide) v0 h) rfl rfl q1516 q639 q640 rfl (by simp [zcat_rf, zcat_i, zcat_l, zcat_f, zcat_d]) (zkI (fun x2 h3 => ?_)) zxo
  refine s_iconst (pc := 9) (v := 1) dX3_contains_9 (by decide) ?_
  refine s_isub (pc := 10) dX3_contains_10 ?_
  refine s_callSN (pc := 11) (np := 3) (as := [.int v1, .int x1, .int (x2 - 1)]) (rest := []) dX3_contains_11 (c_X1_isBetween (by decide) v1 x1 (x2 - 1) h3) ⟨_, _, _, q1519⟩ rfl rfl q1517 q1518 rfl (by decide) (zkI (fun x4 h5 => ?_)) zxo
  exact s_nret (pc := 14) dX3_contains_14 rfl
theorem c_X3_contains {d0 : Nat} (hd0 : 2 < d0) (v0 : Option Nat) (v1 : Int32) (h : zH) : zCal D z d0 h yX3_contains [va_rf v0, .int v1] (f_X3_contains v0 v1 h) :=
  ⟨cX3_contains, 2, (some .boolean), [], 2, (show lv_args 0 [va_rf v0, .int v1] = [(0, va_rf v0), (1, .int v1)] by simp [lv_args, zcat_rf, zcat_i, zcat_l, zcat_f, zcat_d]) ▸ w_X3_contains v0 v1 h, (plainFor_of_name (by decide)), by simp [lg_sl, zcat_rf, zcat_i, zcat_l, zcat_f, zcat_d], q1515, q138, hd0, by decide, by decide⟩
theorem w_X6_isAt (v0 : Option Nat) (v1 : Int32) (h : zH) : zS D z yX6_isAt cX6_isAt 2 (some .boolean) [] 3 h 0 [(0, va_rf v0), (1, .int v1)] [] (f_X6_isAt v0 v1 h) := by
  unfold f_X6_isAt
  refine s_aload_n (pc := 0) 0 dX6_isAt_0 rfl rfl ?_
  refine zS_ite (fun ht => ?_) (fun _ => zS_none)
  refine s_callV (pc := 1) (np := 0) (as := []) (rest := []) dX6_isAt_1 ht (q := (RX6, TX6, 9)) rfl (c_X6_isInDock (by decide) v0 h) rfl rfl q366 q367 q368 rfl (by decide) (zkI (fun x1 h2 => ?_)) zxo
  refine s_if_eq (pc := 4) (tgt := 22) dX6_isAt_4 (by decide) (fun _ => ?_) (fun _ => ?_)
  · refine s_iconst (pc := 22) (v := 0) dX6_isAt_22 (by decide) ?_
    exact s_nret (pc := 23) dX6_isAt_23 rfl
  · refine s_aload_n (pc := 7) 0 dX6_isAt_7 rfl rfl ?_
    refine s_gR (pc := 8) dX6_isAt_8 gf_X6_40 (fun r3 => ?_)
    refine s_iload_n (pc := 11) 1 dX6_isAt_11 rfl rfl ?_
    refine zS_ite (fun ht => ?_) (fun _ => zS_none)
    refine s_callV (pc := 12) (np := 1) (as := [.int v1]) (rest := []) dX6_isAt_12 ht (q := (RX3, TX3, 2)) rfl (c_X3_contains (by decide) r3 v1 h2) rfl rfl q1512 q1513 q1514 rfl (by decide) (zkI (fun x4 h5 => ?_)) zxo
    refine s_if_eq (pc := 15) (tgt := 22) dX6_isAt_15 (by decide) (fun _ => ?_) (fun _ => ?_)
    · refine s_iconst (pc := 22) (v := 0) dX6_isAt_22 (by decide) ?_
      exact s_nret (pc := 23) dX6_isAt_23 rfl
    · refine s_iconst (pc := 18) (v := 1) dX6_isAt_18 (by decide) ?_
      refine s_goto (pc := 19) (tgt := 23) dX6_isAt_19 (by decide) ?_
      exact s_nret (pc := 23) dX6_isAt_23 rfl
theorem c_X6_isAt {d0 : Nat} (hd0 : 3 < d0) (v0 : Option Nat) (v1 : Int32) (h : zH) : zCal D z d0 h yX6_isAt [va_rf v0, .int v1] (f_X6_isAt v0 v1 h) :=
  ⟨cX6_isAt, 2, (some .boolean), [], 3, (show lv_args 0 [va_rf v0, .int v1] = [(0, va_rf v0), (1, .int v1)] by simp [lv_args, zcat_rf, zcat_i, zcat_l, zcat_f, zcat_d]) ▸ w_X6_isAt v0 v1 h, (plainFor_of_name (by decide)), by simp [lg_sl, zcat_rf, zcat_i, zcat_l, zcat_f, zcat_d], q1511, q142, hd0, by decide, by decide⟩
theorem w_X2_blocksBeneath_48 (K10 : Option Nat → Int32 → Option Nat → zH → zO) (hK10 : ∀ (a1 : Option Nat) (a2 : Int32) (a3 : Option Nat) (h : zH), zS D z yX2_blocksBeneath cX2_blocksBeneath 5 (some .int) [] 10 h 10 [(1, va_rf a1), (2, .int a2), (3, va_rf a3)] [] (K10 a1 a2 a3 h)) (a1 : Option Nat) (a3 : Option Nat) (s0 : Int32) (s1 : Int32) (h : zH) : zS D z yX2_blocksBeneath cX2_blocksBeneath 5 (some .int) [] 10 h 48 [(1, va_rf a1), (3, va_rf a3)] [.int s0, .int s1] (f_X2_blocksBeneath_48 K10 a1 a3 s0 s1 h) := by
  unfold f_X2_blocksBeneath_48
  refine s_iadd (pc := 48) dX2_blocksBeneath_48 ?_
  refine s_nm (pc := 49) Value.int (fun x91 => ?_)
  refine s_ist_n (pc := 49) (L2 := [(1, va_rf a1), (3, va_rf a3)]) [0, 1] dX2_blocksBeneath_49 rfl (by decide) rfl rfl (zcB (j := 0) rfl (zcat_rf a1) rfl) ?_
  refine s_goto (pc := 50) (tgt := 10) dX2_blocksBeneath_50 (by decide) ?_
  exact s_sub (pc := 10) [1, 0, 2] rfl (hK10 a1 x91 a3 h)
theorem w_X2_blocksBeneath_10 : ∀ (n : Nat) (a1 : Option Nat) (a2 : Int32) (a3 : Option Nat) (h : zH), zS D z yX2_blocksBeneath cX2_blocksBeneath 5 (some .int) [] 10 h 10 [(1, va_rf a1), (2, .int a2), (3, va_rf a3)] [] (f_X2_blocksBeneath_10 n a1 a2 a3 h) := by
  intro n
  induction n with
  | zero => intros; exact zS_none
  | succ n ih =>
    intro a1 a2 a3 h
    rw [f_X2_blocksBeneath_10.eq_2]
    refine s_aload_n (pc := 10) 2 dX2_blocksBeneath_10 rfl rfl ?_
    refine zS_ite (fun ht => ?_) (fun _ => ?_)
    · refine s_callF (pc := 11) (np := 0) (as := []) (rest := []) dX2_blocksBeneath_11 ht (q := (RX9, TX9, 2)) rfl (c_X9_hasNext (by decide) a3 h) ⟨_, _, _, q637⟩ rfl rfl q629 (by decide +kernel) q635 q633 rfl (by decide) (zkI (fun x4 h5 => ?_)) zxo
      refine s_if_eq (pc := 16) (tgt := 53) dX2_blocksBeneath_16 (by decide) (fun _ => ?_) (fun _ => ?_)
      · refine s_iload_n (pc := 53) 1 dX2_blocksBeneath_53 rfl rfl ?_
        exact s_iret (pc := 54) dX2_blocksBeneath_54 rfl
      · refine s_aload_n (pc := 19) 2 dX2_blocksBeneath_19 rfl rfl ?_
        refine zS_ite (fun ht => ?_) (fun _ => ?_)
        · refine s_callF (pc := 20) (np := 0) (as := []) (rest := []) dX2_blocksBeneath_20 ht (q := (RX9, TX9, 2)) rfl (c_X9_next (by decide) a3 h5) ⟨_, _, _, q677⟩ rfl rfl q670 (by decide +kernel) q675 q673 rfl (by decide) (zkR (fun r6 h7 => ?_)) zxo
          refine s_cast (pc := 25) dX2_blocksBeneath_25 q1525 zcs_FloatingDock_Metre ?_
          refine s_ast (pc := 28) (L2 := [(1, va_rf a1), (2, .int a2), (3, va_rf a3)]) [0, 1, 2] dX2_blocksBeneath_28 (by decide) rfl rfl (zcB (j := 2) rfl (zcat_rf a3) rfl) ?_
          refine s_iload_n (pc := 30) 2 dX2_blocksBeneath_30 rfl rfl ?_
          refine s_aload_n (pc := 31) 1 dX2_blocksBeneath_31 rfl rfl ?_
          refine s_aload (pc := 32) 0 dX2_blocksBeneath_32 rfl ?_
          refine s_gI (pc := 34) dX2_blocksBeneath_34 gf_X2_285 (fun x8 => ?_)
          refine zS_ite (fun ht => ?_) (fun _ => zS_none)
          refine s_callV (pc := 37) (np := 1) (as := [.int x8]) (rest := [.int a2]) dX2_blocksBeneath_37 ht (q := (RX6, TX6, 9)) rfl (c_X6_isAt (by decide) a1 x8 h7) rfl rfl q1508 q1509 q1510 rfl (by simp [zcat_rf, zcat_i, zcat_l, zcat_f, zcat_d]) (zkI (fun x9 h10 => ?_)) zxo
          refine s_if_eq (pc := 40) (tgt := 47) dX2_blocksBeneath_40 (by decide) (fun _ => ?_) (fun _ => ?_)
          · refine s_iconst (pc := 47) (v := 0) dX2_blocksBeneath_47 (by decide) ?_
            exact s_sub (pc := 48) [1, 3] rfl (w_X2_blocksBeneath_48 (f_X2_blocksBeneath_10 n) ih a1 a3 0 a2 h10)
          · refine s_iconst (pc := 43) (v := 1) dX2_blocksBeneath_43 (by decide) ?_
            refine s_goto (pc := 44) (tgt := 48) dX2_blocksBeneath_44 (by decide) ?_
            exact s_sub (pc := 48) [1, 3] rfl (w_X2_blocksBeneath_48 (f_X2_blocksBeneath_10 n) ih a1 a3 1 a2 h10)
        refine zS_ite (fun ht => ?_) (fun _ => ?_)
        · refine s_callF (pc := 20) (np := 0) (as := []) (rest := []) dX2_blocksBeneath_20 ht (q := (RJ15, TJ15, 4)) rfl (c_J15_next (by decide) a3 h5) ⟨_, _, _, q788⟩ rfl rfl q670 (by decide +kernel) q786 q784 rfl (by decide) (zkR (fun r6 h7 => ?_)) zxo
          refine s_cast (pc := 25) dX2_blocksBeneath_25 q1525 zcs_FloatingDock_Metre ?_
          refine s_ast (pc := 28) (L2 := [(1, va_rf a1), (2, .int a2), (3, va_rf a3)]) [0, 1, 2] dX2_blocksBeneath_28 (by decide) rfl rfl (zcB (j := 2) rfl (zcat_rf a3) rfl) ?_
          refine s_iload_n (pc := 30) 2 dX2_blocksBeneath_30 rfl rfl ?_
          refine s_aload_n (pc := 31) 1 dX2_blocksBeneath_31 rfl rfl ?_
          refine s_aload (pc := 32) 0 dX2_blocksBeneath_32 rfl ?_
          refine s_gI (pc := 34) dX2_blocksBeneath_34 gf_X2_285 (fun x11 => ?_)
          refine zS_ite (fun ht => ?_) (fun _ => zS_none)
          refine s_callV (pc := 37) (np := 1) (as := [.int x11]) (rest := [.int a2]) dX2_blocksBeneath_37 ht (q := (RX6, TX6, 9)) rfl (c_X6_isAt (by decide) a1 x11 h7) rfl rfl q1508 q1509 q1510 rfl (by simp [zcat_rf, zcat_i, zcat_l, zcat_f, zcat_d]) (zkI (fun x12 h13 => ?_)) zxo
          refine s_if_eq (pc := 40) (tgt := 47) dX2_blocksBeneath_40 (by decide) (fun _ => ?_) (fun _ => ?_)
          · refine s_iconst (pc := 47) (v := 0) dX2_blocksBeneath_47 (by decide) ?_
            exact s_sub (pc := 48) [1, 3] rfl (w_X2_blocksBeneath_48 (f_X2_blocksBeneath_10 n) ih a1 a3 0 a2 h13)
          · refine s_iconst (pc := 43) (v := 1) dX2_blocksBeneath_43 (by decide) ?_
            refine s_goto (pc := 44) (tgt := 48) dX2_blocksBeneath_44 (by decide) ?_
            exact s_sub (pc := 48) [1, 3] rfl (w_X2_blocksBeneath_48 (f_X2_blocksBeneath_10 n) ih a1 a3 1 a2 h13)
        refine zS_ite (fun ht => ?_) (fun _ => ?_)
        · refine s_callF (pc := 20) (np := 0) (as := []) (rest := []) dX2_blocksBeneath_20 ht (q := (RJ17, TJ17, 5)) rfl (c_J17_next (by decide) a3 h5) ⟨_, _, _, q799⟩ rfl rfl q670 (by decide +kernel) q797 q795 rfl (by decide) (zkR (fun r6 h7 => ?_)) zxo
          refine s_cast (pc := 25) dX2_blocksBeneath_25 q1525 zcs_FloatingDock_Metre ?_
          refine s_ast (pc := 28) (L2 := [(1, va_rf a1), (2, .int a2), (3, va_rf a3)]) [0, 1, 2] dX2_blocksBeneath_28 (by decide) rfl rfl (zcB (j := 2) rfl (zcat_rf a3) rfl) ?_
          refine s_iload_n (pc := 30) 2 dX2_blocksBeneath_30 rfl rfl ?_
          refine s_aload_n (pc := 31) 1 dX2_blocksBeneath_31 rfl rfl ?_
          refine s_aload (pc := 32) 0 dX2_blocksBeneath_32 rfl ?_
          refine s_gI (pc := 34) dX2_blocksBeneath_34 gf_X2_285 (fun x14 => ?_)
          refine zS_ite (fun ht => ?_) (fun _ => zS_none)
          refine s_callV (pc := 37) (np := 1) (as := [.int x14]) (rest := [.int a2]) dX2_blocksBeneath_37 ht (q := (RX6, TX6, 9)) rfl (c_X6_isAt (by decide) a1 x14 h7) rfl rfl q1508 q1509 q1510 rfl (by simp [zcat_rf, zcat_i, zcat_l, zcat_f, zcat_d]) (zkI (fun x15 h16 => ?_)) zxo
          refine s_if_eq (pc := 40) (tgt := 47) dX2_blocksBeneath_40 (by decide) (fun _ => ?_) (fun _ => ?_)
          · refine s_iconst (pc := 47) (v := 0) dX2_blocksBeneath_47 (by decide) ?_
            exact s_sub (pc := 48) [1, 3] rfl (w_X2_blocksBeneath_48 (f_X2_blocksBeneath_10 n) ih a1 a3 0 a2 h16)
          · refine s_iconst (pc := 43) (v := 1) dX2_blocksBeneath_43 (by decide) ?_
            refine s_goto (pc := 44) (tgt := 48) dX2_blocksBeneath_44 (by decide) ?_
            exact s_sub (pc := 48) [1, 3] rfl (w_X2_blocksBeneath_48 (f_X2_blocksBeneath_10 n) ih a1 a3 1 a2 h16)
        refine zS_ite (fun ht => ?_) (fun _ => ?_)
        · refine s_callF (pc := 20) (np := 0) (as := []) (rest := []) dX2_blocksBeneath_20 ht (q := (RJ21, TJ21, 5)) rfl (c_J21_next (by decide) a3 h5) ⟨_, _, _, q812⟩ rfl rfl q670 (by decide +kernel) q810 q808 rfl (by decide) (zkR (fun r6 h7 => ?_)) zxo
          refine s_cast (pc := 25) dX2_blocksBeneath_25 q1525 zcs_FloatingDock_Metre ?_
          refine s_ast (pc := 28) (L2 := [(1, va_rf a1), (2, .int a2), (3, va_rf a3)]) [0, 1, 2] dX2_blocksBeneath_28 (by decide) rfl rfl (zcB (j := 2) rfl (zcat_rf a3) rfl) ?_
          refine s_iload_n (pc := 30) 2 dX2_blocksBeneath_30 rfl rfl ?_
          refine s_aload_n (pc := 31) 1 dX2_blocksBeneath_31 rfl rfl ?_
          refine s_aload (pc := 32) 0 dX2_blocksBeneath_32 rfl ?_
          refine s_gI (pc := 34) dX2_blocksBeneath_34 gf_X2_285 (fun x17 => ?_)
          refine zS_ite (fun ht => ?_) (fun _ => zS_none)
          refine s_callV (pc := 37) (np := 1) (as := [.int x17]) (rest := [.int a2]) dX2_blocksBeneath_37 ht (q := (RX6, TX6, 9)) rfl (c_X6_isAt (by decide) a1 x17 h7) rfl rfl q1508 q1509 q1510 rfl (by simp [zcat_rf, zcat_i, zcat_l, zcat_f, zcat_d]) (zkI (fun x18 h19 => ?_)) zxo
          refine s_if_eq (pc := 40) (tgt := 47) dX2_blocksBeneath_40 (by decide) (fun _ => ?_) (fun _ => ?_)
          · refine s_iconst (pc := 47) (v := 0) dX2_blocksBeneath_47 (by decide) ?_
            exact s_sub (pc := 48) [1, 3] rfl (w_X2_blocksBeneath_48 (f_X2_blocksBeneath_10 n) ih a1 a3 0 a2 h19)
          · refine s_iconst (pc := 43) (v := 1) dX2_blocksBeneath_43 (by decide) ?_
            refine s_goto (pc := 44) (tgt := 48) dX2_blocksBeneath_44 (by decide) ?_
            exact s_sub (pc := 48) [1, 3] rfl (w_X2_blocksBeneath_48 (f_X2_blocksBeneath_10 n) ih a1 a3 1 a2 h19)
        refine zS_ite (fun ht => ?_) (fun _ => zS_none)
        refine s_callF (pc := 20) (np := 0) (as := []) (rest := []) dX2_blocksBeneath_20 ht (q := (RJ22, TJ22, 5)) rfl (c_J22_next (by decide) a3 h5) ⟨_, _, _, q832⟩ rfl rfl q670 (by decide +kernel) q830 q828 rfl (by decide) (zkR (fun r6 h7 => ?_)) zxo
        refine s_cast (pc := 25) dX2_blocksBeneath_25 q1525 zcs_FloatingDock_Metre ?_
        refine s_ast (pc := 28) (L2 := [(1, va_rf a1), (2, .int a2), (3, va_rf a3)]) [0, 1, 2] dX2_blocksBeneath_28 (by decide) rfl rfl (zcB (j := 2) rfl (zcat_rf a3) rfl) ?_
        refine s_iload_n (pc := 30) 2 dX2_blocksBeneath_30 rfl rfl ?_
        refine s_aload_n (pc := 31) 1 dX2_blocksBeneath_31 rfl rfl ?_
        refine s_aload (pc := 32) 0 dX2_blocksBeneath_32 rfl ?_
        refine s_gI (pc := 34) dX2_blocksBeneath_34 gf_X2_285 (fun x20 => ?_)
        refine zS_ite (fun ht => ?_) (fun _ => zS_none)
        refine s_callV (pc := 37) (np := 1) (as := [.int x20]) (rest := [.int a2]) dX2_blocksBeneath_37 ht (q := (RX6, TX6, 9)) rfl (c_X6_isAt (by decide) a1 x20 h7) rfl rfl q1508 q1509 q1510 rfl (by simp [zcat_rf, zcat_i, zcat_l, zcat_f, zcat_d]) (zkI (fun x21 h22 => ?_)) zxo
        refine s_if_eq (pc := 40) (tgt := 47) dX2_blocksBeneath_40 (by decide) (fun _ => ?_) (fun _ => ?_)
        · refine s_iconst (pc := 47) (v := 0) dX2_blocksBeneath_47 (by decide) ?_
          exact s_sub (pc := 48) [1, 3] rfl (w_X2_blocksBeneath_48 (f_X2_blocksBeneath_10 n) ih a1 a3 0 a2 h22)
        · refine s_iconst (pc := 43) (v := 1) dX2_blocksBeneath_43 (by decide) ?_
          refine s_goto (pc := 44) (tgt := 48) dX2_blocksBeneath_44 (by decide) ?_
          exact s_sub (pc := 48) [1, 3] rfl (w_X2_blocksBeneath_48 (f_X2_blocksBeneath_10 n) ih a1 a3 1 a2 h22)
    refine zS_ite (fun ht => ?_) (fun _ => ?_)
    · refine s_callF (pc := 11) (np := 0) (as := []) (rest := []) dX2_blocksBeneath_11 ht (q := (RJ15, TJ15, 4)) rfl (c_J15_hasNext (by decide) a3 h) ⟨_, _, _, q653⟩ rfl rfl q629 (by decide +kernel) q651 q649 rfl (by decide) (zkI (fun x4 h5 => ?_)) zxo
      refine s_if_eq (pc := 16) (tgt := 53) dX2_blocksBeneath_16 (by decide) (fun _ => ?_) (fun _ => ?_)
      · refine s_iload_n (pc := 53) 1 dX2_blocksBeneath_53 rfl rfl ?_
        exact s_iret (pc := 54) dX2_blocksBeneath_54 rfl
      · refine s_aload_n (pc := 19) 2 dX2_blocksBeneath_19 rfl rfl ?_
        refine zS_ite (fun ht => ?_) (fun _ => ?_)
        · refine s_callF (pc := 20) (np := 0) (as := []) (rest := []) dX2_blocksBeneath_20 ht (q := (RX9, TX9, 2)) rfl (c_X9_next (by decide) a3 h5) ⟨_, _, _, q677⟩ rfl rfl q670 (by decide +kernel) q675 q673 rfl (by decide) (zkR (fun r23 h24 => ?_)) zxo
          refine s_cast (pc := 25) dX2_blocksBeneath_25 q1525 zcs_FloatingDock_Metre ?_
          refine s_ast (pc := 28) (L2 := [(1, va_rf a1), (2, .int a2), (3, va_rf a3)]) [0, 1, 2] dX2_blocksBeneath_28 (by decide) rfl rfl (zcB (j := 2) rfl (zcat_rf a3) rfl) ?_
          refine s_iload_n (pc := 30) 2 dX2_blocksBeneath_30 rfl rfl ?_
          refine s_aload_n (pc := 31) 1 dX2_blocksBeneath_31 rfl rfl ?_
          refine s_aload (pc := 32) 0 dX2_blocksBeneath_32 rfl ?_
          refine s_gI (pc := 34) dX2_blocksBeneath_34 gf_X2_285 (fun x25 => ?_)
          refine zS_ite (fun ht => ?_) (fun _ => zS_none)
          refine s_callV (pc := 37) (np := 1) (as := [.int x25]) (rest := [.int a2]) dX2_blocksBeneath_37 ht (q := (RX6, TX6, 9)) rfl (c_X6_isAt (by decide) a1 x25 h24) rfl rfl q1508 q1509 q1510 rfl (by simp [zcat_rf, zcat_i, zcat_l, zcat_f, zcat_d]) (zkI (fun x26 h27 => ?_)) zxo
          refine s_if_eq (pc := 40) (tgt := 47) dX2_blocksBeneath_40 (by decide) (fun _ => ?_) (fun _ => ?_)
          · refine s_iconst (pc := 47) (v := 0) dX2_blocksBeneath_47 (by decide) ?_
            exact s_sub (pc := 48) [1, 3] rfl (w_X2_blocksBeneath_48 (f_X2_blocksBeneath_10 n) ih a1 a3 0 a2 h27)
          · refine s_iconst (pc := 43) (v := 1) dX2_blocksBeneath_43 (by decide) ?_
            refine s_goto (pc := 44) (tgt := 48) dX2_blocksBeneath_44 (by decide) ?_
            exact s_sub (pc := 48) [1, 3] rfl (w_X2_blocksBeneath_48 (f_X2_blocksBeneath_10 n) ih a1 a3 1 a2 h27)
        refine zS_ite (fun ht => ?_) (fun _ => ?_)
        · refine s_callF (pc := 20) (np := 0) (as := []) (rest := []) dX2_blocksBeneath_20 ht (q := (RJ15, TJ15, 4)) rfl (c_J15_next (by decide) a3 h5) ⟨_, _, _, q788⟩ rfl rfl q670 (by decide +kernel) q786 q784 rfl (by decide) (zkR (fun r23 h24 => ?_)) zxo
          refine s_cast (pc := 25) dX2_blocksBeneath_25 q1525 zcs_FloatingDock_Metre ?_
          refine s_ast (pc := 28) (L2 := [(1, va_rf a1), (2, .int a2), (3, va_rf a3)]) [0, 1, 2] dX2_blocksBeneath_28 (by decide) rfl rfl (zcB (j := 2) rfl (zcat_rf a3) rfl) ?_
          refine s_iload_n (pc := 30) 2 dX2_blocksBeneath_30 rfl rfl ?_
          refine s_aload_n (pc := 31) 1 dX2_blocksBeneath_31 rfl rfl ?_
          refine s_aload (pc := 32) 0 dX2_blocksBeneath_32 rfl ?_
          refine s_gI (pc := 34) dX2_blocksBeneath_34 gf_X2_285 (fun x28 => ?_)
          refine zS_ite (fun ht => ?_) (fun _ => zS_none)
          refine s_callV (pc := 37) (np := 1) (as := [.int x28]) (rest := [.int a2]) dX2_blocksBeneath_37 ht (q := (RX6, TX6, 9)) rfl (c_X6_isAt (by decide) a1 x28 h24) rfl rfl q1508 q1509 q1510 rfl (by simp [zcat_rf, zcat_i, zcat_l, zcat_f, zcat_d]) (zkI (fun x29 h30 => ?_)) zxo
          refine s_if_eq (pc := 40) (tgt := 47) dX2_blocksBeneath_40 (by decide) (fun _ => ?_) (fun _ => ?_)
          · refine s_iconst (pc := 47) (v := 0) dX2_blocksBeneath_47 (by decide) ?_
            exact s_sub (pc := 48) [1, 3] rfl (w_X2_blocksBeneath_48 (f_X2_blocksBeneath_10 n) ih a1 a3 0 a2 h30)
          · refine s_iconst (pc := 43) (v := 1) dX2_blocksBeneath_43 (by decide) ?_
            refine s_goto (pc := 44) (tgt := 48) dX2_blocksBeneath_44 (by decide) ?_
            exact s_sub (pc := 48) [1, 3] rfl (w_X2_blocksBeneath_48 (f_X2_blocksBeneath_10 n) ih a1 a3 1 a2 h30)
        refine zS_ite (fun ht => ?_) (fun _ => ?_)
        · refine s_callF (pc := 20) (np := 0) (as := []) (rest := []) dX2_blocksBeneath_20 ht (q := (RJ17, TJ17, 5)) rfl (c_J17_next (by decide) a3 h5) ⟨_, _, _, q799⟩ rfl rfl q670 (by decide +kernel) q797 q795 rfl (by decide) (zkR (fun r23 h24 => ?_)) zxo
          refine s_cast (pc := 25) dX2_blocksBeneath_25 q1525 zcs_FloatingDock_Metre ?_
          refine s_ast (pc := 28) (L2 := [(1, va_rf a1), (2, .int a2), (3, va_rf a3)]) [0, 1, 2] dX2_blocksBeneath_28 (by decide) rfl rfl (zcB (j := 2) rfl (zcat_rf a3) rfl) ?_
          refine s_iload_n (pc := 30) 2 dX2_blocksBeneath_30 rfl rfl ?_
          refine s_aload_n (pc := 31) 1 dX2_blocksBeneath_31 rfl rfl ?_
          refine s_aload (pc := 32) 0 dX2_blocksBeneath_32 rfl ?_
          refine s_gI (pc := 34) dX2_blocksBeneath_34 gf_X2_285 (fun x31 => ?_)
          refine zS_ite (fun ht => ?_) (fun _ => zS_none)
          refine s_callV (pc := 37) (np := 1) (as := [.int x31]) (rest := [.int a2]) dX2_blocksBeneath_37 ht (q := (RX6, TX6, 9)) rfl (c_X6_isAt (by decide) a1 x31 h24) rfl rfl q1508 q1509 q1510 rfl (by simp [zcat_rf, zcat_i, zcat_l, zcat_f, zcat_d]) (zkI (fun x32 h33 => ?_)) zxo
          refine s_if_eq (pc := 40) (tgt := 47) dX2_blocksBeneath_40 (by decide) (fun _ => ?_) (fun _ => ?_)
          · refine s_iconst (pc := 47) (v := 0) dX2_blocksBeneath_47 (by decide) ?_
            exact s_sub (pc := 48) [1, 3] rfl (w_X2_blocksBeneath_48 (f_X2_blocksBeneath_10 n) ih a1 a3 0 a2 h33)
          · refine s_iconst (pc := 43) (v := 1) dX2_blocksBeneath_43 (by decide) ?_
            refine s_goto (pc := 44) (tgt := 48) dX2_blocksBeneath_44 (by decide) ?_
            exact s_sub (pc := 48) [1, 3] rfl (w_X2_blocksBeneath_48 (f_X2_blocksBeneath_10 n) ih a1 a3 1 a2 h33)
        refine zS_ite (fun ht => ?_) (fun _ => ?_)
        · refine s_callF (pc := 20) (np := 0) (as := []) (rest := []) dX2_blocksBeneath_20 ht (q := (RJ21, TJ21, 5)) rfl (c_J21_next (by decide) a3 h5) ⟨_, _, _, q812⟩ rfl rfl q670 (by decide +kernel) q810 q808 rfl (by decide) (zkR (fun r23 h24 => ?_)) zxo
          refine s_cast (pc := 25) dX2_blocksBeneath_25 q1525 zcs_FloatingDock_Metre ?_
          refine s_ast (pc := 28) (L2 := [(1, va_rf a1), (2, .int a2), (3, va_rf a3)]) [0, 1, 2] dX2_blocksBeneath_28 (by decide) rfl rfl (zcB (j := 2) rfl (zcat_rf a3) rfl) ?_
          refine s_iload_n (pc := 30) 2 dX2_blocksBeneath_30 rfl rfl ?_
          refine s_aload_n (pc := 31) 1 dX2_blocksBeneath_31 rfl rfl ?_
          refine s_aload (pc := 32) 0 dX2_blocksBeneath_32 rfl ?_
          refine s_gI (pc := 34) dX2_blocksBeneath_34 gf_X2_285 (fun x34 => ?_)
          refine zS_ite (fun ht => ?_) (fun _ => zS_none)
          refine s_callV (pc := 37) (np := 1) (as := [.int x34]) (rest := [.int a2]) dX2_blocksBeneath_37 ht (q := (RX6, TX6, 9)) rfl (c_X6_isAt (by decide) a1 x34 h24) rfl rfl q1508 q1509 q1510 rfl (by simp [zcat_rf, zcat_i, zcat_l, zcat_f, zcat_d]) (zkI (fun x35 h36 => ?_)) zxo
          refine s_if_eq (pc := 40) (tgt := 47) dX2_blocksBeneath_40 (by decide) (fun _ => ?_) (fun _ => ?_)
          · refine s_iconst (pc := 47) (v := 0) dX2_blocksBeneath_47 (by decide) ?_
            exact s_sub (pc := 48) [1, 3] rfl (w_X2_blocksBeneath_48 (f_X2_blocksBeneath_10 n) ih a1 a3 0 a2 h36)
          · refine s_iconst (pc := 43) (v := 1) dX2_blocksBeneath_43 (by decide) ?_
            refine s_goto (pc := 44) (tgt := 48) dX2_blocksBeneath_44 (by decide) ?_
            exact s_sub (pc := 48) [1, 3] rfl (w_X2_blocksBeneath_48 (f_X2_blocksBeneath_10 n) ih a1 a3 1 a2 h36)
        refine zS_ite (fun ht => ?_) (fun _ => zS_none)
        refine s_callF (pc := 20) (np := 0) (as := []) (rest := []) dX2_blocksBeneath_20 ht (q := (RJ22, TJ22, 5)) rfl (c_J22_next (by decide) a3 h5) ⟨_, _, _, q832⟩ rfl rfl q670 (by decide +kernel) q830 q828 rfl (by decide) (zkR (fun r23 h24 => ?_)) zxo
        refine s_cast (pc := 25) dX2_blocksBeneath_25 q1525 zcs_FloatingDock_Metre ?_
        refine s_ast (pc := 28) (L2 := [(1, va_rf a1), (2, .int a2), (3, va_rf a3)]) [0, 1, 2] dX2_blocksBeneath_28 (by decide) rfl rfl (zcB (j := 2) rfl (zcat_rf a3) rfl) ?_
        refine s_iload_n (pc := 30) 2 dX2_blocksBeneath_30 rfl rfl ?_
        refine s_aload_n (pc := 31) 1 dX2_blocksBeneath_31 rfl rfl ?_
        refine s_aload (pc := 32) 0 dX2_blocksBeneath_32 rfl ?_
        refine s_gI (pc := 34) dX2_blocksBeneath_34 gf_X2_285 (fun x37 => ?_)
        refine zS_ite (fun ht => ?_) (fun _ => zS_none)
        refine s_callV (pc := 37) (np := 1) (as := [.int x37]) (rest := [.int a2]) dX2_blocksBeneath_37 ht (q := (RX6, TX6, 9)) rfl (c_X6_isAt (by decide) a1 x37 h24) rfl rfl q1508 q1509 q1510 rfl (by simp [zcat_rf, zcat_i, zcat_l, zcat_f, zcat_d]) (zkI (fun x38 h39 => ?_)) zxo
        refine s_if_eq (pc := 40) (tgt := 47) dX2_blocksBeneath_40 (by decide) (fun _ => ?_) (fun _ => ?_)
        · refine s_iconst (pc := 47) (v := 0) dX2_blocksBeneath_47 (by decide) ?_
          exact s_sub (pc := 48) [1, 3] rfl (w_X2_blocksBeneath_48 (f_X2_blocksBeneath_10 n) ih a1 a3 0 a2 h39)
        · refine s_iconst (pc := 43) (v := 1) dX2_blocksBeneath_43 (by decide) ?_
          refine s_goto (pc := 44) (tgt := 48) dX2_blocksBeneath_44 (by decide) ?_
          exact s_sub (pc := 48) [1, 3] rfl (w_X2_blocksBeneath_48 (f_X2_blocksBeneath_10 n) ih a1 a3 1 a2 h39)
    refine zS_ite (fun ht => ?_) (fun _ => ?_)
    · refine s_callF (pc := 11) (np := 0) (as := []) (rest := []) dX2_blocksBeneath_11 ht (q := (RJ17, TJ17, 5)) rfl (c_J16_hasNext (by decide) a3 h) ⟨_, _, _, q659⟩ rfl rfl q629 (by decide +kernel) q657 q655 rfl (by decide) (zkI (fun x4 h5 => ?_)) zxo
      refine s_if_eq (pc := 16) (tgt := 53) dX2_blocksBeneath_16 (by decide) (fun _ => ?_) (fun _ => ?_)
      · refine s_iload_n (pc := 53) 1 dX2_blocksBeneath_53 rfl rfl ?_
        exact s_iret (pc := 54) dX2_blocksBeneath_54 rfl
      · refine s_aload_n (pc := 19) 2 dX2_blocksBeneath_19 rfl rfl ?_
        refine zS_ite (fun ht => ?_) (fun _ => ?_)
        · refine s_callF (pc := 20) (np := 0) (as := []) (rest := []) dX2_blocksBeneath_20 ht (q := (RX9, TX9, 2)) rfl (c_X9_next (by decide) a3 h5) ⟨_, _, _, q677⟩ rfl rfl q670 (by decide +kernel) q675 q673 rfl (by decide) (zkR (fun r40 h41 => ?_)) zxo
          refine s_cast (pc := 25) dX2_blocksBeneath_25 q1525 zcs_FloatingDock_Metre ?_
          refine s_ast (pc := 28) (L2 := [(1, va_rf a1), (2, .int a2), (3, va_rf a3)]) [0, 1, 2] dX2_blocksBeneath_28 (by decide) rfl rfl (zcB (j := 2) rfl (zcat_rf a3) rfl) ?_
          refine s_iload_n (pc := 30) 2 dX2_blocksBeneath_30 rfl rfl ?_
          refine s_aload_n (pc := 31) 1 dX2_blocksBeneath_31 rfl rfl ?_
          refine s_aload (pc := 32) 0 dX2_blocksBeneath_32 rfl ?_
          refine s_gI (pc := 34) dX2_blocksBeneath_34 gf_X2_285 (fun x42 => ?_)
          refine zS_ite (fun ht => ?_) (fun _ => zS_none)
          refine s_callV (pc := 37) (np := 1) (as := [.int x42]) (rest := [.int a2]) dX2_blocksBeneath_37 ht (q := (RX6, TX6, 9)) rfl (c_X6_isAt (by decide) a1 x42 h41) rfl rfl q1508 q1509 q1510 rfl (by simp [zcat_rf, zcat_i, zcat_l, zcat_f, zcat_d]) (zkI (fun x43 h44 => ?_)) zxo
          refine s_if_eq (pc := 40) (tgt := 47) dX2_blocksBeneath_40 (by decide) (fun _ => ?_) (fun _ => ?_)
          · refine s_iconst (pc := 47) (v := 0) dX2_blocksBeneath_47 (by decide) ?_
            exact s_sub (pc := 48) [1, 3] rfl (w_X2_blocksBeneath_48 (f_X2_blocksBeneath_10 n) ih a1 a3 0 a2 h44)
          · refine s_iconst (pc := 43) (v := 1) dX2_blocksBeneath_43 (by decide) ?_
            refine s_goto (pc := 44) (tgt := 48) dX2_blocksBeneath_44 (by decide) ?_
            exact s_sub (pc := 48) [1, 3] rfl (w_X2_blocksBeneath_48 (f_X2_blocksBeneath_10 n) ih a1 a3 1 a2 h44)
        refine zS_ite (fun ht => ?_) (fun _ => ?_)
        · refine s_callF (pc := 20) (np := 0) (as := []) (rest := []) dX2_blocksBeneath_20 ht (q := (RJ15, TJ15, 4)) rfl (c_J15_next (by decide) a3 h5) ⟨_, _, _, q788⟩ rfl rfl q670 (by decide +kernel) q786 q784 rfl (by decide) (zkR (fun r40 h41 => ?_)) zxo
          refine s_cast (pc := 25) dX2_blocksBeneath_25 q1525 zcs_FloatingDock_Metre ?_
          refine s_ast (pc := 28) (L2 := [(1, va_rf a1), (2, .int a2), (3, va_rf a3)]) [0, 1, 2] dX2_blocksBeneath_28 (by decide) rfl rfl (zcB (j := 2) rfl (zcat_rf a3) rfl) ?_
          refine s_iload_n (pc := 30) 2 dX2_blocksBeneath_30 rfl rfl ?_
          refine s_aload_n (pc := 31) 1 dX2_blocksBeneath_31 rfl rfl ?_
          refine s_aload (pc := 32) 0 dX2_blocksBeneath_32 rfl ?_
          refine s_gI (pc := 34) dX2_blocksBeneath_34 gf_X2_285 (fun x45 => ?_)
          refine zS_ite (fun ht => ?_) (fun _ => zS_none)
          refine s_callV (pc := 37) (np := 1) (as := [.int x45]) (rest := [.int a2]) dX2_blocksBeneath_37 ht (q := (RX6, TX6, 9)) rfl (c_X6_isAt (by decide) a1 x45 h41) rfl rfl q1508 q1509 q1510 rfl (by simp [zcat_rf, zcat_i, zcat_l, zcat_f, zcat_d]) (zkI (fun x46 h47 => ?_)) zxo
          refine s_if_eq (pc := 40) (tgt := 47) dX2_blocksBeneath_40 (by decide) (fun _ => ?_) (fun _ => ?_)
          · refine s_iconst (pc := 47) (v := 0) dX2_blocksBeneath_47 (by decide) ?_
            exact s_sub (pc := 48) [1, 3] rfl (w_X2_blocksBeneath_48 (f_X2_blocksBeneath_10 n) ih a1 a3 0 a2 h47)
          · refine s_iconst (pc := 43) (v := 1) dX2_blocksBeneath_43 (by decide) ?_
            refine s_goto (pc := 44) (tgt := 48) dX2_blocksBeneath_44 (by decide) ?_
            exact s_sub (pc := 48) [1, 3] rfl (w_X2_blocksBeneath_48 (f_X2_blocksBeneath_10 n) ih a1 a3 1 a2 h47)
        refine zS_ite (fun ht => ?_) (fun _ => ?_)
        · refine s_callF (pc := 20) (np := 0) (as := []) (rest := []) dX2_blocksBeneath_20 ht (q := (RJ17, TJ17, 5)) rfl (c_J17_next (by decide) a3 h5) ⟨_, _, _, q799⟩ rfl rfl q670 (by decide +kernel) q797 q795 rfl (by decide) (zkR (fun r40 h41 => ?_)) zxo
          refine s_cast (pc := 25) dX2_blocksBeneath_25 q1525 zcs_FloatingDock_Metre ?_
          refine s_ast (pc := 28) (L2 := [(1, va_rf a1), (2, .int a2), (3, va_rf a3)]) [0, 1, 2] dX2_blocksBeneath_28 (by decide) rfl rfl (zcB (j := 2) rfl (zcat_rf a3) rfl) ?_
          refine s_iload_n (pc := 30) 2 dX2_blocksBeneath_30 rfl rfl ?_
          refine s_aload_n (pc := 31) 1 dX2_blocksBeneath_31 rfl rfl ?_
          refine s_aload (pc := 32) 0 dX2_blocksBeneath_32 rfl ?_
          refine s_gI (pc := 34) dX2_blocksBeneath_34 gf_X2_285 (fun x48 => ?_)
          refine zS_ite (fun ht => ?_) (fun _ => zS_none)
          refine s_callV (pc := 37) (np := 1) (as := [.int x48]) (rest := [.int a2]) dX2_blocksBeneath_37 ht (q := (RX6, TX6, 9)) rfl (c_X6_isAt (by decide) a1 x48 h41) rfl rfl q1508 q1509 q1510 rfl (by simp [zcat_rf, zcat_i, zcat_l, zcat_f, zcat_d]) (zkI (fun x49 h50 => ?_)) zxo
          refine s_if_eq (pc := 40) (tgt := 47) dX2_blocksBeneath_40 (by decide) (fun _ => ?_) (fun _ => ?_)
          · refine s_iconst (pc := 47) (v := 0) dX2_blocksBeneath_47 (by decide) ?_
            exact s_sub (pc := 48) [1, 3] rfl (w_X2_blocksBeneath_48 (f_X2_blocksBeneath_10 n) ih a1 a3 0 a2 h50)
          · refine s_iconst (pc := 43) (v := 1) dX2_blocksBeneath_43 (by decide) ?_
            refine s_goto (pc := 44) (tgt := 48) dX2_blocksBeneath_44 (by decide) ?_
            exact s_sub (pc := 48) [1, 3] rfl (w_X2_blocksBeneath_48 (f_X2_blocksBeneath_10 n) ih a1 a3 1 a2 h50)
        refine zS_ite (fun ht => ?_) (fun _ => ?_)
        · refine s_callF (pc := 20) (np := 0) (as := []) (rest := []) dX2_blocksBeneath_20 ht (q := (RJ21, TJ21, 5)) rfl (c_J21_next (by decide) a3 h5) ⟨_, _, _, q812⟩ rfl rfl q670 (by decide +kernel) q810 q808 rfl (by decide) (zkR (fun r40 h41 => ?_)) zxo
          refine s_cast (pc := 25) dX2_blocksBeneath_25 q1525 zcs_FloatingDock_Metre ?_
          refine s_ast (pc := 28) (L2 := [(1, va_rf a1), (2, .int a2), (3, va_rf a3)]) [0, 1, 2] dX2_blocksBeneath_28 (by decide) rfl rfl (zcB (j := 2) rfl (zcat_rf a3) rfl) ?_
          refine s_iload_n (pc := 30) 2 dX2_blocksBeneath_30 rfl rfl ?_
          refine s_aload_n (pc := 31) 1 dX2_blocksBeneath_31 rfl rfl ?_
          refine s_aload (pc := 32) 0 dX2_blocksBeneath_32 rfl ?_
          refine s_gI (pc := 34) dX2_blocksBeneath_34 gf_X2_285 (fun x51 => ?_)
          refine zS_ite (fun ht => ?_) (fun _ => zS_none)
          refine s_callV (pc := 37) (np := 1) (as := [.int x51]) (rest := [.int a2]) dX2_blocksBeneath_37 ht (q := (RX6, TX6, 9)) rfl (c_X6_isAt (by decide) a1 x51 h41) rfl rfl q1508 q1509 q1510 rfl (by simp [zcat_rf, zcat_i, zcat_l, zcat_f, zcat_d]) (zkI (fun x52 h53 => ?_)) zxo
          refine s_if_eq (pc := 40) (tgt := 47) dX2_blocksBeneath_40 (by decide) (fun _ => ?_) (fun _ => ?_)
          · refine s_iconst (pc := 47) (v := 0) dX2_blocksBeneath_47 (by decide) ?_
            exact s_sub (pc := 48) [1, 3] rfl (w_X2_blocksBeneath_48 (f_X2_blocksBeneath_10 n) ih a1 a3 0 a2 h53)
          · refine s_iconst (pc := 43) (v := 1) dX2_blocksBeneath_43 (by decide) ?_
            refine s_goto (pc := 44) (tgt := 48) dX2_blocksBeneath_44 (by decide) ?_
            exact s_sub (pc := 48) [1, 3] rfl (w_X2_blocksBeneath_48 (f_X2_blocksBeneath_10 n) ih a1 a3 1 a2 h53)
        refine zS_ite (fun ht => ?_) (fun _ => zS_none)
        refine s_callF (pc := 20) (np := 0) (as := []) (rest := []) dX2_blocksBeneath_20 ht (q := (RJ22, TJ22, 5)) rfl (c_J22_next (by decide) a3 h5) ⟨_, _, _, q832⟩ rfl rfl q670 (by decide +kernel) q830 q828 rfl (by decide) (zkR (fun r40 h41 => ?_)) zxo
        refine s_cast (pc := 25) dX2_blocksBeneath_25 q1525 zcs_FloatingDock_Metre ?_
        refine s_ast (pc := 28) (L2 := [(1, va_rf a1), (2, .int a2), (3, va_rf a3)]) [0, 1, 2] dX2_blocksBeneath_28 (by decide) rfl rfl (zcB (j := 2) rfl (zcat_rf a3) rfl) ?_
        refine s_iload_n (pc := 30) 2 dX2_blocksBeneath_30 rfl rfl ?_
        refine s_aload_n (pc := 31) 1 dX2_blocksBeneath_31 rfl rfl ?_
        refine s_aload (pc := 32) 0 dX2_blocksBeneath_32 rfl ?_
        refine s_gI (pc := 34) dX2_blocksBeneath_34 gf_X2_285 (fun x54 => ?_)
        refine zS_ite (fun ht => ?_) (fun _ => zS_none)
        refine s_callV (pc := 37) (np := 1) (as := [.int x54]) (rest := [.int a2]) dX2_blocksBeneath_37 ht (q := (RX6, TX6, 9)) rfl (c_X6_isAt (by decide) a1 x54 h41) rfl rfl q1508 q1509 q1510 rfl (by simp [zcat_rf, zcat_i, zcat_l, zcat_f, zcat_d]) (zkI (fun x55 h56 => ?_)) zxo
        refine s_if_eq (pc := 40) (tgt := 47) dX2_blocksBeneath_40 (by decide) (fun _ => ?_) (fun _ => ?_)
        · refine s_iconst (pc := 47) (v := 0) dX2_blocksBeneath_47 (by decide) ?_
          exact s_sub (pc := 48) [1, 3] rfl (w_X2_blocksBeneath_48 (f_X2_blocksBeneath_10 n) ih a1 a3 0 a2 h56)
        · refine s_iconst (pc := 43) (v := 1) dX2_blocksBeneath_43 (by decide) ?_
          refine s_goto (pc := 44) (tgt := 48) dX2_blocksBeneath_44 (by decide) ?_
          exact s_sub (pc := 48) [1, 3] rfl (w_X2_blocksBeneath_48 (f_X2_blocksBeneath_10 n) ih a1 a3 1 a2 h56)
    refine zS_ite (fun ht => ?_) (fun _ => ?_)
    · refine s_callF (pc := 11) (np := 0) (as := []) (rest := []) dX2_blocksBeneath_11 ht (q := (RJ21, TJ21, 5)) rfl (c_J20_hasNext (by decide) a3 h) ⟨_, _, _, q665⟩ rfl rfl q629 (by decide +kernel) q663 q661 rfl (by decide) (zkI (fun x4 h5 => ?_)) zxo
      refine s_if_eq (pc := 16) (tgt := 53) dX2_blocksBeneath_16 (by decide) (fun _ => ?_) (fun _ => ?_)
      · refine s_iload_n (pc := 53) 1 dX2_blocksBeneath_53 rfl rfl ?_
        exact s_iret (pc := 54) dX2_blocksBeneath_54 rfl
      · refine s_aload_n (pc := 19) 2 dX2_blocksBeneath_19 rfl rfl ?_
        refine zS_ite (fun ht => ?_) (fun _ => ?_)
        · refine s_callF (pc := 20) (np := 0) (as := []) (rest := []) dX2_blocksBeneath_20 ht (q := (RX9, TX9, 2)) rfl (c_X9_next (by decide) a3 h5) ⟨_, _, _, q677⟩ rfl rfl q670 (by decide +kernel) q675 q673 rfl (by decide) (zkR (fun r57 h58 => ?_)) zxo
          refine s_cast (pc := 25) dX2_blocksBeneath_25 q1525 zcs_FloatingDock_Metre ?_
          refine s_ast (pc := 28) (L2 := [(1, va_rf a1), (2, .int a2), (3, va_rf a3)]) [0, 1, 2] dX2_blocksBeneath_28 (by decide) rfl rfl (zcB (j := 2) rfl (zcat_rf a3) rfl) ?_
          refine s_iload_n (pc := 30) 2 dX2_blocksBeneath_30 rfl rfl ?_
          refine s_aload_n (pc := 31) 1 dX2_blocksBeneath_31 rfl rfl ?_
          refine s_aload (pc := 32) 0 dX2_blocksBeneath_32 rfl ?_
          refine s_gI (pc := 34) dX2_blocksBeneath_34 gf_X2_285 (fun x59 => ?_)
          refine zS_ite (fun ht => ?_) (fun _ => zS_none)
          refine s_callV (pc := 37) (np := 1) (as := [.int x59]) (rest := [.int a2]) dX2_blocksBeneath_37 ht (q := (RX6, TX6, 9)) rfl (c_X6_isAt (by decide) a1 x59 h58) rfl rfl q1508 q1509 q1510 rfl (by simp [zcat_rf, zcat_i, zcat_l, zcat_f, zcat_d]) (zkI (fun x60 h61 => ?_)) zxo
          refine s_if_eq (pc := 40) (tgt := 47) dX2_blocksBeneath_40 (by decide) (fun _ => ?_) (fun _ => ?_)
          · refine s_iconst (pc := 47) (v := 0) dX2_blocksBeneath_47 (by decide) ?_
            exact s_sub (pc := 48) [1, 3] rfl (w_X2_blocksBeneath_48 (f_X2_blocksBeneath_10 n) ih a1 a3 0 a2 h61)
          · refine s_iconst (pc := 43) (v := 1) dX2_blocksBeneath_43 (by decide) ?_
            refine s_goto (pc := 44) (tgt := 48) dX2_blocksBeneath_44 (by decide) ?_
            exact s_sub (pc := 48) [1, 3] rfl (w_X2_blocksBeneath_48 (f_X2_blocksBeneath_10 n) ih a1 a3 1 a2 h61)
        refine zS_ite (fun ht => ?_) (fun _ => ?_)
        · refine s_callF (pc := 20) (np := 0) (as := []) (rest := []) dX2_blocksBeneath_20 ht (q := (RJ15, TJ15, 4)) rfl (c_J15_next (by decide) a3 h5) ⟨_, _, _, q788⟩ rfl rfl q670 (by decide +kernel) q786 q784 rfl (by decide) (zkR (fun r57 h58 => ?_)) zxo
          refine s_cast (pc := 25) dX2_blocksBeneath_25 q1525 zcs_FloatingDock_Metre ?_
          refine s_ast (pc := 28) (L2 := [(1, va_rf a1), (2, .int a2), (3, va_rf a3)]) [0, 1, 2] dX2_blocksBeneath_28 (by decide) rfl rfl (zcB (j := 2) rfl (zcat_rf a3) rfl) ?_
          refine s_iload_n (pc := 30) 2 dX2_blocksBeneath_30 rfl rfl ?_
          refine s_aload_n (pc := 31) 1 dX2_blocksBeneath_31 rfl rfl ?_
          refine s_aload (pc := 32) 0 dX2_blocksBeneath_32 rfl ?_
          refine s_gI (pc := 34) dX2_blocksBeneath_34 gf_X2_285 (fun x62 => ?_)
          refine zS_ite (fun ht => ?_) (fun _ => zS_none)
          refine s_callV (pc := 37) (np := 1) (as := [.int x62]) (rest := [.int a2]) dX2_blocksBeneath_37 ht (q := (RX6, TX6, 9)) rfl (c_X6_isAt (by decide) a1 x62 h58) rfl rfl q1508 q1509 q1510 rfl (by simp [zcat_rf, zcat_i, zcat_l, zcat_f, zcat_d]) (zkI (fun x63 h64 => ?_)) zxo
          refine s_if_eq (pc := 40) (tgt := 47) dX2_blocksBeneath_40 (by decide) (fun _ => ?_) (fun _ => ?_)
          · refine s_iconst (pc := 47) (v := 0) dX2_blocksBeneath_47 (by decide) ?_
            exact s_sub (pc := 48) [1, 3] rfl (w_X2_blocksBeneath_48 (f_X2_blocksBeneath_10 n) ih a1 a3 0 a2 h64)
          · refine s_iconst (pc := 43) (v := 1) dX2_blocksBeneath_43 (by decide) ?_
            refine s_goto (pc := 44) (tgt := 48) dX2_blocksBeneath_44 (by decide) ?_
            exact s_sub (pc := 48) [1, 3] rfl (w_X2_blocksBeneath_48 (f_X2_blocksBeneath_10 n) ih a1 a3 1 a2 h64)
        refine zS_ite (fun ht => ?_) (fun _ => ?_)
        · refine s_callF (pc := 20) (np := 0) (as := []) (rest := []) dX2_blocksBeneath_20 ht (q := (RJ17, TJ17, 5)) rfl (c_J17_next (by decide) a3 h5) ⟨_, _, _, q799⟩ rfl rfl q670 (by decide +kernel) q797 q795 rfl (by decide) (zkR (fun r57 h58 => ?_)) zxo
          refine s_cast (pc := 25) dX2_blocksBeneath_25 q1525 zcs_FloatingDock_Metre ?_
          refine s_ast (pc := 28) (L2 := [(1, va_rf a1), (2, .int a2), (3, va_rf a3)]) [0, 1, 2] dX2_blocksBeneath_28 (by decide) rfl rfl (zcB (j := 2) rfl (zcat_rf a3) rfl) ?_
          refine s_iload_n (pc := 30) 2 dX2_blocksBeneath_30 rfl rfl ?_
          refine s_aload_n (pc := 31) 1 dX2_blocksBeneath_31 rfl rfl ?_
          refine s_aload (pc := 32) 0 dX2_blocksBeneath_32 rfl ?_
          refine s_gI (pc := 34) dX2_blocksBeneath_34 gf_X2_285 (fun x65 => ?_)
          refine zS_ite (fun ht => ?_) (fun _ => zS_none)
          refine s_callV (pc := 37) (np := 1) (as := [.int x65]) (rest := [.int a2]) dX2_blocksBeneath_37 ht (q := (RX6, TX6, 9)) rfl (c_X6_isAt (by decide) a1 x65 h58) rfl rfl q1508 q1509 q1510 rfl (by simp [zcat_rf, zcat_i, zcat_l, zcat_f, zcat_d]) (zkI (fun x66 h67 => ?_)) zxo
          refine s_if_eq (pc := 40) (tgt := 47) dX2_blocksBeneath_40 (by decide) (fun _ => ?_) (fun _ => ?_)
          · refine s_iconst (pc := 47) (v := 0) dX2_blocksBeneath_47 (by decide) ?_
            exact s_sub (pc := 48) [1, 3] rfl (w_X2_blocksBeneath_48 (f_X2_blocksBeneath_10 n) ih a1 a3 0 a2 h67)
          · refine s_iconst (pc := 43) (v := 1) dX2_blocksBeneath_43 (by decide) ?_
            refine s_goto (pc := 44) (tgt := 48) dX2_blocksBeneath_44 (by decide) ?_
            exact s_sub (pc := 48) [1, 3] rfl (w_X2_blocksBeneath_48 (f_X2_blocksBeneath_10 n) ih a1 a3 1 a2 h67)
        refine zS_ite (fun ht => ?_) (fun _ => ?_)
        · refine s_callF (pc := 20) (np := 0) (as := []) (rest := []) dX2_blocksBeneath_20 ht (q := (RJ21, TJ21, 5)) rfl (c_J21_next (by decide) a3 h5) ⟨_, _, _, q812⟩ rfl rfl q670 (by decide +kernel) q810 q808 rfl (by decide) (zkR (fun r57 h58 => ?_)) zxo
          refine s_cast (pc := 25) dX2_blocksBeneath_25 q1525 zcs_FloatingDock_Metre ?_
          refine s_ast (pc := 28) (L2 := [(1, va_rf a1), (2, .int a2), (3, va_rf a3)]) [0, 1, 2] dX2_blocksBeneath_28 (by decide) rfl rfl (zcB (j := 2) rfl (zcat_rf a3) rfl) ?_
          refine s_iload_n (pc := 30) 2 dX2_blocksBeneath_30 rfl rfl ?_
          refine s_aload_n (pc := 31) 1 dX2_blocksBeneath_31 rfl rfl ?_
          refine s_aload (pc := 32) 0 dX2_blocksBeneath_32 rfl ?_
          refine s_gI (pc := 34) dX2_blocksBeneath_34 gf_X2_285 (fun x68 => ?_)
          refine zS_ite (fun ht => ?_) (fun _ => zS_none)
          refine s_callV (pc := 37) (np := 1) (as := [.int x68]) (rest := [.int a2]) dX2_blocksBeneath_37 ht (q := (RX6, TX6, 9)) rfl (c_X6_isAt (by decide) a1 x68 h58) rfl rfl q1508 q1509 q1510 rfl (by simp [zcat_rf, zcat_i, zcat_l, zcat_f, zcat_d]) (zkI (fun x69 h70 => ?_)) zxo
          refine s_if_eq (pc := 40) (tgt := 47) dX2_blocksBeneath_40 (by decide) (fun _ => ?_) (fun _ => ?_)
          · refine s_iconst (pc := 47) (v := 0) dX2_blocksBeneath_47 (by decide) ?_
            exact s_sub (pc := 48) [1, 3] rfl (w_X2_blocksBeneath_48 (f_X2_blocksBeneath_10 n) ih a1 a3 0 a2 h70)
          · refine s_iconst (pc := 43) (v := 1) dX2_blocksBeneath_43 (by decide) ?_
            refine s_goto (pc := 44) (tgt := 48) dX2_blocksBeneath_44 (by decide) ?_
            exact s_sub (pc := 48) [1, 3] rfl (w_X2_blocksBeneath_48 (f_X2_blocksBeneath_10 n) ih a1 a3 1 a2 h70)
        refine zS_ite (fun ht => ?_) (fun _ => zS_none)
        refine s_callF (pc := 20) (np := 0) (as := []) (rest := []) dX2_blocksBeneath_20 ht (q := (RJ22, TJ22, 5)) rfl (c_J22_next (by decide) a3 h5) ⟨_, _, _, q832⟩ rfl rfl q670 (by decide +kernel) q830 q828 rfl (by decide) (zkR (fun r57 h58 => ?_)) zxo
        refine s_cast (pc := 25) dX2_blocksBeneath_25 q1525 zcs_FloatingDock_Metre ?_
        refine s_ast (pc := 28) (L2 := [(1, va_rf a1), (2, .int a2), (3, va_rf a3)]) [0, 1, 2] dX2_blocksBeneath_28 (by decide) rfl rfl (zcB (j := 2) rfl (zcat_rf a3) rfl) ?_
        refine s_iload_n (pc := 30) 2 dX2_blocksBeneath_30 rfl rfl ?_
        refine s_aload_n (pc := 31) 1 dX2_blocksBeneath_31 rfl rfl ?_
        refine s_aload (pc := 32) 0 dX2_blocksBeneath_32 rfl ?_
        refine s_gI (pc := 34) dX2_blocksBeneath_34 gf_X2_285 (fun x71 => ?_)
        refine zS_ite (fun ht => ?_) (fun _ => zS_none)
        refine s_callV (pc := 37) (np := 1) (as := [.int x71]) (rest := [.int a2]) dX2_blocksBeneath_37 ht (q := (RX6, TX6, 9)) rfl (c_X6_isAt (by decide) a1 x71 h58) rfl rfl q1508 q1509 q1510 rfl (by simp [zcat_rf, zcat_i, zcat_l, zcat_f, zcat_d]) (zkI (fun x72 h73 => ?_)) zxo
        refine s_if_eq (pc := 40) (tgt := 47) dX2_blocksBeneath_40 (by decide) (fun _ => ?_) (fun _ => ?_)
        · refine s_iconst (pc := 47) (v := 0) dX2_blocksBeneath_47 (by decide) ?_
          exact s_sub (pc := 48) [1, 3] rfl (w_X2_blocksBeneath_48 (f_X2_blocksBeneath_10 n) ih a1 a3 0 a2 h73)
        · refine s_iconst (pc := 43) (v := 1) dX2_blocksBeneath_43 (by decide) ?_
          refine s_goto (pc := 44) (tgt := 48) dX2_blocksBeneath_44 (by decide) ?_
          exact s_sub (pc := 48) [1, 3] rfl (w_X2_blocksBeneath_48 (f_X2_blocksBeneath_10 n) ih a1 a3 1 a2 h73)
    refine zS_ite (fun ht => ?_) (fun _ => zS_none)
    refine s_callF (pc := 11) (np := 0) (as := []) (rest := []) dX2_blocksBeneath_11 ht (q := (RJ22, TJ22, 5)) rfl (c_J20_hasNext (by decide) a3 h) ⟨_, _, _, q665⟩ rfl rfl q629 (by decide +kernel) q663 q667 rfl (by decide) (zkI (fun x4 h5 => ?_)) zxo
    refine s_if_eq (pc := 16) (tgt := 53) dX2_blocksBeneath_16 (by decide) (fun _ => ?_) (fun _ => ?_)
    · refine s_iload_n (pc := 53) 1 dX2_blocksBeneath_53 rfl rfl ?_
      exact s_iret (pc := 54) dX2_blocksBeneath_54 rfl
    · refine s_aload_n (pc := 19) 2 dX2_blocksBeneath_19 rfl rfl ?_
      refine zS_ite (fun ht => ?_) (fun _ => ?_)
      · refine s_callF (pc := 20) (np := 0) (as := []) (rest := []) dX2_blocksBeneath_20 ht (q := (RX9, TX9, 2)) rfl (c_X9_next (by decide) a3 h5) ⟨_, _, _, q677⟩ rfl rfl q670 (by decide +kernel) q675 q673 rfl (by decide) (zkR (fun r74 h75 => ?_)) zxo
        refine s_cast (pc := 25) dX2_blocksBeneath_25 q1525 zcs_FloatingDock_Metre ?_
        refine s_ast (pc := 28) (L2 := [(1, va_rf a1), (2, .int a2), (3, va_rf a3)]) [0, 1, 2] dX2_blocksBeneath_28 (by decide) rfl rfl (zcB (j := 2) rfl (zcat_rf a3) rfl) ?_
        refine s_iload_n (pc := 30) 2 dX2_blocksBeneath_30 rfl rfl ?_
        refine s_aload_n (pc := 31) 1 dX2_blocksBeneath_31 rfl rfl ?_
        refine s_aload (pc := 32) 0 dX2_blocksBeneath_32 rfl ?_
        refine s_gI (pc := 34) dX2_blocksBeneath_34 gf_X2_285 (fun x76 => ?_)
        refine zS_ite (fun ht => ?_) (fun _ => zS_none)
        refine s_callV (pc := 37) (np := 1) (as := [.int x76]) (rest := [.int a2]) dX2_blocksBeneath_37 ht (q := (RX6, TX6, 9)) rfl (c_X6_isAt (by decide) a1 x76 h75) rfl rfl q1508 q1509 q1510 rfl (by simp [zcat_rf, zcat_i, zcat_l, zcat_f, zcat_d]) (zkI (fun x77 h78 => ?_)) zxo
        refine s_if_eq (pc := 40) (tgt := 47) dX2_blocksBeneath_40 (by decide) (fun _ => ?_) (fun _ => ?_)
        · refine s_iconst (pc := 47) (v := 0) dX2_blocksBeneath_47 (by decide) ?_
          exact s_sub (pc := 48) [1, 3] rfl (w_X2_blocksBeneath_48 (f_X2_blocksBeneath_10 n) ih a1 a3 0 a2 h78)
        · refine s_iconst (pc := 43) (v := 1) dX2_blocksBeneath_43 (by decide) ?_
          refine s_goto (pc := 44) (tgt := 48) dX2_blocksBeneath_44 (by decide) ?_
          exact s_sub (pc := 48) [1, 3] rfl (w_X2_blocksBeneath_48 (f_X2_blocksBeneath_10 n) ih a1 a3 1 a2 h78)
      refine zS_ite (fun ht => ?_) (fun _ => ?_)
      · refine s_callF (pc := 20) (np := 0) (as := []) (rest := []) dX2_blocksBeneath_20 ht (q := (RJ15, TJ15, 4)) rfl (c_J15_next (by decide) a3 h5) ⟨_, _, _, q788⟩ rfl rfl q670 (by decide +kernel) q786 q784 rfl (by decide) (zkR (fun r74 h75 => ?_)) zxo
        refine s_cast (pc := 25) dX2_blocksBeneath_25 q1525 zcs_FloatingDock_Metre ?_
        refine s_ast (pc := 28) (L2 := [(1, va_rf a1), (2, .int a2), (3, va_rf a3)]) [0, 1, 2] dX2_blocksBeneath_28 (by decide) rfl rfl (zcB (j := 2) rfl (zcat_rf a3) rfl) ?_
        refine s_iload_n (pc := 30) 2 dX2_blocksBeneath_30 rfl rfl ?_
        refine s_aload_n (pc := 31) 1 dX2_blocksBeneath_31 rfl rfl ?_
        refine s_aload (pc := 32) 0 dX2_blocksBeneath_32 rfl ?_
        refine s_gI (pc := 34) dX2_blocksBeneath_34 gf_X2_285 (fun x79 => ?_)
        refine zS_ite (fun ht => ?_) (fun _ => zS_none)
        refine s_callV (pc := 37) (np := 1) (as := [.int x79]) (rest := [.int a2]) dX2_blocksBeneath_37 ht (q := (RX6, TX6, 9)) rfl (c_X6_isAt (by decide) a1 x79 h75) rfl rfl q1508 q1509 q1510 rfl (by simp [zcat_rf, zcat_i, zcat_l, zcat_f, zcat_d]) (zkI (fun x80 h81 => ?_)) zxo
        refine s_if_eq (pc := 40) (tgt := 47) dX2_blocksBeneath_40 (by decide) (fun _ => ?_) (fun _ => ?_)
        · refine s_iconst (pc := 47) (v := 0) dX2_blocksBeneath_47 (by decide) ?_
          exact s_sub (pc := 48) [1, 3] rfl (w_X2_blocksBeneath_48 (f_X2_blocksBeneath_10 n) ih a1 a3 0 a2 h81)
        · refine s_iconst (pc := 43) (v := 1) dX2_blocksBeneath_43 (by decide) ?_
          refine s_goto (pc := 44) (tgt := 48) dX2_blocksBeneath_44 (by decide) ?_
          exact s_sub (pc := 48) [1, 3] rfl (w_X2_blocksBeneath_48 (f_X2_blocksBeneath_10 n) ih a1 a3 1 a2 h81)
      refine zS_ite (fun ht => ?_) (fun _ => ?_)
      · refine s_callF (pc := 20) (np := 0) (as := []) (rest := []) dX2_blocksBeneath_20 ht (q := (RJ17, TJ17, 5)) rfl (c_J17_next (by decide) a3 h5) ⟨_, _, _, q799⟩ rfl rfl q670 (by decide +kernel) q797 q795 rfl (by decide) (zkR (fun r74 h75 => ?_)) zxo
        refine s_cast (pc := 25) dX2_blocksBeneath_25 q1525 zcs_FloatingDock_Metre ?_
        refine s_ast (pc := 28) (L2 := [(1, va_rf a1), (2, .int a2), (3, va_rf a3)]) [0, 1, 2] dX2_blocksBeneath_28 (by decide) rfl rfl (zcB (j := 2) rfl (zcat_rf a3) rfl) ?_
        refine s_iload_n (pc := 30) 2 dX2_blocksBeneath_30 rfl rfl ?_
        refine s_aload_n (pc := 31) 1 dX2_blocksBeneath_31 rfl rfl ?_
        refine s_aload (pc := 32) 0 dX2_blocksBeneath_32 rfl ?_
        refine s_gI (pc := 34) dX2_blocksBeneath_34 gf_X2_285 (fun x82 => ?_)
        refine zS_ite (fun ht => ?_) (fun _ => zS_none)
        refine s_callV (pc := 37) (np := 1) (as := [.int x82]) (rest := [.int a2]) dX2_blocksBeneath_37 ht (q := (RX6, TX6, 9)) rfl (c_X6_isAt (by decide) a1 x82 h75) rfl rfl q1508 q1509 q1510 rfl (by simp [zcat_rf, zcat_i, zcat_l, zcat_f, zcat_d]) (zkI (fun x83 h84 => ?_)) zxo
        refine s_if_eq (pc := 40) (tgt := 47) dX2_blocksBeneath_40 (by decide) (fun _ => ?_) (fun _ => ?_)
        · refine s_iconst (pc := 47) (v := 0) dX2_blocksBeneath_47 (by decide) ?_
          exact s_sub (pc := 48) [1, 3] rfl (w_X2_blocksBeneath_48 (f_X2_blocksBeneath_10 n) ih a1 a3 0 a2 h84)
        · refine s_iconst (pc := 43) (v := 1) dX2_blocksBeneath_43 (by decide) ?_
          refine s_goto (pc := 44) (tgt := 48) dX2_blocksBeneath_44 (by decide) ?_
          exact s_sub (pc := 48) [1, 3] rfl (w_X2_blocksBeneath_48 (f_X2_blocksBeneath_10 n) ih a1 a3 1 a2 h84)
      refine zS_ite (fun ht => ?_) (fun _ => ?_)
      · refine s_callF (pc := 20) (np := 0) (as := []) (rest := []) dX2_blocksBeneath_20 ht (q := (RJ21, TJ21, 5)) rfl (c_J21_next (by decide) a3 h5) ⟨_, _, _, q812⟩ rfl rfl q670 (by decide +kernel) q810 q808 rfl (by decide) (zkR (fun r74 h75 => ?_)) zxo
        refine s_cast (pc := 25) dX2_blocksBeneath_25 q1525 zcs_FloatingDock_Metre ?_
        refine s_ast (pc := 28) (L2 := [(1, va_rf a1), (2, .int a2), (3, va_rf a3)]) [0, 1, 2] dX2_blocksBeneath_28 (by decide) rfl rfl (zcB (j := 2) rfl (zcat_rf a3) rfl) ?_
        refine s_iload_n (pc := 30) 2 dX2_blocksBeneath_30 rfl rfl ?_
        refine s_aload_n (pc := 31) 1 dX2_blocksBeneath_31 rfl rfl ?_
        refine s_aload (pc := 32) 0 dX2_blocksBeneath_32 rfl ?_
        refine s_gI (pc := 34) dX2_blocksBeneath_34 gf_X2_285 (fun x85 => ?_)
        refine zS_ite (fun ht => ?_) (fun _ => zS_none)
        refine s_callV (pc := 37) (np := 1) (as := [.int x85]) (rest := [.int a2]) dX2_blocksBeneath_37 ht (q := (RX6, TX6, 9)) rfl (c_X6_isAt (by decide) a1 x85 h75) rfl rfl q1508 q1509 q1510 rfl (by simp [zcat_rf, zcat_i, zcat_l, zcat_f, zcat_d]) (zkI (fun x86 h87 => ?_)) zxo
        refine s_if_eq (pc := 40) (tgt := 47) dX2_blocksBeneath_40 (by decide) (fun _ => ?_) (fun _ => ?_)
        · refine s_iconst (pc := 47) (v := 0) dX2_blocksBeneath_47 (by decide) ?_
          exact s_sub (pc := 48) [1, 3] rfl (w_X2_blocksBeneath_48 (f_X2_blocksBeneath_10 n) ih a1 a3 0 a2 h87)
        · refine s_iconst (pc := 43) (v := 1) dX2_blocksBeneath_43 (by decide) ?_
          refine s_goto (pc := 44) (tgt := 48) dX2_blocksBeneath_44 (by decide) ?_
          exact s_sub (pc := 48) [1, 3] rfl (w_X2_blocksBeneath_48 (f_X2_blocksBeneath_10 n) ih a1 a3 1 a2 h87)
      refine zS_ite (fun ht => ?_) (fun _ => zS_none)
      refine s_callF (pc := 20) (np := 0) (as := []) (rest := []) dX2_blocksBeneath_20 ht (q := (RJ22, TJ22, 5)) rfl (c_J22_next (by decide) a3 h5) ⟨_, _, _, q832⟩ rfl rfl q670 (by decide +kernel) q830 q828 rfl (by decide) (zkR (fun r74 h75 => ?_)) zxo
      refine s_cast (pc := 25) dX2_blocksBeneath_25 q1525 zcs_FloatingDock_Metre ?_
      refine s_ast (pc := 28) (L2 := [(1, va_rf a1), (2, .int a2), (3, va_rf a3)]) [0, 1, 2] dX2_blocksBeneath_28 (by decide) rfl rfl (zcB (j := 2) rfl (zcat_rf a3) rfl) ?_
      refine s_iload_n (pc := 30) 2 dX2_blocksBeneath_30 rfl rfl ?_
      refine s_aload_n (pc := 31) 1 dX2_blocksBeneath_31 rfl rfl ?_
      refine s_aload (pc := 32) 0 dX2_blocksBeneath_32 rfl ?_
      refine s_gI (pc := 34) dX2_blocksBeneath_34 gf_X2_285 (fun x88 => ?_)
      refine zS_ite (fun ht => ?_) (fun _ => zS_none)
      refine s_callV (pc := 37) (np := 1) (as := [.int x88]) (rest := [.int a2]) dX2_blocksBeneath_37 ht (q := (RX6, TX6, 9)) rfl (c_X6_isAt (by decide) a1 x88 h75) rfl rfl q1508 q1509 q1510 rfl (by simp [zcat_rf, zcat_i, zcat_l, zcat_f, zcat_d]) (zkI (fun x89 h90 => ?_)) zxo
      refine s_if_eq (pc := 40) (tgt := 47) dX2_blocksBeneath_40 (by decide) (fun _ => ?_) (fun _ => ?_)
      · refine s_iconst (pc := 47) (v := 0) dX2_blocksBeneath_47 (by decide) ?_
        exact s_sub (pc := 48) [1, 3] rfl (w_X2_blocksBeneath_48 (f_X2_blocksBeneath_10 n) ih a1 a3 0 a2 h90)
      · refine s_iconst (pc := 43) (v := 1) dX2_blocksBeneath_43 (by decide) ?_
        refine s_goto (pc := 44) (tgt := 48) dX2_blocksBeneath_44 (by decide) ?_
        exact s_sub (pc := 48) [1, 3] rfl (w_X2_blocksBeneath_48 (f_X2_blocksBeneath_10 n) ih a1 a3 1 a2 h90)
theorem w_X2_blocksBeneath (v0 : Option Nat) (v1 : Option Nat) (h : zH) : zS D z yX2_blocksBeneath cX2_blocksBeneath 5 (some .int) [] 10 h 0 [(0, va_rf v0), (1, va_rf v1)] [] (f_X2_blocksBeneath v0 v1 h) := by
  unfold f_X2_blocksBeneath
  refine s_iconst (pc := 0) (v := 0) dX2_blocksBeneath_0 (by decide) ?_
  refine s_ist_n (pc := 1) (L2 := [(0, va_rf v0), (1, va_rf v1)]) [0, 1] dX2_blocksBeneath_1 rfl (by decide) rfl rfl (zcB (j := 1) rfl (zcat_rf v1) rfl) ?_
  refine s_aload_n (pc := 2) 1 dX2_blocksBeneath_2 rfl rfl ?_
  refine s_gR (pc := 3) dX2_blocksBeneath_3 gf_X2_21 (fun r1 => ?_)
  refine zS_ite (fun ht => ?_) (fun _ => zS_none)
  refine s_callV (pc := 6) (np := 0) (as := []) (rest := []) dX2_blocksBeneath_6 ht (q := (RJ5, TJ5, 1)) rfl (c_J5_iterator (by decide) r1 h) rfl rfl q1950 q530 q3765 rfl (by decide) (zkR (fun r2 h3 => ?_)) zxo
  refine s_ast_n (pc := 9) (L2 := [(2, .int 0), (1, va_rf v1)]) [0, 2] dX2_blocksBeneath_9 rfl (by decide) rfl rfl (zcB (j := 0) rfl rfl rfl) ?_
  exact s_sub (pc := 10) [2, 1, 0] rfl (w_X2_blocksBeneath_10 zfuel v1 0 r2 h3)
theorem c_X2_blocksBeneath {d0 : Nat} (hd0 : 10 < d0) (v0 : Option Nat) (v1 : Option Nat) (h : zH) : zCal D z d0 h yX2_blocksBeneath [va_rf v0, va_rf v1] (f_X2_blocksBeneath v0 v1 h) :=
  ⟨cX2_blocksBeneath, 5, (some .int), [], 10, (show lv_args 0 [va_rf v0, va_rf v1] = [(0, va_rf v0), (1, va_rf v1)] by simp [lv_args, zcat_rf, zcat_i, zcat_l, zcat_f, zcat_d]) ▸ w_X2_blocksBeneath v0 v1 h, (plainFor_of_name (by decide)), by simp [lg_sl, zcat_rf, zcat_i, zcat_l, zcat_f, zcat_d], q1949, q96, hd0, by decide, by decide⟩
theorem w_X1_lambda_new_0 (v0 : Int32) (v1 : Option Nat) (v2 : Int32) (v3 : Int32) (h : zH) : zS D z yX1_lambda_new_0 cX1_lambda_new_0 4 (some .int) [] 1 h 0 [(0, .int v0), (1, va_rf v1), (2, .int v2), (3, .int v3)] [] (f_X1_lambda_new_0 v0 v1 v2 v3 h) := by
  unfold f_X1_lambda_new_0
  refine s_iload_n (pc := 0) 0 dX1_lambda_new_0_0 rfl rfl ?_
  exact s_iret (pc := 1) dX1_lambda_new_0_1 rfl
theorem c_X1_lambda_new_0 {d0 : Nat} (hd0 : 1 < d0) (v0 : Int32) (v1 : Option Nat) (v2 : Int32) (v3 : Int32) (h : zH) : zCal D z d0 h yX1_lambda_new_0 [.int v0, va_rf v1, .int v2, .int v3] (f_X1_lambda_new_0 v0 v1 v2 v3 h) :=
  ⟨cX1_lambda_new_0, 4, (some .int), [], 1, (show lv_args 0 [.int v0, va_rf v1, .int v2, .int v3] = [(0, .int v0), (1, va_rf v1), (2, .int v2), (3, .int v3)] by simp [lv_args, zcat_rf, zcat_i, zcat_l, zcat_f, zcat_d]) ▸ w_X1_lambda_new_0 v0 v1 v2 v3 h, (plainFor_of_name (by decide)), by simp [lg_sl, zcat_rf, zcat_i, zcat_l, zcat_f, zcat_d], q359, q95, hd0, by decide, by decide⟩
theorem w_X1_lambda_new_1 (v0 : Int32) (v1 : Option Nat) (v2 : Int32) (v3 : Int32) (h : zH) : zS D z yX1_lambda_new_1 cX1_lambda_new_1 4 (some .int) [] 3 h 0 [(0, .int v0), (1, va_rf v1), (2, .int v2), (3, .int v3)] [] (f_X1_lambda_new_1 v0 v1 v2 v3 h) := by
  unfold f_X1_lambda_new_1
  refine s_aload_n (pc := 0) 1 dX1_lambda_new_1_0 rfl rfl ?_
  refine s_iload_n (pc := 1) 3 dX1_lambda_new_1_1 rfl rfl ?_
  refine zS_ite (fun ht => ?_) (fun _ => zS_none)
  refine s_callV (pc := 2) (np := 1) (as := [.int v3]) (rest := []) dX1_lambda_new_1_2 ht (q := (RX6, TX6, 9)) rfl (c_X6_rests (by decide) v1 v3 h) rfl rfl q362 q363 q364 rfl (by decide) (zkI (fun x1 h2 => ?_)) zxo
  refine s_if_eq (pc := 5) (tgt := 17) dX1_lambda_new_1_5 (by decide) (fun _ => ?_) (fun _ => ?_)
  · refine s_iconst (pc := 17) (v := 0) dX1_lambda_new_1_17 (by decide) ?_
    exact s_iret (pc := 18) dX1_lambda_new_1_18 rfl
  · refine s_iload_n (pc := 8) 2 dX1_lambda_new_1_8 rfl rfl ?_
    refine s_iload_n (pc := 9) 0 dX1_lambda_new_1_9 rfl rfl ?_
    refine s_icmp_lt (pc := 10) (tgt := 17) dX1_lambda_new_1_10 (by decide) (fun _ => ?_) (fun _ => ?_)
    · refine s_iconst (pc := 17) (v := 0) dX1_lambda_new_1_17 (by decide) ?_
      exact s_iret (pc := 18) dX1_lambda_new_1_18 rfl
    · refine s_iload_n (pc := 13) 2 dX1_lambda_new_1_13 rfl rfl ?_
      refine s_goto (pc := 14) (tgt := 18) dX1_lambda_new_1_14 (by decide) ?_
      exact s_iret (pc := 18) dX1_lambda_new_1_18 rfl
theorem c_X1_lambda_new_1 {d0 : Nat} (hd0 : 3 < d0) (v0 : Int32) (v1 : Option Nat) (v2 : Int32) (v3 : Int32) (h : zH) : zCal D z d0 h yX1_lambda_new_1 [.int v0, va_rf v1, .int v2, .int v3] (f_X1_lambda_new_1 v0 v1 v2 v3 h) :=
  ⟨cX1_lambda_new_1, 4, (some .int), [], 3, (show lv_args 0 [.int v0, va_rf v1, .int v2, .int v3] = [(0, .int v0), (1, va_rf v1), (2, .int v2), (3, .int v3)] by simp [lv_args, zcat_rf, zcat_i, zcat_l, zcat_f, zcat_d]) ▸ w_X1_lambda_new_1 v0 v1 v2 v3 h, (plainFor_of_name (by decide)), by simp [lg_sl, zcat_rf, zcat_i, zcat_l, zcat_f, zcat_d], q361, q95, hd0, by decide, by decide⟩
theorem w_X6_clean_19 (a0 : Option Nat) (s0 : Int32) (h : zH) : zS D z yX6_clean cX6_clean 3 (some .int) [] 2 h 19 [(0, va_rf a0)] [.int s0] (f_X6_clean_19 a0 s0 h) := by
  unfold f_X6_clean_19
  refine s_ist_n (pc := 19) (L2 := [(0, va_rf a0)]) [0] dX6_clean_19 rfl (by decide) rfl rfl (zcA rfl) ?_
  refine s_aload_n (pc := 20) 1 dX6_clean_20 rfl rfl ?_
  refine s_dup (pc := 21) dX6_clean_21 (zcat_rf _) ?_
  refine s_gI (pc := 22) dX6_clean_22 gf_X6_21 (fun x5 => ?_)
  refine s_iload_n (pc := 25) 0 dX6_clean_25 rfl rfl ?_
  refine s_isub (pc := 26) dX6_clean_26 ?_
  refine s_putI (pc := 27) dX6_clean_27 pf_X6_21 (fun h6 => ?_)
  refine s_iload_n (pc := 30) 0 dX6_clean_30 rfl rfl ?_
  exact s_iret (pc := 31) dX6_clean_31 rfl
theorem w_X6_clean (v0 : Option Nat) (v1 : Int32) (h : zH) : zS D z yX6_clean cX6_clean 3 (some .int) [] 2 h 0 [(0, va_rf v0), (1, .int v1)] [] (f_X6_clean v0 v1 h) := by
  unfold f_X6_clean
  refine s_aload_n (pc := 0) 0 dX6_clean_0 rfl rfl ?_
  refine s_gI (pc := 1) dX6_clean_1 gf_X6_36 (fun x1 => ?_)
  refine s_if_eq (pc := 4) (tgt := 18) dX6_clean_4 (by decide) (fun _ => ?_) (fun _ => ?_)
  · refine s_iconst (pc := 18) (v := 0) dX6_clean_18 (by decide) ?_
    exact s_sub (pc := 19) [0] rfl (w_X6_clean_19 v0 0 h)
  · refine s_aload_n (pc := 7) 0 dX6_clean_7 rfl rfl ?_
    refine s_gI (pc := 8) dX6_clean_8 gf_X6_21 (fun x2 => ?_)
    refine s_iload_n (pc := 11) 1 dX6_clean_11 rfl rfl ?_
    refine s_callSS (pc := 12) (np := 2) (as := [.int x2, .int v1]) (rest := []) dX6_clean_12 (c_J11_min (by decide) x2 v1 h) rfl rfl q376 q377 rfl (by decide) (zkI (fun x3 h4 => ?_)) zxo
    refine s_goto (pc := 15) (tgt := 19) dX6_clean_15 (by decide) ?_
    exact s_sub (pc := 19) [0] rfl (w_X6_clean_19 v0 x3 h4)
theorem c_X6_clean {d0 : Nat} (hd0 : 2 < d0) (v0 : Option Nat) (v1 : Int32) (h : zH) : zCal D z d0 h yX6_clean [va_rf v0, .int v1] (f_X6_clean v0 v1 h) :=
  ⟨cX6_clean, 3, (some .int), [], 2, (show lv_args 0 [va_rf v0, .int v1] = [(0, va_rf v0), (1, .int v1)] by simp [lv_args, zcat_rf, zcat_i, zcat_l, zcat_f, zcat_d]) ▸ w_X6_clean v0 v1 h, (plainFor_of_name (by decide)), by simp [lg_sl, zcat_rf, zcat_i, zcat_l, zcat_f, zcat_d], q375, q142, hd0, by decide, by decide⟩
theorem w_X1_lambda_new_2 (v0 : Int32) (v1 : Int32) (v2 : Int32) (v3 : Option Nat) (v4 : Int32) (v5 : Int32) (h : zH) : zS D z yX1_lambda_new_2 cX1_lambda_new_2 6 (some .int) [] 3 h 0 [(0, .int v0), (1, .int v1), (2, .int v2), (3, va_rf v3), (4, .int v4), (5, .int v5)] [] (f_X1_lambda_new_2 v0 v1 v2 v3 v4 v5 h) := by
  unfold f_X1_lambda_new_2
  refine s_aload_n (pc := 0) 3 dX1_lambda_new_2_0 rfl rfl ?_
  refine s_iload (pc := 1) 5 dX1_lambda_new_2_1 rfl ?_
  refine zS_ite (fun ht => ?_) (fun _ => zS_none)
  refine s_callV (pc := 3) (np := 1) (as := [.int v5]) (rest := []) dX1_lambda_new_2_3 ht (q := (RX6, TX6, 9)) rfl (c_X6_rests (by decide) v3 v5 h) rfl rfl q362 q363 q364 rfl (by decide) (zkI (fun x1 h2 => ?_)) zxo
  refine s_if_eq (pc := 6) (tgt := 25) dX1_lambda_new_2_6 (by decide) (fun _ => ?_) (fun _ => ?_)
  · refine s_iconst (pc := 25) (v := 0) dX1_lambda_new_2_25 (by decide) ?_
    exact s_iret (pc := 26) dX1_lambda_new_2_26 rfl
  · refine s_iload (pc := 9) 4 dX1_lambda_new_2_9 rfl ?_
    refine s_iload_n (pc := 11) 0 dX1_lambda_new_2_11 rfl rfl ?_
    refine s_icmp_lt (pc := 12) (tgt := 25) dX1_lambda_new_2_12 (by decide) (fun _ => ?_) (fun _ => ?_)
    · refine s_iconst (pc := 25) (v := 0) dX1_lambda_new_2_25 (by decide) ?_
      exact s_iret (pc := 26) dX1_lambda_new_2_26 rfl
    · refine s_iload_n (pc := 15) 1 dX1_lambda_new_2_15 rfl rfl ?_
      refine s_aload_n (pc := 16) 3 dX1_lambda_new_2_16 rfl rfl ?_
      refine s_iload_n (pc := 17) 2 dX1_lambda_new_2_17 rfl rfl ?_
      refine zS_ite (fun ht => ?_) (fun _ => zS_none)
      refine s_callV (pc := 18) (np := 1) (as := [.int v2]) (rest := [.int v1]) dX1_lambda_new_2_18 ht (q := (RX6, TX6, 9)) rfl (c_X6_clean (by decide) v3 v2 h2) rfl rfl q372 q373 q374 rfl (by simp [zcat_rf, zcat_i, zcat_l, zcat_f, zcat_d]) (zkI (fun x3 h4 => ?_)) zxo
      refine s_imul (pc := 21) dX1_lambda_new_2_21 ?_
      refine s_goto (pc := 22) (tgt := 26) dX1_lambda_new_2_22 (by decide) ?_
      exact s_iret (pc := 26) dX1_lambda_new_2_26 rfl
theorem c_X1_lambda_new_2 {d0 : Nat} (hd0 : 3 < d0) (v0 : Int32) (v1 : Int32) (v2 : Int32) (v3 : Option Nat) (v4 : Int32) (v5 : Int32) (h : zH) : zCal D z d0 h yX1_lambda_new_2 [.int v0, .int v1, .int v2, va_rf v3, .int v4, .int v5] (f_X1_lambda_new_2 v0 v1 v2 v3 v4 v5 h) :=
  ⟨cX1_lambda_new_2, 6, (some .int), [], 3, (show lv_args 0 [.int v0, .int v1, .int v2, va_rf v3, .int v4, .int v5] = [(0, .int v0), (1, .int v1), (2, .int v2), (3, va_rf v3), (4, .int v4), (5, .int v5)] by simp [lv_args, zcat_rf, zcat_i, zcat_l, zcat_f, zcat_d]) ▸ w_X1_lambda_new_2 v0 v1 v2 v3 v4 v5 h, (plainFor_of_name (by decide)), by simp [lg_sl, zcat_rf, zcat_i, zcat_l, zcat_f, zcat_d], q371, q95, hd0, by decide, by decide⟩
theorem c_ch_coins {d0 : Nat} (hd0 : 3 < d0) (v0 : Option Nat) (v1 : Option Nat) (v2 : Int32) (v3 : Int32) (h : zH) : zLC D z d0 h v0 [va_rf v1, .int v2, .int v3] ⟨"FloatingDock$Charge", "coins", "(LFloatingDock$Ship;II)I"⟩ (f_ch_coins v0 v1 v2 v3 h) :=
  zlamif (fun ht => zlv1_C ht (Or.inl rfl) (fun a fr c0 ha hm => Or.inr ⟨300, a, fr, [.int c0], zSh siteWord_1_1, ⟨#[0x2a, 0xb4, 0x00, 0x0f, 0x2b, 0x1c, 0x1d, 0xb8, 0x00, 0x17, 0xac]⟩, 4, [15], [true, false, false], 23, true, yX1_lambda_new_0, f_X1_lambda_new_0 c0 v1 v2 v3 h, ha, hm, rfl, rfl, by decide +kernel, by decide +kernel, zk_0, zc_0, by decide +kernel, by decide +kernel, c_X1_lambda_new_0 (Nat.lt_of_le_of_lt (by decide) hd0) c0 v1 v2 v3 h, rfl, rfl, rfl, rfl, (zKdR v1 (zKdI v2 (zKdI v3 zKd0))), rfl, q358⟩)) <|
  zlamif (fun ht => zlv1_C ht (Or.inl rfl) (fun a fr c0 ha hm => Or.inr ⟨301, a, fr, [.int c0], zSh siteWord_1_2, ⟨#[0x2a, 0xb4, 0x00, 0x0f, 0x2b, 0x1c, 0x1d, 0xb8, 0x00, 0x17, 0xac]⟩, 4, [15], [true, false, false], 23, true, yX1_lambda_new_1, f_X1_lambda_new_1 c0 v1 v2 v3 h, ha, hm, rfl, rfl, by decide +kernel, by decide +kernel, zk_1, zc_1, by decide +kernel, by decide +kernel, c_X1_lambda_new_1 (Nat.lt_of_le_of_lt (by decide) hd0) c0 v1 v2 v3 h, rfl, rfl, rfl, rfl, (zKdR v1 (zKdI v2 (zKdI v3 zKd0))), rfl, q360⟩)) <|
  zlamif (fun ht => zlv3_C ht (Or.inl rfl) (fun a fr c0 c1 c2 ha hm => Or.inr ⟨302, a, fr, [.int c0, .int c1, .int c2], zSh siteWord_1_3, ⟨#[0x2a, 0xb4, 0x00, 0x11, 0x2a, 0xb4, 0x00, 0x13, 0x2a, 0xb4, 0x00, 0x15, 0x2b, 0x1c, 0x1d, 0xb8, 0x00, 0x1d, 0xac]⟩, 4, [17, 19, 21], [true, false, false], 29, true, yX1_lambda_new_2, f_X1_lambda_new_2 c0 c1 c2 v1 v2 v3 h, ha, hm, rfl, rfl, by decide +kernel, by decide +kernel, zk_2, zc_2, by decide +kernel, by decide +kernel, c_X1_lambda_new_2 (Nat.lt_of_le_of_lt (by decide) hd0) c0 c1 c2 v1 v2 v3 h, rfl, rfl, rfl, rfl, (zKdR v1 (zKdI v2 (zKdI v3 zKd0))), rfl, q370⟩)) <|
  Or.inl rfl
theorem w_X2_spendHour_62 : ∀ (n : Nat) (a0 : Option Nat) (a1 : Option Nat) (a3 : Int32) (a4 : Int32) (a5 : Option Nat) (a6 : Int32) (a7 : Int32) (h : zH), zS D z yX2_spendHour cX2_spendHour 10 none [] 11 h 62 [(0, va_rf a0), (1, va_rf a1), (3, .int a3), (4, .int a4), (5, va_rf a5), (6, .int a6), (7, .int a7)] [] (f_X2_spendHour_62 n a0 a1 a3 a4 a5 a6 a7 h) := by
  intro n
  induction n with
  | zero => intros; exact zS_none
  | succ n ih =>
    intro a0 a1 a3 a4 a5 a6 a7 h
    rw [f_X2_spendHour_62.eq_2]
    refine s_iload (pc := 62) 6 dX2_spendHour_62 rfl ?_
    refine s_iload (pc := 64) 5 dX2_spendHour_64 rfl ?_
    refine s_icmp_ge (pc := 66) (tgt := 119) dX2_spendHour_66 (by decide) (fun _ => ?_) (fun _ => ?_)
    · refine s_aload_n (pc := 119) 0 dX2_spendHour_119 rfl rfl ?_
      refine s_dup (pc := 120) dX2_spendHour_120 (zcat_rf _) ?_
      refine s_gI (pc := 121) dX2_spendHour_121 gf_X2_87 (fun x12 => ?_)
      refine s_iload (pc := 124) 3 dX2_spendHour_124 rfl ?_
      refine s_aload_n (pc := 126) 1 dX2_spendHour_126 rfl rfl ?_
      refine s_gI (pc := 127) dX2_spendHour_127 gf_X2_176 (fun x13 => ?_)
      refine s_isub (pc := 130) dX2_spendHour_130 ?_
      refine s_iadd (pc := 131) dX2_spendHour_131 ?_
      refine s_putI (pc := 132) dX2_spendHour_132 pf_X2_87 (fun h14 => ?_)
      exact s_vret (pc := 135) dX2_spendHour_135 rfl
    · refine s_aload (pc := 69) 4 dX2_spendHour_69 rfl ?_
      refine s_iload (pc := 71) 6 dX2_spendHour_71 rfl ?_
      refine s_aald (pc := 73) dX2_spendHour_73 zrefs_ok (fun r15 => ?_)
      refine s_ast (pc := 74) (L2 := [(0, va_rf a0), (1, va_rf a1), (3, .int a3), (4, .int a4), (5, va_rf a5), (6, .int a6), (7, .int a7)]) [0, 1, 2, 3, 4, 5, 6] dX2_spendHour_74 (by decide) rfl rfl (zcB (j := 6) rfl rfl rfl) ?_
      refine s_aload (pc := 76) 0 dX2_spendHour_76 rfl ?_
      refine s_aload_n (pc := 78) 2 dX2_spendHour_78 rfl rfl ?_
      refine s_iload_n (pc := 79) 3 dX2_spendHour_79 rfl rfl ?_
      refine s_aload_n (pc := 80) 1 dX2_spendHour_80 rfl rfl ?_
      refine s_gI (pc := 81) dX2_spendHour_81 gf_X2_25 (fun x16 => ?_)
      refine s_callL (pc := 84) (np := 3) (as := [va_rf a1, .int a3, .int x16]) (rest := []) (d' := 4) dX2_spendHour_84 (by decide) (c_ch_coins (by decide) r15 a1 a3 x16 h) rfl rfl q2693 rfl (by decide) (zkI (fun x17 h18 => ?_)) zxo
      refine s_ist (pc := 89) (L2 := [(0, va_rf a0), (1, va_rf a1), (3, .int a3), (4, .int a4), (5, va_rf a5), (6, .int a6), (7, .int a7)]) [1, 2, 3, 4, 5, 6, 7] dX2_spendHour_89 (by decide) rfl rfl (zcA rfl) ?_
      refine s_aload_n (pc := 91) 2 dX2_spendHour_91 rfl rfl ?_
      refine s_dup (pc := 92) dX2_spendHour_92 (zcat_rf _) ?_
      refine s_gI (pc := 93) dX2_spendHour_93 gf_X2_170 (fun x19 => ?_)
      refine s_iload (pc := 96) 0 dX2_spendHour_96 rfl ?_
      refine s_iadd (pc := 98) dX2_spendHour_98 ?_
      refine s_putI (pc := 99) dX2_spendHour_99 pf_X2_170 (fun h20 => ?_)
      refine s_aload_n (pc := 102) 1 dX2_spendHour_102 rfl rfl ?_
      refine s_dup (pc := 103) dX2_spendHour_103 (zcat_rf _) ?_
      refine s_gI (pc := 104) dX2_spendHour_104 gf_X2_90 (fun x21 => ?_)
      refine s_iload (pc := 107) 0 dX2_spendHour_107 rfl ?_
      refine s_iadd (pc := 109) dX2_spendHour_109 ?_
      refine s_putI (pc := 110) dX2_spendHour_110 pf_X2_90 (fun h22 => ?_)
      refine s_inc (pc := 113) (v := 1) (L2 := [(0, va_rf a0), (1, va_rf a1), (3, .int a3), (4, .int a4), (5, va_rf a5), (6, .int a6)]) 7 [1, 2, 3, 4, 5, 6] dX2_spendHour_113 rfl (by decide) (by decide) rfl rfl (zcB (j := 5) rfl rfl rfl) (fun x23 => ?_)
      refine s_goto (pc := 116) (tgt := 62) dX2_spendHour_116 (by decide) ?_
      exact s_sub (pc := 62) [1, 2, 3, 4, 5, 6, 0] rfl (ih a0 a1 a3 a4 a5 a6 x23 h22)
theorem w_X2_spendHour_51 (a0 : Option Nat) (a1 : Option Nat) (a2 : Option Nat) (a3 : Int32) (a4 : Int32) (h : zH) : zS D z yX2_spendHour cX2_spendHour 10 none [] 11 h 51 [(0, va_rf a0), (1, va_rf a1), (2, va_rf a2), (3, .int a3), (4, .int a4)] [] (f_X2_spendHour_51 a0 a1 a2 a3 a4 h) := by
  unfold f_X2_spendHour_51
  refine s_aload_n (pc := 51) 2 dX2_spendHour_51 rfl rfl ?_
  refine s_ast (pc := 52) (L2 := [(0, va_rf a0), (1, va_rf a1), (3, .int a3), (4, .int a4)]) [0, 1, 3, 4] dX2_spendHour_52 (by decide) rfl rfl (zcB (j := 3) rfl rfl rfl) ?_
  refine s_aload (pc := 54) 0 dX2_spendHour_54 rfl ?_
  refine s_alen (pc := 56) dX2_spendHour_56 zarrs_ok (fun x11 => ?_)
  refine s_ist (pc := 57) (L2 := [(5, va_rf a2), (0, va_rf a0), (1, va_rf a1), (3, .int a3), (4, .int a4)]) [0, 1, 2, 3, 4] dX2_spendHour_57 (by decide) rfl rfl (zcB (j := 0) rfl (zcat_rf a2) rfl) ?_
  refine s_iconst (pc := 59) (v := 0) dX2_spendHour_59 (by decide) ?_
  refine s_ist (pc := 60) (L2 := [(6, .int x11), (5, va_rf a2), (0, va_rf a0), (1, va_rf a1), (3, .int a3), (4, .int a4)]) [0, 1, 2, 3, 4, 5] dX2_spendHour_60 (by decide) rfl rfl (zcB (j := 0) rfl rfl rfl) ?_
  exact s_sub (pc := 62) [3, 4, 5, 6, 2, 1, 0] rfl (w_X2_spendHour_62 zfuel a0 a1 a3 a4 a2 x11 0 h)
theorem w_X2_spendHour (v0 : Option Nat) (v1 : Option Nat) (v2 : Option Nat) (h : zH) : zS D z yX2_spendHour cX2_spendHour 10 none [] 11 h 0 [(0, va_rf v0), (1, va_rf v1), (2, va_rf v2)] [] (f_X2_spendHour v0 v1 v2 h) := by
  unfold f_X2_spendHour
  refine s_aload_n (pc := 0) 0 dX2_spendHour_0 rfl rfl ?_
  refine s_aload_n (pc := 1) 1 dX2_spendHour_1 rfl rfl ?_
  refine zS_ite (fun ht => ?_) (fun _ => zS_none)
  refine s_callV (pc := 2) (np := 1) (as := [va_rf v1]) (rest := []) dX2_spendHour_2 ht (q := (RX2, TX2, 10)) rfl (c_X2_blocksBeneath (by decide) v0 v1 h) rfl rfl q1946 q1947 q1948 rfl (by decide) (zkI (fun x1 h2 => ?_)) zxo
  refine s_ist_n (pc := 5) (L2 := [(0, va_rf v0), (1, va_rf v1), (2, va_rf v2)]) [0, 1, 2] dX2_spendHour_5 rfl (by decide) rfl rfl (zcB (j := 2) rfl (zcat_rf v2) rfl) ?_
  refine s_aload_n (pc := 6) 2 dX2_spendHour_6 rfl rfl ?_
  refine s_gI (pc := 7) dX2_spendHour_7 gf_X2_176 (fun x3 => ?_)
  refine s_ist (pc := 10) (L2 := [(3, .int x1), (0, va_rf v0), (1, va_rf v1), (2, va_rf v2)]) [0, 1, 2, 3] dX2_spendHour_10 (by decide) rfl rfl (zcB (j := 0) rfl rfl rfl) ?_
  refine s_aload_n (pc := 12) 3 dX2_spendHour_12 rfl rfl ?_
  refine s_aload_n (pc := 13) 2 dX2_spendHour_13 rfl rfl ?_
  refine s_gI (pc := 14) dX2_spendHour_14 gf_X2_25 (fun x4 => ?_)
  refine zS_ite (fun ht => ?_) (fun _ => zS_none)
  refine s_callV (pc := 17) (np := 1) (as := [.int x4]) (rest := []) dX2_spendHour_17 ht (q := (RX6, TX6, 9)) rfl (c_X6_rests (by decide) v1 x4 h2) rfl rfl q2504 q363 q364 rfl (by decide) (zkI (fun x5 h6 => ?_)) zxo
  refine s_if_ne (pc := 20) (tgt := 36) dX2_spendHour_20 (by decide) (fun _ => ?_) (fun _ => ?_)
  · refine s_iload_n (pc := 36) 1 dX2_spendHour_36 rfl rfl ?_
    refine s_iconst (pc := 37) (v := 2) dX2_spendHour_37 (by decide) ?_
    refine s_icmp_ge (pc := 38) (tgt := 51) dX2_spendHour_38 (by decide) (fun _ => ?_) (fun _ => ?_)
    · exact s_sub (pc := 51) [2, 3, 4, 1, 0] rfl (w_X2_spendHour_51 v0 v1 v2 x1 x3 h6)
    · refine s_aload_n (pc := 41) 3 dX2_spendHour_41 rfl rfl ?_
      refine s_dup (pc := 42) dX2_spendHour_42 (zcat_rf _) ?_
      refine s_gI (pc := 43) dX2_spendHour_43 gf_X2_240 (fun x7 => ?_)
      refine s_iconst (pc := 46) (v := 1) dX2_spendHour_46 (by decide) ?_
      refine s_iadd (pc := 47) dX2_spendHour_47 ?_
      refine s_putI (pc := 48) dX2_spendHour_48 pf_X2_240 (fun h8 => ?_)
      exact s_sub (pc := 51) [2, 3, 4, 1, 0] rfl (w_X2_spendHour_51 v0 v1 v2 x1 x3 h8)
  · refine s_aload_n (pc := 23) 3 dX2_spendHour_23 rfl rfl ?_
    refine s_dup (pc := 24) dX2_spendHour_24 (zcat_rf _) ?_
    refine s_gI (pc := 25) dX2_spendHour_25 gf_X2_237 (fun x9 => ?_)
    refine s_iconst (pc := 28) (v := 1) dX2_spendHour_28 (by decide) ?_
    refine s_iadd (pc := 29) dX2_spendHour_29 ?_
    refine s_putI (pc := 30) dX2_spendHour_30 pf_X2_237 (fun h10 => ?_)
    refine s_goto (pc := 33) (tgt := 51) dX2_spendHour_33 (by decide) ?_
    exact s_sub (pc := 51) [2, 3, 4, 1, 0] rfl (w_X2_spendHour_51 v0 v1 v2 x1 x3 h10)
theorem c_X2_spendHour {d0 : Nat} (hd0 : 11 < d0) (v0 : Option Nat) (v1 : Option Nat) (v2 : Option Nat) (h : zH) : zCal D z d0 h yX2_spendHour [va_rf v0, va_rf v1, va_rf v2] (f_X2_spendHour v0 v1 v2 h) :=
  ⟨cX2_spendHour, 10, none, [], 11, (show lv_args 0 [va_rf v0, va_rf v1, va_rf v2] = [(0, va_rf v0), (1, va_rf v1), (2, va_rf v2)] by simp [lv_args, zcat_rf, zcat_i, zcat_l, zcat_f, zcat_d]) ▸ w_X2_spendHour v0 v1 v2 h, (plainFor_of_name (by decide)), by simp [lg_sl, zcat_rf, zcat_i, zcat_l, zcat_f, zcat_d], q2691, q96, hd0, by decide, by decide⟩
theorem w_X2_passHour_59 (K27 : Option Nat → Option Nat → Option Nat → zH → zO) (hK27 : ∀ (a0 : Option Nat) (a1 : Option Nat) (a2 : Option Nat) (h : zH), zS D z yX2_passHour cX2_passHour 4 none [] 12 h 27 [(0, va_rf a0), (1, va_rf a1), (2, va_rf a2)] [] (K27 a0 a1 a2 h)) (a0 : Option Nat) (a1 : Option Nat) (a2 : Option Nat) (h : zH) : zS D z yX2_passHour cX2_passHour 4 none [] 12 h 59 [(0, va_rf a0), (1, va_rf a1), (2, va_rf a2)] [] (f_X2_passHour_59 K27 a0 a1 a2 h) := by
  unfold f_X2_passHour_59
  refine s_goto (pc := 59) (tgt := 27) dX2_passHour_59 (by decide) ?_
  exact s_sub (pc := 27) [0, 1, 2] rfl (hK27 a0 a1 a2 h)
theorem w_X2_passHour_27 : ∀ (n : Nat) (a0 : Option Nat) (a1 : Option Nat) (a2 : Option Nat) (h : zH), zS D z yX2_passHour cX2_passHour 4 none [] 12 h 27 [(0, va_rf a0), (1, va_rf a1), (2, va_rf a2)] [] (f_X2_passHour_27 n a0 a1 a2 h) := by
  intro n
  induction n with
  | zero => intros; exact zS_none
  | succ n ih =>
    intro a0 a1 a2 h
    rw [f_X2_passHour_27.eq_2]
    refine s_aload_n (pc := 27) 2 dX2_passHour_27 rfl rfl ?_
    refine zS_ite (fun ht => ?_) (fun _ => ?_)
    · refine s_callF (pc := 28) (np := 0) (as := []) (rest := []) dX2_passHour_28 ht (q := (RX9, TX9, 2)) rfl (c_X9_hasNext (by decide) a2 h) ⟨_, _, _, q637⟩ rfl rfl q629 (by decide +kernel) q635 q633 rfl (by decide) (zkI (fun x9 h10 => ?_)) zxo
      refine s_if_eq (pc := 33) (tgt := 62) dX2_passHour_33 (by decide) (fun _ => ?_) (fun _ => ?_)
      · exact s_vret (pc := 62) dX2_passHour_62 rfl
      · refine s_aload_n (pc := 36) 2 dX2_passHour_36 rfl rfl ?_
        refine zS_ite (fun ht => ?_) (fun _ => ?_)
        · refine s_callF (pc := 37) (np := 0) (as := []) (rest := []) dX2_passHour_37 ht (q := (RX9, TX9, 2)) rfl (c_X9_next (by decide) a2 h10) ⟨_, _, _, q677⟩ rfl rfl q670 (by decide +kernel) q675 q673 rfl (by decide) (zkR (fun r11 h12 => ?_)) zxo
          refine s_cast (pc := 42) dX2_passHour_42 q836 zcs_FloatingDock_Ship ?_
          refine s_ast_n (pc := 45) (L2 := [(0, va_rf a0), (1, va_rf a1), (2, va_rf a2)]) [0, 1, 2] dX2_passHour_45 rfl (by decide) rfl rfl (zcB (j := 2) rfl (zcat_rf a2) rfl) ?_
          refine s_aload_n (pc := 46) 0 dX2_passHour_46 rfl rfl ?_
          refine zS_ite (fun ht => ?_) (fun _ => zS_none)
          refine s_callV (pc := 47) (np := 0) (as := []) (rest := []) dX2_passHour_47 ht (q := (RX6, TX6, 9)) rfl (c_X6_isInDock (by decide) r11 h12) rfl rfl q837 q367 q368 rfl (by decide) (zkI (fun x13 h14 => ?_)) zxo
          refine s_if_eq (pc := 50) (tgt := 59) dX2_passHour_50 (by decide) (fun _ => ?_) (fun _ => ?_)
          · exact s_sub (pc := 59) [1, 2, 3] rfl (w_X2_passHour_59 (f_X2_passHour_27 n) ih a0 a1 a2 h14)
          · refine s_aload_n (pc := 53) 1 dX2_passHour_53 rfl rfl ?_
            refine s_aload_n (pc := 54) 0 dX2_passHour_54 rfl rfl ?_
            refine s_aload_n (pc := 55) 2 dX2_passHour_55 rfl rfl ?_
            refine zS_ite (fun ht => ?_) (fun _ => zS_none)
            refine s_callV (pc := 56) (np := 2) (as := [va_rf r11, va_rf a1]) (rest := []) dX2_passHour_56 ht (q := (RX2, TX2, 10)) rfl (c_X2_spendHour (by decide) a0 r11 a1 h14) rfl rfl q2688 q2690 qs25 rfl (by decide) (zkV (fun h15 => ?_)) zxo
            exact s_sub (pc := 59) [1, 2, 3] rfl (w_X2_passHour_59 (f_X2_passHour_27 n) ih a0 a1 a2 h15)
        refine zS_ite (fun ht => ?_) (fun _ => ?_)
        · refine s_callF (pc := 37) (np := 0) (as := []) (rest := []) dX2_passHour_37 ht (q := (RJ15, TJ15, 4)) rfl (c_J15_next (by decide) a2 h10) ⟨_, _, _, q788⟩ rfl rfl q670 (by decide +kernel) q786 q784 rfl (by decide) (zkR (fun r11 h12 => ?_)) zxo
          refine s_cast (pc := 42) dX2_passHour_42 q836 zcs_FloatingDock_Ship ?_
          refine s_ast_n (pc := 45) (L2 := [(0, va_rf a0), (1, va_rf a1), (2, va_rf a2)]) [0, 1, 2] dX2_passHour_45 rfl (by decide) rfl rfl (zcB (j := 2) rfl (zcat_rf a2) rfl) ?_
          refine s_aload_n (pc := 46) 0 dX2_passHour_46 rfl rfl ?_
          refine zS_ite (fun ht => ?_) (fun _ => zS_none)
          refine s_callV (pc := 47) (np := 0) (as := []) (rest := []) dX2_passHour_47 ht (q := (RX6, TX6, 9)) rfl (c_X6_isInDock (by decide) r11 h12) rfl rfl q837 q367 q368 rfl (by decide) (zkI (fun x16 h17 => ?_)) zxo
          refine s_if_eq (pc := 50) (tgt := 59) dX2_passHour_50 (by decide) (fun _ => ?_) (fun _ => ?_)
          · exact s_sub (pc := 59) [1, 2, 3] rfl (w_X2_passHour_59 (f_X2_passHour_27 n) ih a0 a1 a2 h17)
          · refine s_aload_n (pc := 53) 1 dX2_passHour_53 rfl rfl ?_
            refine s_aload_n (pc := 54) 0 dX2_passHour_54 rfl rfl ?_
            refine s_aload_n (pc := 55) 2 dX2_passHour_55 rfl rfl ?_
            refine zS_ite (fun ht => ?_) (fun _ => zS_none)
            refine s_callV (pc := 56) (np := 2) (as := [va_rf r11, va_rf a1]) (rest := []) dX2_passHour_56 ht (q := (RX2, TX2, 10)) rfl (c_X2_spendHour (by decide) a0 r11 a1 h17) rfl rfl q2688 q2690 qs25 rfl (by decide) (zkV (fun h18 => ?_)) zxo
            exact s_sub (pc := 59) [1, 2, 3] rfl (w_X2_passHour_59 (f_X2_passHour_27 n) ih a0 a1 a2 h18)
        refine zS_ite (fun ht => ?_) (fun _ => ?_)
        · refine s_callF (pc := 37) (np := 0) (as := []) (rest := []) dX2_passHour_37 ht (q := (RJ17, TJ17, 5)) rfl (c_J17_next (by decide) a2 h10) ⟨_, _, _, q799⟩ rfl rfl q670 (by decide +kernel) q797 q795 rfl (by decide) (zkR (fun r11 h12 => ?_)) zxo
          refine s_cast (pc := 42) dX2_passHour_42 q836 zcs_FloatingDock_Ship ?_
          refine s_ast_n (pc := 45) (L2 := [(0, va_rf a0), (1, va_rf a1), (2, va_rf a2)]) [0, 1, 2] dX2_passHour_45 rfl (by decide) rfl rfl (zcB (j := 2) rfl (zcat_rf a2) rfl) ?_
          refine s_aload_n (pc := 46) 0 dX2_passHour_46 rfl rfl ?_
          refine zS_ite (fun ht => ?_) (fun _ => zS_none)
          refine s_callV (pc := 47) (np := 0) (as := []) (rest := []) dX2_passHour_47 ht (q := (RX6, TX6, 9)) rfl (c_X6_isInDock (by decide) r11 h12) rfl rfl q837 q367 q368 rfl (by decide) (zkI (fun x19 h20 => ?_)) zxo
          refine s_if_eq (pc := 50) (tgt := 59) dX2_passHour_50 (by decide) (fun _ => ?_) (fun _ => ?_)
          · exact s_sub (pc := 59) [1, 2, 3] rfl (w_X2_passHour_59 (f_X2_passHour_27 n) ih a0 a1 a2 h20)
          · refine s_aload_n (pc := 53) 1 dX2_passHour_53 rfl rfl ?_
            refine s_aload_n (pc := 54) 0 dX2_passHour_54 rfl rfl ?_
            refine s_aload_n (pc := 55) 2 dX2_passHour_55 rfl rfl ?_
            refine zS_ite (fun ht => ?_) (fun _ => zS_none)
            refine s_callV (pc := 56) (np := 2) (as := [va_rf r11, va_rf a1]) (rest := []) dX2_passHour_56 ht (q := (RX2, TX2, 10)) rfl (c_X2_spendHour (by decide) a0 r11 a1 h20) rfl rfl q2688 q2690 qs25 rfl (by decide) (zkV (fun h21 => ?_)) zxo
            exact s_sub (pc := 59) [1, 2, 3] rfl (w_X2_passHour_59 (f_X2_passHour_27 n) ih a0 a1 a2 h21)
        refine zS_ite (fun ht => ?_) (fun _ => ?_)
        · refine s_callF (pc := 37) (np := 0) (as := []) (rest := []) dX2_passHour_37 ht (q := (RJ21, TJ21, 5)) rfl (c_J21_next (by decide) a2 h10) ⟨_, _, _, q812⟩ rfl rfl q670 (by decide +kernel) q810 q808 rfl (by decide) (zkR (fun r11 h12 => ?_)) zxo
          refine s_cast (pc := 42) dX2_passHour_42 q836 zcs_FloatingDock_Ship ?_
          refine s_ast_n (pc := 45) (L2 := [(0, va_rf a0), (1, va_rf a1), (2, va_rf a2)]) [0, 1, 2] dX2_passHour_45 rfl (by decide) rfl rfl (zcB (j := 2) rfl (zcat_rf a2) rfl) ?_
          refine s_aload_n (pc := 46) 0 dX2_passHour_46 rfl rfl ?_
          refine zS_ite (fun ht => ?_) (fun _ => zS_none)
          refine s_callV (pc := 47) (np := 0) (as := []) (rest := []) dX2_passHour_47 ht (q := (RX6, TX6, 9)) rfl (c_X6_isInDock (by decide) r11 h12) rfl rfl q837 q367 q368 rfl (by decide) (zkI (fun x22 h23 => ?_)) zxo
          refine s_if_eq (pc := 50) (tgt := 59) dX2_passHour_50 (by decide) (fun _ => ?_) (fun _ => ?_)
          · exact s_sub (pc := 59) [1, 2, 3] rfl (w_X2_passHour_59 (f_X2_passHour_27 n) ih a0 a1 a2 h23)
          · refine s_aload_n (pc := 53) 1 dX2_passHour_53 rfl rfl ?_
            refine s_aload_n (pc := 54) 0 dX2_passHour_54 rfl rfl ?_
            refine s_aload_n (pc := 55) 2 dX2_passHour_55 rfl rfl ?_
            refine zS_ite (fun ht => ?_) (fun _ => zS_none)
            refine s_callV (pc := 56) (np := 2) (as := [va_rf r11, va_rf a1]) (rest := []) dX2_passHour_56 ht (q := (RX2, TX2, 10)) rfl (c_X2_spendHour (by decide) a0 r11 a1 h23) rfl rfl q2688 q2690 qs25 rfl (by decide) (zkV (fun h24 => ?_)) zxo
            exact s_sub (pc := 59) [1, 2, 3] rfl (w_X2_passHour_59 (f_X2_passHour_27 n) ih a0 a1 a2 h24)
        refine zS_ite (fun ht => ?_) (fun _ => zS_none)
        refine s_callF (pc := 37) (np := 0) (as := []) (rest := []) dX2_passHour_37 ht (q := (RJ22, TJ22, 5)) rfl (c_J22_next (by decide) a2 h10) ⟨_, _, _, q832⟩ rfl rfl q670 (by decide +kernel) q830 q828 rfl (by decide) (zkR (fun r11 h12 => ?_)) zxo
        refine s_cast (pc := 42) dX2_passHour_42 q836 zcs_FloatingDock_Ship ?_
        refine s_ast_n (pc := 45) (L2 := [(0, va_rf a0), (1, va_rf a1), (2, va_rf a2)]) [0, 1, 2] dX2_passHour_45 rfl (by decide) rfl rfl (zcB (j := 2) rfl (zcat_rf a2) rfl) ?_
        refine s_aload_n (pc := 46) 0 dX2_passHour_46 rfl rfl ?_
        refine zS_ite (fun ht => ?_) (fun _ => zS_none)
        refine s_callV (pc := 47) (np := 0) (as := []) (rest := []) dX2_passHour_47 ht (q := (RX6, TX6, 9)) rfl (c_X6_isInDock (by decide) r11 h12) rfl rfl q837 q367 q368 rfl (by decide) (zkI (fun x25 h26 => ?_)) zxo
        refine s_if_eq (pc := 50) (tgt := 59) dX2_passHour_50 (by decide) (fun _ => ?_) (fun _ => ?_)
        · exact s_sub (pc := 59) [1, 2, 3] rfl (w_X2_passHour_59 (f_X2_passHour_27 n) ih a0 a1 a2 h26)
        · refine s_aload_n (pc := 53) 1 dX2_passHour_53 rfl rfl ?_
          refine s_aload_n (pc := 54) 0 dX2_passHour_54 rfl rfl ?_
          refine s_aload_n (pc := 55) 2 dX2_passHour_55 rfl rfl ?_
          refine zS_ite (fun ht => ?_) (fun _ => zS_none)
          refine s_callV (pc := 56) (np := 2) (as := [va_rf r11, va_rf a1]) (rest := []) dX2_passHour_56 ht (q := (RX2, TX2, 10)) rfl (c_X2_spendHour (by decide) a0 r11 a1 h26) rfl rfl q2688 q2690 qs25 rfl (by decide) (zkV (fun h27 => ?_)) zxo
          exact s_sub (pc := 59) [1, 2, 3] rfl (w_X2_passHour_59 (f_X2_passHour_27 n) ih a0 a1 a2 h27)
    refine zS_ite (fun ht => ?_) (fun _ => ?_)
    · refine s_callF (pc := 28) (np := 0) (as := []) (rest := []) dX2_passHour_28 ht (q := (RJ15, TJ15, 4)) rfl (c_J15_hasNext (by decide) a2 h) ⟨_, _, _, q653⟩ rfl rfl q629 (by decide +kernel) q651 q649 rfl (by decide) (zkI (fun x9 h10 => ?_)) zxo
      refine s_if_eq (pc := 33) (tgt := 62) dX2_passHour_33 (by decide) (fun _ => ?_) (fun _ => ?_)
      · exact s_vret (pc := 62) dX2_passHour_62 rfl
      · refine s_aload_n (pc := 36) 2 dX2_passHour_36 rfl rfl ?_
        refine zS_ite (fun ht => ?_) (fun _ => ?_)
        · refine s_callF (pc := 37) (np := 0) (as := []) (rest := []) dX2_passHour_37 ht (q := (RX9, TX9, 2)) rfl (c_X9_next (by decide) a2 h10) ⟨_, _, _, q677⟩ rfl rfl q670 (by decide +kernel) q675 q673 rfl (by decide) (zkR (fun r28 h29 => ?_)) zxo
          refine s_cast (pc := 42) dX2_passHour_42 q836 zcs_FloatingDock_Ship ?_
          refine s_ast_n (pc := 45) (L2 := [(0, va_rf a0), (1, va_rf a1), (2, va_rf a2)]) [0, 1, 2] dX2_passHour_45 rfl (by decide) rfl rfl (zcB (j := 2) rfl (zcat_rf a2) rfl) ?_
          refine s_aload_n (pc := 46) 0 dX2_passHour_46 rfl rfl ?_
          refine zS_ite (fun ht => ?_) (fun _ => zS_none)
          refine s_callV (pc := 47) (np := 0) (as := []) (rest := []) dX2_passHour_47 ht (q := (RX6, TX6, 9)) rfl (c_X6_isInDock (by decide) r28 h29) rfl rfl q837 q367 q368 rfl (by decide) (zkI (fun x30 h31 => ?_)) zxo
          refine s_if_eq (pc := 50) (tgt := 59) dX2_passHour_50 (by decide) (fun _ => ?_) (fun _ => ?_)
          · exact s_sub (pc := 59) [1, 2, 3] rfl (w_X2_passHour_59 (f_X2_passHour_27 n) ih a0 a1 a2 h31)
          · refine s_aload_n (pc := 53) 1 dX2_passHour_53 rfl rfl ?_
            refine s_aload_n (pc := 54) 0 dX2_passHour_54 rfl rfl ?_
            refine s_aload_n (pc := 55) 2 dX2_passHour_55 rfl rfl ?_
            refine zS_ite (fun ht => ?_) (fun _ => zS_none)
            refine s_callV (pc := 56) (np := 2) (as := [va_rf r28, va_rf a1]) (rest := []) dX2_passHour_56 ht (q := (RX2, TX2, 10)) rfl (c_X2_spendHour (by decide) a0 r28 a1 h31) rfl rfl q2688 q2690 qs25 rfl (by decide) (zkV (fun h32 => ?_)) zxo
            exact s_sub (pc := 59) [1, 2, 3] rfl (w_X2_passHour_59 (f_X2_passHour_27 n) ih a0 a1 a2 h32)
        refine zS_ite (fun ht => ?_) (fun _ => ?_)
        · refine s_callF (pc := 37) (np := 0) (as := []) (rest := []) dX2_passHour_37 ht (q := (RJ15, TJ15, 4)) rfl (c_J15_next (by decide) a2 h10) ⟨_, _, _, q788⟩ rfl rfl q670 (by decide +kernel) q786 q784 rfl (by decide) (zkR (fun r28 h29 => ?_)) zxo
          refine s_cast (pc := 42) dX2_passHour_42 q836 zcs_FloatingDock_Ship ?_
          refine s_ast_n (pc := 45) (L2 := [(0, va_rf a0), (1, va_rf a1), (2, va_rf a2)]) [0, 1, 2] dX2_passHour_45 rfl (by decide) rfl rfl (zcB (j := 2) rfl (zcat_rf a2) rfl) ?_
          refine s_aload_n (pc := 46) 0 dX2_passHour_46 rfl rfl ?_
          refine zS_ite (fun ht => ?_) (fun _ => zS_none)
          refine s_callV (pc := 47) (np := 0) (as := []) (rest := []) dX2_passHour_47 ht (q := (RX6, TX6, 9)) rfl (c_X6_isInDock (by decide) r28 h29) rfl rfl q837 q367 q368 rfl (by decide) (zkI (fun x33 h34 => ?_)) zxo
          refine s_if_eq (pc := 50) (tgt := 59) dX2_passHour_50 (by decide) (fun _ => ?_) (fun _ => ?_)
          · exact s_sub (pc := 59) [1, 2, 3] rfl (w_X2_passHour_59 (f_X2_passHour_27 n) ih a0 a1 a2 h34)
          · refine s_aload_n (pc := 53) 1 dX2_passHour_53 rfl rfl ?_
            refine s_aload_n (pc := 54) 0 dX2_passHour_54 rfl rfl ?_
            refine s_aload_n (pc := 55) 2 dX2_passHour_55 rfl rfl ?_
            refine zS_ite (fun ht => ?_) (fun _ => zS_none)
            refine s_callV (pc := 56) (np := 2) (as := [va_rf r28, va_rf a1]) (rest := []) dX2_passHour_56 ht (q := (RX2, TX2, 10)) rfl (c_X2_spendHour (by decide) a0 r28 a1 h34) rfl rfl q2688 q2690 qs25 rfl (by decide) (zkV (fun h35 => ?_)) zxo
            exact s_sub (pc := 59) [1, 2, 3] rfl (w_X2_passHour_59 (f_X2_passHour_27 n) ih a0 a1 a2 h35)
        refine zS_ite (fun ht => ?_) (fun _ => ?_)
        · refine s_callF (pc := 37) (np := 0) (as := []) (rest := []) dX2_passHour_37 ht (q := (RJ17, TJ17, 5)) rfl (c_J17_next (by decide) a2 h10) ⟨_, _, _, q799⟩ rfl rfl q670 (by decide +kernel) q797 q795 rfl (by decide) (zkR (fun r28 h29 => ?_)) zxo
          refine s_cast (pc := 42) dX2_passHour_42 q836 zcs_FloatingDock_Ship ?_
          refine s_ast_n (pc := 45) (L2 := [(0, va_rf a0), (1, va_rf a1), (2, va_rf a2)]) [0, 1, 2] dX2_passHour_45 rfl (by decide) rfl rfl (zcB (j := 2) rfl (zcat_rf a2) rfl) ?_
          refine s_aload_n (pc := 46) 0 dX2_passHour_46 rfl rfl ?_
          refine zS_ite (fun ht => ?_) (fun _ => zS_none)
          refine s_callV (pc := 47) (np := 0) (as := []) (rest := []) dX2_passHour_47 ht (q := (RX6, TX6, 9)) rfl (c_X6_isInDock (by decide) r28 h29) rfl rfl q837 q367 q368 rfl (by decide) (zkI (fun x36 h37 => ?_)) zxo
          refine s_if_eq (pc := 50) (tgt := 59) dX2_passHour_50 (by decide) (fun _ => ?_) (fun _ => ?_)
          · exact s_sub (pc := 59) [1, 2, 3] rfl (w_X2_passHour_59 (f_X2_passHour_27 n) ih a0 a1 a2 h37)
          · refine s_aload_n (pc := 53) 1 dX2_passHour_53 rfl rfl ?_
            refine s_aload_n (pc := 54) 0 dX2_passHour_54 rfl rfl ?_
            refine s_aload_n (pc := 55) 2 dX2_passHour_55 rfl rfl ?_
            refine zS_ite (fun ht => ?_) (fun _ => zS_none)
            refine s_callV (pc := 56) (np := 2) (as := [va_rf r28, va_rf a1]) (rest := []) dX2_passHour_56 ht (q := (RX2, TX2, 10)) rfl (c_X2_spendHour (by decide) a0 r28 a1 h37) rfl rfl q2688 q2690 qs25 rfl (by decide) (zkV (fun h38 => ?_)) zxo
            exact s_sub (pc := 59) [1, 2, 3] rfl (w_X2_passHour_59 (f_X2_passHour_27 n) ih a0 a1 a2 h38)
        refine zS_ite (fun ht => ?_) (fun _ => ?_)
        · refine s_callF (pc := 37) (np := 0) (as := []) (rest := []) dX2_passHour_37 ht (q := (RJ21, TJ21, 5)) rfl (c_J21_next (by decide) a2 h10) ⟨_, _, _, q812⟩ rfl rfl q670 (by decide +kernel) q810 q808 rfl (by decide) (zkR (fun r28 h29 => ?_)) zxo
          refine s_cast (pc := 42) dX2_passHour_42 q836 zcs_FloatingDock_Ship ?_
          refine s_ast_n (pc := 45) (L2 := [(0, va_rf a0), (1, va_rf a1), (2, va_rf a2)]) [0, 1, 2] dX2_passHour_45 rfl (by decide) rfl rfl (zcB (j := 2) rfl (zcat_rf a2) rfl) ?_
          refine s_aload_n (pc := 46) 0 dX2_passHour_46 rfl rfl ?_
          refine zS_ite (fun ht => ?_) (fun _ => zS_none)
          refine s_callV (pc := 47) (np := 0) (as := []) (rest := []) dX2_passHour_47 ht (q := (RX6, TX6, 9)) rfl (c_X6_isInDock (by decide) r28 h29) rfl rfl q837 q367 q368 rfl (by decide) (zkI (fun x39 h40 => ?_)) zxo
          refine s_if_eq (pc := 50) (tgt := 59) dX2_passHour_50 (by decide) (fun _ => ?_) (fun _ => ?_)
          · exact s_sub (pc := 59) [1, 2, 3] rfl (w_X2_passHour_59 (f_X2_passHour_27 n) ih a0 a1 a2 h40)
          · refine s_aload_n (pc := 53) 1 dX2_passHour_53 rfl rfl ?_
            refine s_aload_n (pc := 54) 0 dX2_passHour_54 rfl rfl ?_
            refine s_aload_n (pc := 55) 2 dX2_passHour_55 rfl rfl ?_
            refine zS_ite (fun ht => ?_) (fun _ => zS_none)
            refine s_callV (pc := 56) (np := 2) (as := [va_rf r28, va_rf a1]) (rest := []) dX2_passHour_56 ht (q := (RX2, TX2, 10)) rfl (c_X2_spendHour (by decide) a0 r28 a1 h40) rfl rfl q2688 q2690 qs25 rfl (by decide) (zkV (fun h41 => ?_)) zxo
            exact s_sub (pc := 59) [1, 2, 3] rfl (w_X2_passHour_59 (f_X2_passHour_27 n) ih a0 a1 a2 h41)
        refine zS_ite (fun ht => ?_) (fun _ => zS_none)
        refine s_callF (pc := 37) (np := 0) (as := []) (rest := []) dX2_passHour_37 ht (q := (RJ22, TJ22, 5)) rfl (c_J22_next (by decide) a2 h10) ⟨_, _, _, q832⟩ rfl rfl q670 (by decide +kernel) q830 q828 rfl (by decide) (zkR (fun r28 h29 => ?_)) zxo
        refine s_cast (pc := 42) dX2_passHour_42 q836 zcs_FloatingDock_Ship ?_
        refine s_ast_n (pc := 45) (L2 := [(0, va_rf a0), (1, va_rf a1), (2, va_rf a2)]) [0, 1, 2] dX2_passHour_45 rfl (by decide) rfl rfl (zcB (j := 2) rfl (zcat_rf a2) rfl) ?_
        refine s_aload_n (pc := 46) 0 dX2_passHour_46 rfl rfl ?_
        refine zS_ite (fun ht => ?_) (fun _ => zS_none)
        refine s_callV (pc := 47) (np := 0) (as := []) (rest := []) dX2_passHour_47 ht (q := (RX6, TX6, 9)) rfl (c_X6_isInDock (by decide) r28 h29) rfl rfl q837 q367 q368 rfl (by decide) (zkI (fun x42 h43 => ?_)) zxo
        refine s_if_eq (pc := 50) (tgt := 59) dX2_passHour_50 (by decide) (fun _ => ?_) (fun _ => ?_)
        · exact s_sub (pc := 59) [1, 2, 3] rfl (w_X2_passHour_59 (f_X2_passHour_27 n) ih a0 a1 a2 h43)
        · refine s_aload_n (pc := 53) 1 dX2_passHour_53 rfl rfl ?_
          refine s_aload_n (pc := 54) 0 dX2_passHour_54 rfl rfl ?_
          refine s_aload_n (pc := 55) 2 dX2_passHour_55 rfl rfl ?_
          refine zS_ite (fun ht => ?_) (fun _ => zS_none)
          refine s_callV (pc := 56) (np := 2) (as := [va_rf r28, va_rf a1]) (rest := []) dX2_passHour_56 ht (q := (RX2, TX2, 10)) rfl (c_X2_spendHour (by decide) a0 r28 a1 h43) rfl rfl q2688 q2690 qs25 rfl (by decide) (zkV (fun h44 => ?_)) zxo
          exact s_sub (pc := 59) [1, 2, 3] rfl (w_X2_passHour_59 (f_X2_passHour_27 n) ih a0 a1 a2 h44)
    refine zS_ite (fun ht => ?_) (fun _ => ?_)
    · refine s_callF (pc := 28) (np := 0) (as := []) (rest := []) dX2_passHour_28 ht (q := (RJ17, TJ17, 5)) rfl (c_J16_hasNext (by decide) a2 h) ⟨_, _, _, q659⟩ rfl rfl q629 (by decide +kernel) q657 q655 rfl (by decide) (zkI (fun x9 h10 => ?_)) zxo
      refine s_if_eq (pc := 33) (tgt := 62) dX2_passHour_33 (by decide) (fun _ => ?_) (fun _ => ?_)
      · exact s_vret (pc := 62) dX2_passHour_62 rfl
      · refine s_aload_n (pc := 36) 2 dX2_passHour_36 rfl rfl ?_
        refine zS_ite (fun ht => ?_) (fun _ => ?_)
        · refine s_callF (pc := 37) (np := 0) (as := []) (rest := []) dX2_passHour_37 ht (q := (RX9, TX9, 2)) rfl (c_X9_next (by decide) a2 h10) ⟨_, _, _, q677⟩ rfl rfl q670 (by decide +kernel) q675 q673 rfl (by decide) (zkR (fun r45 h46 => ?_)) zxo
          refine s_cast (pc := 42) dX2_passHour_42 q836 zcs_FloatingDock_Ship ?_
          refine s_ast_n (pc := 45) (L2 := [(0, va_rf a0), (1, va_rf a1), (2, va_rf a2)]) [0, 1, 2] dX2_passHour_45 rfl (by decide) rfl rfl (zcB (j := 2) rfl (zcat_rf a2) rfl) ?_
          refine s_aload_n (pc := 46) 0 dX2_passHour_46 rfl rfl ?_
          refine zS_ite (fun ht => ?_) (fun _ => zS_none)
          refine s_callV (pc := 47) (np := 0) (as := []) (rest := []) dX2_passHour_47 ht (q := (RX6, TX6, 9)) rfl (c_X6_isInDock (by decide) r45 h46) rfl rfl q837 q367 q368 rfl (by decide) (zkI (fun x47 h48 => ?_)) zxo
          refine s_if_eq (pc := 50) (tgt := 59) dX2_passHour_50 (by decide) (fun _ => ?_) (fun _ => ?_)
          · exact s_sub (pc := 59) [1, 2, 3] rfl (w_X2_passHour_59 (f_X2_passHour_27 n) ih a0 a1 a2 h48)
          · refine s_aload_n (pc := 53) 1 dX2_passHour_53 rfl rfl ?_
            refine s_aload_n (pc := 54) 0 dX2_passHour_54 rfl rfl ?_
            refine s_aload_n (pc := 55) 2 dX2_passHour_55 rfl rfl ?_
            refine zS_ite (fun ht => ?_) (fun _ => zS_none)
            refine s_callV (pc := 56) (np := 2) (as := [va_rf r45, va_rf a1]) (rest := []) dX2_passHour_56 ht (q := (RX2, TX2, 10)) rfl (c_X2_spendHour (by decide) a0 r45 a1 h48) rfl rfl q2688 q2690 qs25 rfl (by decide) (zkV (fun h49 => ?_)) zxo
            exact s_sub (pc := 59) [1, 2, 3] rfl (w_X2_passHour_59 (f_X2_passHour_27 n) ih a0 a1 a2 h49)
        refine zS_ite (fun ht => ?_) (fun _ => ?_)
        · refine s_callF (pc := 37) (np := 0) (as := []) (rest := []) dX2_passHour_37 ht (q := (RJ15, TJ15, 4)) rfl (c_J15_next (by decide) a2 h10) ⟨_, _, _, q788⟩ rfl rfl q670 (by decide +kernel) q786 q784 rfl (by decide) (zkR (fun r45 h46 => ?_)) zxo
          refine s_cast (pc := 42) dX2_passHour_42 q836 zcs_FloatingDock_Ship ?_
          refine s_ast_n (pc := 45) (L2 := [(0, va_rf a0), (1, va_rf a1), (2, va_rf a2)]) [0, 1, 2] dX2_passHour_45 rfl (by decide) rfl rfl (zcB (j := 2) rfl (zcat_rf a2) rfl) ?_
          refine s_aload_n (pc := 46) 0 dX2_passHour_46 rfl rfl ?_
          refine zS_ite (fun ht => ?_) (fun _ => zS_none)
          refine s_callV (pc := 47) (np := 0) (as := []) (rest := []) dX2_passHour_47 ht (q := (RX6, TX6, 9)) rfl (c_X6_isInDock (by decide) r45 h46) rfl rfl q837 q367 q368 rfl (by decide) (zkI (fun x50 h51 => ?_)) zxo
          refine s_if_eq (pc := 50) (tgt := 59) dX2_passHour_50 (by decide) (fun _ => ?_) (fun _ => ?_)
          · exact s_sub (pc := 59) [1, 2, 3] rfl (w_X2_passHour_59 (f_X2_passHour_27 n) ih a0 a1 a2 h51)
          · refine s_aload_n (pc := 53) 1 dX2_passHour_53 rfl rfl ?_
            refine s_aload_n (pc := 54) 0 dX2_passHour_54 rfl rfl ?_
            refine s_aload_n (pc := 55) 2 dX2_passHour_55 rfl rfl ?_
            refine zS_ite (fun ht => ?_) (fun _ => zS_none)
            refine s_callV (pc := 56) (np := 2) (as := [va_rf r45, va_rf a1]) (rest := []) dX2_passHour_56 ht (q := (RX2, TX2, 10)) rfl (c_X2_spendHour (by decide) a0 r45 a1 h51) rfl rfl q2688 q2690 qs25 rfl (by decide) (zkV (fun h52 => ?_)) zxo
            exact s_sub (pc := 59) [1, 2, 3] rfl (w_X2_passHour_59 (f_X2_passHour_27 n) ih a0 a1 a2 h52)
        refine zS_ite (fun ht => ?_) (fun _ => ?_)
        · refine s_callF (pc := 37) (np := 0) (as := []) (rest := []) dX2_passHour_37 ht (q := (RJ17, TJ17, 5)) rfl (c_J17_next (by decide) a2 h10) ⟨_, _, _, q799⟩ rfl rfl q670 (by decide +kernel) q797 q795 rfl (by decide) (zkR (fun r45 h46 => ?_)) zxo
          refine s_cast (pc := 42) dX2_passHour_42 q836 zcs_FloatingDock_Ship ?_
          refine s_ast_n (pc := 45) (L2 := [(0, va_rf a0), (1, va_rf a1), (2, va_rf a2)]) [0, 1, 2] dX2_passHour_45 rfl (by decide) rfl rfl (zcB (j := 2) rfl (zcat_rf a2) rfl) ?_
          refine s_aload_n (pc := 46) 0 dX2_passHour_46 rfl rfl ?_
          refine zS_ite (fun ht => ?_) (fun _ => zS_none)
          refine s_callV (pc := 47) (np := 0) (as := []) (rest := []) dX2_passHour_47 ht (q := (RX6, TX6, 9)) rfl (c_X6_isInDock (by decide) r45 h46) rfl rfl q837 q367 q368 rfl (by decide) (zkI (fun x53 h54 => ?_)) zxo
          refine s_if_eq (pc := 50) (tgt := 59) dX2_passHour_50 (by decide) (fun _ => ?_) (fun _ => ?_)
          · exact s_sub (pc := 59) [1, 2, 3] rfl (w_X2_passHour_59 (f_X2_passHour_27 n) ih a0 a1 a2 h54)
          · refine s_aload_n (pc := 53) 1 dX2_passHour_53 rfl rfl ?_
            refine s_aload_n (pc := 54) 0 dX2_passHour_54 rfl rfl ?_
            refine s_aload_n (pc := 55) 2 dX2_passHour_55 rfl rfl ?_
            refine zS_ite (fun ht => ?_) (fun _ => zS_none)
            refine s_callV (pc := 56) (np := 2) (as := [va_rf r45, va_rf a1]) (rest := []) dX2_passHour_56 ht (q := (RX2, TX2, 10)) rfl (c_X2_spendHour (by decide) a0 r45 a1 h54) rfl rfl q2688 q2690 qs25 rfl (by decide) (zkV (fun h55 => ?_)) zxo
            exact s_sub (pc := 59) [1, 2, 3] rfl (w_X2_passHour_59 (f_X2_passHour_27 n) ih a0 a1 a2 h55)
        refine zS_ite (fun ht => ?_) (fun _ => ?_)
        · refine s_callF (pc := 37) (np := 0) (as := []) (rest := []) dX2_passHour_37 ht (q := (RJ21, TJ21, 5)) rfl (c_J21_next (by decide) a2 h10) ⟨_, _, _, q812⟩ rfl rfl q670 (by decide +kernel) q810 q808 rfl (by decide) (zkR (fun r45 h46 => ?_)) zxo
          refine s_cast (pc := 42) dX2_passHour_42 q836 zcs_FloatingDock_Ship ?_
          refine s_ast_n (pc := 45) (L2 := [(0, va_rf a0), (1, va_rf a1), (2, va_rf a2)]) [0, 1, 2] dX2_passHour_45 rfl (by decide) rfl rfl (zcB (j := 2) rfl (zcat_rf a2) rfl) ?_
          refine s_aload_n (pc := 46) 0 dX2_passHour_46 rfl rfl ?_
          refine zS_ite (fun ht => ?_) (fun _ => zS_none)
          refine s_callV (pc := 47) (np := 0) (as := []) (rest := []) dX2_passHour_47 ht (q := (RX6, TX6, 9)) rfl (c_X6_isInDock (by decide) r45 h46) rfl rfl q837 q367 q368 rfl (by decide) (zkI (fun x56 h57 => ?_)) zxo
          refine s_if_eq (pc := 50) (tgt := 59) dX2_passHour_50 (by decide) (fun _ => ?_) (fun _ => ?_)
          · exact s_sub (pc := 59) [1, 2, 3] rfl (w_X2_passHour_59 (f_X2_passHour_27 n) ih a0 a1 a2 h57)
          · refine s_aload_n (pc := 53) 1 dX2_passHour_53 rfl rfl ?_
            refine s_aload_n (pc := 54) 0 dX2_passHour_54 rfl rfl ?_
            refine s_aload_n (pc := 55) 2 dX2_passHour_55 rfl rfl ?_
            refine zS_ite (fun ht => ?_) (fun _ => zS_none)
            refine s_callV (pc := 56) (np := 2) (as := [va_rf r45, va_rf a1]) (rest := []) dX2_passHour_56 ht (q := (RX2, TX2, 10)) rfl (c_X2_spendHour (by decide) a0 r45 a1 h57) rfl rfl q2688 q2690 qs25 rfl (by decide) (zkV (fun h58 => ?_)) zxo
            exact s_sub (pc := 59) [1, 2, 3] rfl (w_X2_passHour_59 (f_X2_passHour_27 n) ih a0 a1 a2 h58)
        refine zS_ite (fun ht => ?_) (fun _ => zS_none)
        refine s_callF (pc := 37) (np := 0) (as := []) (rest := []) dX2_passHour_37 ht (q := (RJ22, TJ22, 5)) rfl (c_J22_next (by decide) a2 h10) ⟨_, _, _, q832⟩ rfl rfl q670 (by decide +kernel) q830 q828 rfl (by decide) (zkR (fun r45 h46 => ?_)) zxo
        refine s_cast (pc := 42) dX2_passHour_42 q836 zcs_FloatingDock_Ship ?_
        refine s_ast_n (pc := 45) (L2 := [(0, va_rf a0), (1, va_rf a1), (2, va_rf a2)]) [0, 1, 2] dX2_passHour_45 rfl (by decide) rfl rfl (zcB (j := 2) rfl (zcat_rf a2) rfl) ?_
        refine s_aload_n (pc := 46) 0 dX2_passHour_46 rfl rfl ?_
        refine zS_ite (fun ht => ?_) (fun _ => zS_none)
        refine s_callV (pc := 47) (np := 0) (as := []) (rest := []) dX2_passHour_47 ht (q := (RX6, TX6, 9)) rfl (c_X6_isInDock (by decide) r45 h46) rfl rfl q837 q367 q368 rfl (by decide) (zkI (fun x59 h60 => ?_)) zxo
        refine s_if_eq (pc := 50) (tgt := 59) dX2_passHour_50 (by decide) (fun _ => ?_) (fun _ => ?_)
        · exact s_sub (pc := 59) [1, 2, 3] rfl (w_X2_passHour_59 (f_X2_passHour_27 n) ih a0 a1 a2 h60)
        · refine s_aload_n (pc := 53) 1 dX2_passHour_53 rfl rfl ?_
          refine s_aload_n (pc := 54) 0 dX2_passHour_54 rfl rfl ?_
          refine s_aload_n (pc := 55) 2 dX2_passHour_55 rfl rfl ?_
          refine zS_ite (fun ht => ?_) (fun _ => zS_none)
          refine s_callV (pc := 56) (np := 2) (as := [va_rf r45, va_rf a1]) (rest := []) dX2_passHour_56 ht (q := (RX2, TX2, 10)) rfl (c_X2_spendHour (by decide) a0 r45 a1 h60) rfl rfl q2688 q2690 qs25 rfl (by decide) (zkV (fun h61 => ?_)) zxo
          exact s_sub (pc := 59) [1, 2, 3] rfl (w_X2_passHour_59 (f_X2_passHour_27 n) ih a0 a1 a2 h61)
    refine zS_ite (fun ht => ?_) (fun _ => ?_)
    · refine s_callF (pc := 28) (np := 0) (as := []) (rest := []) dX2_passHour_28 ht (q := (RJ21, TJ21, 5)) rfl (c_J20_hasNext (by decide) a2 h) ⟨_, _, _, q665⟩ rfl rfl q629 (by decide +kernel) q663 q661 rfl (by decide) (zkI (fun x9 h10 => ?_)) zxo
      refine s_if_eq (pc := 33) (tgt := 62) dX2_passHour_33 (by decide) (fun _ => ?_) (fun _ => ?_)
      · exact s_vret (pc := 62) dX2_passHour_62 rfl
      · refine s_aload_n (pc := 36) 2 dX2_passHour_36 rfl rfl ?_
        refine zS_ite (fun ht => ?_) (fun _ => ?_)
        · refine s_callF (pc := 37) (np := 0) (as := []) (rest := []) dX2_passHour_37 ht (q := (RX9, TX9, 2)) rfl (c_X9_next (by decide) a2 h10) ⟨_, _, _, q677⟩ rfl rfl q670 (by decide +kernel) q675 q673 rfl (by decide) (zkR (fun r62 h63 => ?_)) zxo
          refine s_cast (pc := 42) dX2_passHour_42 q836 zcs_FloatingDock_Ship ?_
          refine s_ast_n (pc := 45) (L2 := [(0, va_rf a0), (1, va_rf a1), (2, va_rf a2)]) [0, 1, 2] dX2_passHour_45 rfl (by decide) rfl rfl (zcB (j := 2) rfl (zcat_rf a2) rfl) ?_
          refine s_aload_n (pc := 46) 0 dX2_passHour_46 rfl rfl ?_
          refine zS_ite (fun ht => ?_) (fun _ => zS_none)
          refine s_callV (pc := 47) (np := 0) (as := []) (rest := []) dX2_passHour_47 ht (q := (RX6, TX6, 9)) rfl (c_X6_isInDock (by decide) r62 h63) rfl rfl q837 q367 q368 rfl (by decide) (zkI (fun x64 h65 => ?_)) zxo
          refine s_if_eq (pc := 50) (tgt := 59) dX2_passHour_50 (by decide) (fun _ => ?_) (fun _ => ?_)
          · exact s_sub (pc := 59) [1, 2, 3] rfl (w_X2_passHour_59 (f_X2_passHour_27 n) ih a0 a1 a2 h65)
          · refine s_aload_n (pc := 53) 1 dX2_passHour_53 rfl rfl ?_
            refine s_aload_n (pc := 54) 0 dX2_passHour_54 rfl rfl ?_
            refine s_aload_n (pc := 55) 2 dX2_passHour_55 rfl rfl ?_
            refine zS_ite (fun ht => ?_) (fun _ => zS_none)
            refine s_callV (pc := 56) (np := 2) (as := [va_rf r62, va_rf a1]) (rest := []) dX2_passHour_56 ht (q := (RX2, TX2, 10)) rfl (c_X2_spendHour (by decide) a0 r62 a1 h65) rfl rfl q2688 q2690 qs25 rfl (by decide) (zkV (fun h66 => ?_)) zxo
            exact s_sub (pc := 59) [1, 2, 3] rfl (w_X2_passHour_59 (f_X2_passHour_27 n) ih a0 a1 a2 h66)
        refine zS_ite (fun ht => ?_) (fun _ => ?_)
        · refine s_callF (pc := 37) (np := 0) (as := []) (rest := []) dX2_passHour_37 ht (q := (RJ15, TJ15, 4)) rfl (c_J15_next (by decide) a2 h10) ⟨_, _, _, q788⟩ rfl rfl q670 (by decide +kernel) q786 q784 rfl (by decide) (zkR (fun r62 h63 => ?_)) zxo
          refine s_cast (pc := 42) dX2_passHour_42 q836 zcs_FloatingDock_Ship ?_
          refine s_ast_n (pc := 45) (L2 := [(0, va_rf a0), (1, va_rf a1), (2, va_rf a2)]) [0, 1, 2] dX2_passHour_45 rfl (by decide) rfl rfl (zcB (j := 2) rfl (zcat_rf a2) rfl) ?_
          refine s_aload_n (pc := 46) 0 dX2_passHour_46 rfl rfl ?_
          refine zS_ite (fun ht => ?_) (fun _ => zS_none)
          refine s_callV (pc := 47) (np := 0) (as := []) (rest := []) dX2_passHour_47 ht (q := (RX6, TX6, 9)) rfl (c_X6_isInDock (by decide) r62 h63) rfl rfl q837 q367 q368 rfl (by decide) (zkI (fun x67 h68 => ?_)) zxo
          refine s_if_eq (pc := 50) (tgt := 59) dX2_passHour_50 (by decide) (fun _ => ?_) (fun _ => ?_)
          · exact s_sub (pc := 59) [1, 2, 3] rfl (w_X2_passHour_59 (f_X2_passHour_27 n) ih a0 a1 a2 h68)
          · refine s_aload_n (pc := 53) 1 dX2_passHour_53 rfl rfl ?_
            refine s_aload_n (pc := 54) 0 dX2_passHour_54 rfl rfl ?_
            refine s_aload_n (pc := 55) 2 dX2_passHour_55 rfl rfl ?_
            refine zS_ite (fun ht => ?_) (fun _ => zS_none)
            refine s_callV (pc := 56) (np := 2) (as := [va_rf r62, va_rf a1]) (rest := []) dX2_passHour_56 ht (q := (RX2, TX2, 10)) rfl (c_X2_spendHour (by decide) a0 r62 a1 h68) rfl rfl q2688 q2690 qs25 rfl (by decide) (zkV (fun h69 => ?_)) zxo
            exact s_sub (pc := 59) [1, 2, 3] rfl (w_X2_passHour_59 (f_X2_passHour_27 n) ih a0 a1 a2 h69)
        refine zS_ite (fun ht => ?_) (fun _ => ?_)
        · refine s_callF (pc := 37) (np := 0) (as := []) (rest := []) dX2_passHour_37 ht (q := (RJ17, TJ17, 5)) rfl (c_J17_next (by decide) a2 h10) ⟨_, _, _, q799⟩ rfl rfl q670 (by decide +kernel) q797 q795 rfl (by decide) (zkR (fun r62 h63 => ?_)) zxo
          refine s_cast (pc := 42) dX2_passHour_42 q836 zcs_FloatingDock_Ship ?_
          refine s_ast_n (pc := 45) (L2 := [(0, va_rf a0), (1, va_rf a1), (2, va_rf a2)]) [0, 1, 2] dX2_passHour_45 rfl (by decide) rfl rfl (zcB (j := 2) rfl (zcat_rf a2) rfl) ?_
          refine s_aload_n (pc := 46) 0 dX2_passHour_46 rfl rfl ?_
          refine zS_ite (fun ht => ?_) (fun _ => zS_none)
          refine s_callV (pc := 47) (np := 0) (as := []) (rest := []) dX2_passHour_47 ht (q := (RX6, TX6, 9)) rfl (c_X6_isInDock (by decide) r62 h63) rfl rfl q837 q367 q368 rfl (by decide) (zkI (fun x70 h71 => ?_)) zxo
          refine s_if_eq (pc := 50) (tgt := 59) dX2_passHour_50 (by decide) (fun _ => ?_) (fun _ => ?_)
          · exact s_sub (pc := 59) [1, 2, 3] rfl (w_X2_passHour_59 (f_X2_passHour_27 n) ih a0 a1 a2 h71)
          · refine s_aload_n (pc := 53) 1 dX2_passHour_53 rfl rfl ?_
            refine s_aload_n (pc := 54) 0 dX2_passHour_54 rfl rfl ?_
            refine s_aload_n (pc := 55) 2 dX2_passHour_55 rfl rfl ?_
            refine zS_ite (fun ht => ?_) (fun _ => zS_none)
            refine s_callV (pc := 56) (np := 2) (as := [va_rf r62, va_rf a1]) (rest := []) dX2_passHour_56 ht (q := (RX2, TX2, 10)) rfl (c_X2_spendHour (by decide) a0 r62 a1 h71) rfl rfl q2688 q2690 qs25 rfl (by decide) (zkV (fun h72 => ?_)) zxo
            exact s_sub (pc := 59) [1, 2, 3] rfl (w_X2_passHour_59 (f_X2_passHour_27 n) ih a0 a1 a2 h72)
        refine zS_ite (fun ht => ?_) (fun _ => ?_)
        · refine s_callF (pc := 37) (np := 0) (as := []) (rest := []) dX2_passHour_37 ht (q := (RJ21, TJ21, 5)) rfl (c_J21_next (by decide) a2 h10) ⟨_, _, _, q812⟩ rfl rfl q670 (by decide +kernel) q810 q808 rfl (by decide) (zkR (fun r62 h63 => ?_)) zxo
          refine s_cast (pc := 42) dX2_passHour_42 q836 zcs_FloatingDock_Ship ?_
          refine s_ast_n (pc := 45) (L2 := [(0, va_rf a0), (1, va_rf a1), (2, va_rf a2)]) [0, 1, 2] dX2_passHour_45 rfl (by decide) rfl rfl (zcB (j := 2) rfl (zcat_rf a2) rfl) ?_
          refine s_aload_n (pc := 46) 0 dX2_passHour_46 rfl rfl ?_
          refine zS_ite (fun ht => ?_) (fun _ => zS_none)
          refine s_callV (pc := 47) (np := 0) (as := []) (rest := []) dX2_passHour_47 ht (q := (RX6, TX6, 9)) rfl (c_X6_isInDock (by decide) r62 h63) rfl rfl q837 q367 q368 rfl (by decide) (zkI (fun x73 h74 => ?_)) zxo
          refine s_if_eq (pc := 50) (tgt := 59) dX2_passHour_50 (by decide) (fun _ => ?_) (fun _ => ?_)
          · exact s_sub (pc := 59) [1, 2, 3] rfl (w_X2_passHour_59 (f_X2_passHour_27 n) ih a0 a1 a2 h74)
          · refine s_aload_n (pc := 53) 1 dX2_passHour_53 rfl rfl ?_
            refine s_aload_n (pc := 54) 0 dX2_passHour_54 rfl rfl ?_
            refine s_aload_n (pc := 55) 2 dX2_passHour_55 rfl rfl ?_
            refine zS_ite (fun ht => ?_) (fun _ => zS_none)
            refine s_callV (pc := 56) (np := 2) (as := [va_rf r62, va_rf a1]) (rest := []) dX2_passHour_56 ht (q := (RX2, TX2, 10)) rfl (c_X2_spendHour (by decide) a0 r62 a1 h74) rfl rfl q2688 q2690 qs25 rfl (by decide) (zkV (fun h75 => ?_)) zxo
            exact s_sub (pc := 59) [1, 2, 3] rfl (w_X2_passHour_59 (f_X2_passHour_27 n) ih a0 a1 a2 h75)
        refine zS_ite (fun ht => ?_) (fun _ => zS_none)
        refine s_callF (pc := 37) (np := 0) (as := []) (rest := []) dX2_passHour_37 ht (q := (RJ22, TJ22, 5)) rfl (c_J22_next (by decide) a2 h10) ⟨_, _, _, q832⟩ rfl rfl q670 (by decide +kernel) q830 q828 rfl (by decide) (zkR (fun r62 h63 => ?_)) zxo
        refine s_cast (pc := 42) dX2_passHour_42 q836 zcs_FloatingDock_Ship ?_
        refine s_ast_n (pc := 45) (L2 := [(0, va_rf a0), (1, va_rf a1), (2, va_rf a2)]) [0, 1, 2] dX2_passHour_45 rfl (by decide) rfl rfl (zcB (j := 2) rfl (zcat_rf a2) rfl) ?_
        refine s_aload_n (pc := 46) 0 dX2_passHour_46 rfl rfl ?_
        refine zS_ite (fun ht => ?_) (fun _ => zS_none)
        refine s_callV (pc := 47) (np := 0) (as := []) (rest := []) dX2_passHour_47 ht (q := (RX6, TX6, 9)) rfl (c_X6_isInDock (by decide) r62 h63) rfl rfl q837 q367 q368 rfl (by decide) (zkI (fun x76 h77 => ?_)) zxo
        refine s_if_eq (pc := 50) (tgt := 59) dX2_passHour_50 (by decide) (fun _ => ?_) (fun _ => ?_)
        · exact s_sub (pc := 59) [1, 2, 3] rfl (w_X2_passHour_59 (f_X2_passHour_27 n) ih a0 a1 a2 h77)
        · refine s_aload_n (pc := 53) 1 dX2_passHour_53 rfl rfl ?_
          refine s_aload_n (pc := 54) 0 dX2_passHour_54 rfl rfl ?_
          refine s_aload_n (pc := 55) 2 dX2_passHour_55 rfl rfl ?_
          refine zS_ite (fun ht => ?_) (fun _ => zS_none)
          refine s_callV (pc := 56) (np := 2) (as := [va_rf r62, va_rf a1]) (rest := []) dX2_passHour_56 ht (q := (RX2, TX2, 10)) rfl (c_X2_spendHour (by decide) a0 r62 a1 h77) rfl rfl q2688 q2690 qs25 rfl (by decide) (zkV (fun h78 => ?_)) zxo
          exact s_sub (pc := 59) [1, 2, 3] rfl (w_X2_passHour_59 (f_X2_passHour_27 n) ih a0 a1 a2 h78)
    refine zS_ite (fun ht => ?_) (fun _ => zS_none)
    refine s_callF (pc := 28) (np := 0) (as := []) (rest := []) dX2_passHour_28 ht (q := (RJ22, TJ22, 5)) rfl (c_J20_hasNext (by decide) a2 h) ⟨_, _, _, q665⟩ rfl rfl q629 (by decide +kernel) q663 q667 rfl (by decide) (zkI (fun x9 h10 => ?_)) zxo
    refine s_if_eq (pc := 33) (tgt := 62) dX2_passHour_33 (by decide) (fun _ => ?_) (fun _ => ?_)
    · exact s_vret (pc := 62) dX2_passHour_62 rfl
    · refine s_aload_n (pc := 36) 2 dX2_passHour_36 rfl rfl ?_
      refine zS_ite (fun ht => ?_) (fun _ => ?_)
      · refine s_callF (pc := 37) (np := 0) (as := []) (rest := []) dX2_passHour_37 ht (q := (RX9, TX9, 2)) rfl (c_X9_next (by decide) a2 h10) ⟨_, _, _, q677⟩ rfl rfl q670 (by decide +kernel) q675 q673 rfl (by decide) (zkR (fun r79 h80 => ?_)) zxo
        refine s_cast (pc := 42) dX2_passHour_42 q836 zcs_FloatingDock_Ship ?_
        refine s_ast_n (pc := 45) (L2 := [(0, va_rf a0), (1, va_rf a1), (2, va_rf a2)]) [0, 1, 2] dX2_passHour_45 rfl (by decide) rfl rfl (zcB (j := 2) rfl (zcat_rf a2) rfl) ?_
        refine s_aload_n (pc := 46) 0 dX2_passHour_46 rfl rfl ?_
        refine zS_ite (fun ht => ?_) (fun _ => zS_none)
        refine s_callV (pc := 47) (np := 0) (as := []) (rest := []) dX2_passHour_47 ht (q := (RX6, TX6, 9)) rfl (c_X6_isInDock (by decide) r79 h80) rfl rfl q837 q367 q368 rfl (by decide) (zkI (fun x81 h82 => ?_)) zxo
        refine s_if_eq (pc := 50) (tgt := 59) dX2_passHour_50 (by decide) (fun _ => ?_) (fun _ => ?_)
        · exact s_sub (pc := 59) [1, 2, 3] rfl (w_X2_passHour_59 (f_X2_passHour_27 n) ih a0 a1 a2 h82)
        · refine s_aload_n (pc := 53) 1 dX2_passHour_53 rfl rfl ?_
          refine s_aload_n (pc := 54) 0 dX2_passHour_54 rfl rfl ?_
          refine s_aload_n (pc := 55) 2 dX2_passHour_55 rfl rfl ?_
          refine zS_ite (fun ht => ?_) (fun _ => zS_none)
          refine s_callV (pc := 56) (np := 2) (as := [va_rf r79, va_rf a1]) (rest := []) dX2_passHour_56 ht (q := (RX2, TX2, 10)) rfl (c_X2_spendHour (by decide) a0 r79 a1 h82) rfl rfl q2688 q2690 qs25 rfl (by decide) (zkV (fun h83 => ?_)) zxo
          exact s_sub (pc := 59) [1, 2, 3] rfl (w_X2_passHour_59 (f_X2_passHour_27 n) ih a0 a1 a2 h83)
      refine zS_ite (fun ht => ?_) (fun _ => ?_)
      · refine s_callF (pc := 37) (np := 0) (as := []) (rest := []) dX2_passHour_37 ht (q := (RJ15, TJ15, 4)) rfl (c_J15_next (by decide) a2 h10) ⟨_, _, _, q788⟩ rfl rfl q670 (by decide +kernel) q786 q784 rfl (by decide) (zkR (fun r79 h80 => ?_)) zxo
        refine s_cast (pc := 42) dX2_passHour_42 q836 zcs_FloatingDock_Ship ?_
        refine s_ast_n (pc := 45) (L2 := [(0, va_rf a0), (1, va_rf a1), (2, va_rf a2)]) [0, 1, 2] dX2_passHour_45 rfl (by decide) rfl rfl (zcB (j := 2) rfl (zcat_rf a2) rfl) ?_
        refine s_aload_n (pc := 46) 0 dX2_passHour_46 rfl rfl ?_
        refine zS_ite (fun ht => ?_) (fun _ => zS_none)
        refine s_callV (pc := 47) (np := 0) (as := []) (rest := []) dX2_passHour_47 ht (q := (RX6, TX6, 9)) rfl (c_X6_isInDock (by decide) r79 h80) rfl rfl q837 q367 q368 rfl (by decide) (zkI (fun x84 h85 => ?_)) zxo
        refine s_if_eq (pc := 50) (tgt := 59) dX2_passHour_50 (by decide) (fun _ => ?_) (fun _ => ?_)
        · exact s_sub (pc := 59) [1, 2, 3] rfl (w_X2_passHour_59 (f_X2_passHour_27 n) ih a0 a1 a2 h85)
        · refine s_aload_n (pc := 53) 1 dX2_passHour_53 rfl rfl ?_
          refine s_aload_n (pc := 54) 0 dX2_passHour_54 rfl rfl ?_
          refine s_aload_n (pc := 55) 2 dX2_passHour_55 rfl rfl ?_
          refine zS_ite (fun ht => ?_) (fun _ => zS_none)
          refine s_callV (pc := 56) (np := 2) (as := [va_rf r79, va_rf a1]) (rest := []) dX2_passHour_56 ht (q := (RX2, TX2, 10)) rfl (c_X2_spendHour (by decide) a0 r79 a1 h85) rfl rfl q2688 q2690 qs25 rfl (by decide) (zkV (fun h86 => ?_)) zxo
          exact s_sub (pc := 59) [1, 2, 3] rfl (w_X2_passHour_59 (f_X2_passHour_27 n) ih a0 a1 a2 h86)
      refine zS_ite (fun ht => ?_) (fun _ => ?_)
      · refine s_callF (pc := 37) (np := 0) (as := []) (rest := []) dX2_passHour_37 ht (q := (RJ17, TJ17, 5)) rfl (c_J17_next (by decide) a2 h10) ⟨_, _, _, q799⟩ rfl rfl q670 (by decide +kernel) q797 q795 rfl (by decide) (zkR (fun r79 h80 => ?_)) zxo
        refine s_cast (pc := 42) dX2_passHour_42 q836 zcs_FloatingDock_Ship ?_
        refine s_ast_n (pc := 45) (L2 := [(0, va_rf a0), (1, va_rf a1), (2, va_rf a2)]) [0, 1, 2] dX2_passHour_45 rfl (by decide) rfl rfl (zcB (j := 2) rfl (zcat_rf a2) rfl) ?_
        refine s_aload_n (pc := 46) 0 dX2_passHour_46 rfl rfl ?_
        refine zS_ite (fun ht => ?_) (fun _ => zS_none)
        refine s_callV (pc := 47) (np := 0) (as := []) (rest := []) dX2_passHour_47 ht (q := (RX6, TX6, 9)) rfl (c_X6_isInDock (by decide) r79 h80) rfl rfl q837 q367 q368 rfl (by decide) (zkI (fun x87 h88 => ?_)) zxo
        refine s_if_eq (pc := 50) (tgt := 59) dX2_passHour_50 (by decide) (fun _ => ?_) (fun _ => ?_)
        · exact s_sub (pc := 59) [1, 2, 3] rfl (w_X2_passHour_59 (f_X2_passHour_27 n) ih a0 a1 a2 h88)
        · refine s_aload_n (pc := 53) 1 dX2_passHour_53 rfl rfl ?_
          refine s_aload_n (pc := 54) 0 dX2_passHour_54 rfl rfl ?_
          refine s_aload_n (pc := 55) 2 dX2_passHour_55 rfl rfl ?_
          refine zS_ite (fun ht => ?_) (fun _ => zS_none)
          refine s_callV (pc := 56) (np := 2) (as := [va_rf r79, va_rf a1]) (rest := []) dX2_passHour_56 ht (q := (RX2, TX2, 10)) rfl (c_X2_spendHour (by decide) a0 r79 a1 h88) rfl rfl q2688 q2690 qs25 rfl (by decide) (zkV (fun h89 => ?_)) zxo
          exact s_sub (pc := 59) [1, 2, 3] rfl (w_X2_passHour_59 (f_X2_passHour_27 n) ih a0 a1 a2 h89)
      refine zS_ite (fun ht => ?_) (fun _ => ?_)
      · refine s_callF (pc := 37) (np := 0) (as := []) (rest := []) dX2_passHour_37 ht (q := (RJ21, TJ21, 5)) rfl (c_J21_next (by decide) a2 h10) ⟨_, _, _, q812⟩ rfl rfl q670 (by decide +kernel) q810 q808 rfl (by decide) (zkR (fun r79 h80 => ?_)) zxo
        refine s_cast (pc := 42) dX2_passHour_42 q836 zcs_FloatingDock_Ship ?_
        refine s_ast_n (pc := 45) (L2 := [(0, va_rf a0), (1, va_rf a1), (2, va_rf a2)]) [0, 1, 2] dX2_passHour_45 rfl (by decide) rfl rfl (zcB (j := 2) rfl (zcat_rf a2) rfl) ?_
        refine s_aload_n (pc := 46) 0 dX2_passHour_46 rfl rfl ?_
        refine zS_ite (fun ht => ?_) (fun _ => zS_none)
        refine s_callV (pc := 47) (np := 0) (as := []) (rest := []) dX2_passHour_47 ht (q := (RX6, TX6, 9)) rfl (c_X6_isInDock (by decide) r79 h80) rfl rfl q837 q367 q368 rfl (by decide) (zkI (fun x90 h91 => ?_)) zxo
        refine s_if_eq (pc := 50) (tgt := 59) dX2_passHour_50 (by decide) (fun _ => ?_) (fun _ => ?_)
        · exact s_sub (pc := 59) [1, 2, 3] rfl (w_X2_passHour_59 (f_X2_passHour_27 n) ih a0 a1 a2 h91)
        · refine s_aload_n (pc := 53) 1 dX2_passHour_53 rfl rfl ?_
          refine s_aload_n (pc := 54) 0 dX2_passHour_54 rfl rfl ?_
          refine s_aload_n (pc := 55) 2 dX2_passHour_55 rfl rfl ?_
          refine zS_ite (fun ht => ?_) (fun _ => zS_none)
          refine s_callV (pc := 56) (np := 2) (as := [va_rf r79, va_rf a1]) (rest := []) dX2_passHour_56 ht (q := (RX2, TX2, 10)) rfl (c_X2_spendHour (by decide) a0 r79 a1 h91) rfl rfl q2688 q2690 qs25 rfl (by decide) (zkV (fun h92 => ?_)) zxo
          exact s_sub (pc := 59) [1, 2, 3] rfl (w_X2_passHour_59 (f_X2_passHour_27 n) ih a0 a1 a2 h92)
      refine zS_ite (fun ht => ?_) (fun _ => zS_none)
      refine s_callF (pc := 37) (np := 0) (as := []) (rest := []) dX2_passHour_37 ht (q := (RJ22, TJ22, 5)) rfl (c_J22_next (by decide) a2 h10) ⟨_, _, _, q832⟩ rfl rfl q670 (by decide +kernel) q830 q828 rfl (by decide) (zkR (fun r79 h80 => ?_)) zxo
      refine s_cast (pc := 42) dX2_passHour_42 q836 zcs_FloatingDock_Ship ?_
      refine s_ast_n (pc := 45) (L2 := [(0, va_rf a0), (1, va_rf a1), (2, va_rf a2)]) [0, 1, 2] dX2_passHour_45 rfl (by decide) rfl rfl (zcB (j := 2) rfl (zcat_rf a2) rfl) ?_
      refine s_aload_n (pc := 46) 0 dX2_passHour_46 rfl rfl ?_
      refine zS_ite (fun ht => ?_) (fun _ => zS_none)
      refine s_callV (pc := 47) (np := 0) (as := []) (rest := []) dX2_passHour_47 ht (q := (RX6, TX6, 9)) rfl (c_X6_isInDock (by decide) r79 h80) rfl rfl q837 q367 q368 rfl (by decide) (zkI (fun x93 h94 => ?_)) zxo
      refine s_if_eq (pc := 50) (tgt := 59) dX2_passHour_50 (by decide) (fun _ => ?_) (fun _ => ?_)
      · exact s_sub (pc := 59) [1, 2, 3] rfl (w_X2_passHour_59 (f_X2_passHour_27 n) ih a0 a1 a2 h94)
      · refine s_aload_n (pc := 53) 1 dX2_passHour_53 rfl rfl ?_
        refine s_aload_n (pc := 54) 0 dX2_passHour_54 rfl rfl ?_
        refine s_aload_n (pc := 55) 2 dX2_passHour_55 rfl rfl ?_
        refine zS_ite (fun ht => ?_) (fun _ => zS_none)
        refine s_callV (pc := 56) (np := 2) (as := [va_rf r79, va_rf a1]) (rest := []) dX2_passHour_56 ht (q := (RX2, TX2, 10)) rfl (c_X2_spendHour (by decide) a0 r79 a1 h94) rfl rfl q2688 q2690 qs25 rfl (by decide) (zkV (fun h95 => ?_)) zxo
        exact s_sub (pc := 59) [1, 2, 3] rfl (w_X2_passHour_59 (f_X2_passHour_27 n) ih a0 a1 a2 h95)
theorem w_X2_passHour (v0 : Option Nat) (v1 : Option Nat) (h : zH) : zS D z yX2_passHour cX2_passHour 4 none [] 12 h 0 [(0, va_rf v0), (1, va_rf v1)] [] (f_X2_passHour v0 v1 h) := by
  unfold f_X2_passHour
  refine s_aload_n (pc := 0) 0 dX2_passHour_0 rfl rfl ?_
  refine s_dup (pc := 1) dX2_passHour_1 (zcat_rf _) ?_
  refine s_gI (pc := 2) dX2_passHour_2 gf_X2_29 (fun x1 => ?_)
  refine s_iconst (pc := 5) (v := 1) dX2_passHour_5 (by decide) ?_
  refine s_iadd (pc := 6) dX2_passHour_6 ?_
  refine s_putI (pc := 7) dX2_passHour_7 pf_X2_29 (fun h2 => ?_)
  refine s_aload_n (pc := 10) 0 dX2_passHour_10 rfl rfl ?_
  refine zS_ite (fun ht => ?_) (fun _ => zS_none)
  refine s_callV (pc := 11) (np := 0) (as := []) (rest := []) dX2_passHour_11 ht (q := (RX2, TX2, 10)) rfl (c_X2_changeLevel (by decide) v0 h2) rfl rfl q2680 q2682 qs24 rfl (by decide) (zkV (fun h3 => ?_)) zxo
  refine s_aload_n (pc := 14) 0 dX2_passHour_14 rfl rfl ?_
  refine s_gR (pc := 15) dX2_passHour_15 gf_X2_12 (fun r4 => ?_)
  refine zS_ite (fun ht => ?_) (fun _ => zS_none)
  refine s_callV (pc := 18) (np := 0) (as := []) (rest := []) dX2_passHour_18 ht (q := (RJ2, TJ2, 12)) rfl (c_J2_values (by decide) r4 h3) rfl rfl q413 q414 q415 rfl (by decide) (zkR (fun r5 h6 => ?_)) zxo
  refine zS_ite (fun ht => ?_) (fun _ => zS_none)
  refine s_callF (pc := 21) (np := 0) (as := []) (rest := []) dX2_passHour_21 ht (q := (RJ13, TJ13, 2)) rfl (c_J13_iterator (by decide) r5 h6) ⟨_, _, _, q615⟩ rfl rfl q436 (by decide +kernel) q613 q611 rfl (by decide) (zkR (fun r7 h8 => ?_)) zxo
  refine s_ast_n (pc := 26) (L2 := [(0, va_rf v0), (1, va_rf v1)]) [0, 1] dX2_passHour_26 rfl (by decide) rfl rfl (zcB (j := 1) rfl (zcat_rf v1) rfl) ?_
  exact s_sub (pc := 27) [1, 2, 0] rfl (w_X2_passHour_27 zfuel v0 v1 r7 h8)
theorem c_X2_passHour {d0 : Nat} (hd0 : 12 < d0) (v0 : Option Nat) (v1 : Option Nat) (h : zH) : zCal D z d0 h yX2_passHour [va_rf v0, va_rf v1] (f_X2_passHour v0 v1 h) :=
  ⟨cX2_passHour, 4, none, [], 12, (show lv_args 0 [va_rf v0, va_rf v1] = [(0, va_rf v0), (1, va_rf v1)] by simp [lv_args, zcat_rf, zcat_i, zcat_l, zcat_f, zcat_d]) ▸ w_X2_passHour v0 v1 h, (plainFor_of_name (by decide)), by simp [lg_sl, zcat_rf, zcat_i, zcat_l, zcat_f, zcat_d], q2679, q96, hd0, by decide, by decide⟩
theorem w_X2_pass_18 : ∀ (n : Nat) (a0 : Option Nat) (a1 : Int32) (a2 : Option Nat) (a3 : Int32) (a4 : Int32) (h : zH), zS D z yX2_pass cX2_pass 5 (some .int) [] 13 h 18 [(0, va_rf a0), (1, .int a1), (2, va_rf a2), (3, .int a3), (4, .int a4)] [] (f_X2_pass_18 n a0 a1 a2 a3 a4 h) := by
  intro n
  induction n with
  | zero => intros; exact zS_none
  | succ n ih =>
    intro a0 a1 a2 a3 a4 h
    rw [f_X2_pass_18.eq_2]
    refine s_iload (pc := 18) 4 dX2_pass_18 rfl ?_
    refine s_iload_n (pc := 20) 1 dX2_pass_20 rfl rfl ?_
    refine s_icmp_ge (pc := 21) (tgt := 35) dX2_pass_21 (by decide) (fun _ => ?_) (fun _ => ?_)
    · refine s_aload_n (pc := 35) 0 dX2_pass_35 rfl rfl ?_
      refine s_gI (pc := 36) dX2_pass_36 gf_X2_87 (fun x5 => ?_)
      refine s_iload_n (pc := 39) 3 dX2_pass_39 rfl rfl ?_
      refine s_isub (pc := 40) dX2_pass_40 ?_
      exact s_iret (pc := 41) dX2_pass_41 rfl
    · refine s_aload_n (pc := 24) 0 dX2_pass_24 rfl rfl ?_
      refine s_aload_n (pc := 25) 2 dX2_pass_25 rfl rfl ?_
      refine zS_ite (fun ht => ?_) (fun _ => zS_none)
      refine s_callV (pc := 26) (np := 1) (as := [va_rf a2]) (rest := []) dX2_pass_26 ht (q := (RX2, TX2, 10)) rfl (c_X2_passHour (by decide) a0 a2 h) rfl rfl q2676 q2677 q2678 rfl (by decide) (zkV (fun h6 => ?_)) zxo
      refine s_inc (pc := 29) (v := 1) (L2 := [(0, va_rf a0), (1, .int a1), (2, va_rf a2), (3, .int a3)]) 4 [0, 1, 2, 3] dX2_pass_29 rfl (by decide) (by decide) rfl rfl (zcB (j := 3) rfl rfl rfl) (fun x7 => ?_)
      refine s_goto (pc := 32) (tgt := 18) dX2_pass_32 (by decide) ?_
      exact s_sub (pc := 18) [1, 2, 3, 4, 0] rfl (ih a0 a1 a2 a3 x7 h6)
theorem w_X2_pass (v0 : Option Nat) (v1 : Int32) (v2 : Option Nat) (h : zH) : zS D z yX2_pass cX2_pass 5 (some .int) [] 13 h 0 [(0, va_rf v0), (1, .int v1), (2, va_rf v2)] [] (f_X2_pass v0 v1 v2 h) := by
  unfold f_X2_pass
  refine s_iload_n (pc := 0) 1 dX2_pass_0 rfl rfl ?_
  refine s_iconst (pc := 1) (v := 1) dX2_pass_1 (by decide) ?_
  refine s_bipush (pc := 2) (v := 48) dX2_pass_2 (by decide) ?_
  refine s_callSN (pc := 4) (np := 3) (as := [.int v1, .int 1, .int 48]) (rest := []) dX2_pass_4 (c_X1_isBetween (by decide) v1 1 48 h) ⟨_, _, _, q1519⟩ rfl rfl q2278 q1518 rfl (by decide) (zkI (fun x1 h2 => ?_)) zxo
  refine s_callSN (pc := 7) (np := 1) (as := [.int x1]) (rest := []) dX2_pass_7 (c_X1_checkArgument (by decide) x1 h2) ⟨_, _, _, q2281⟩ rfl rfl q2279 q2280 rfl (by decide) (zkV (fun h3 => ?_)) zxo
  refine s_aload_n (pc := 10) 0 dX2_pass_10 rfl rfl ?_
  refine s_gI (pc := 11) dX2_pass_11 gf_X2_87 (fun x4 => ?_)
  refine s_ist_n (pc := 14) (L2 := [(0, va_rf v0), (1, .int v1), (2, va_rf v2)]) [0, 1, 2] dX2_pass_14 rfl (by decide) rfl rfl (zcB (j := 2) rfl (zcat_rf v2) rfl) ?_
  refine s_iconst (pc := 15) (v := 0) dX2_pass_15 (by decide) ?_
  refine s_ist (pc := 16) (L2 := [(3, .int x4), (0, va_rf v0), (1, .int v1), (2, va_rf v2)]) [0, 1, 2, 3] dX2_pass_16 (by decide) rfl rfl (zcB (j := 0) rfl rfl rfl) ?_
  exact s_sub (pc := 18) [2, 3, 4, 1, 0] rfl (w_X2_pass_18 zfuel v0 v1 v2 x4 0 h3)
theorem c_X2_pass {d0 : Nat} (hd0 : 13 < d0) (v0 : Option Nat) (v1 : Int32) (v2 : Option Nat) (h : zH) : zCal D z d0 h yX2_pass [va_rf v0, .int v1, va_rf v2] (f_X2_pass v0 v1 v2 h) :=
  ⟨cX2_pass, 5, (some .int), [], 13, (show lv_args 0 [va_rf v0, .int v1, va_rf v2] = [(0, va_rf v0), (1, .int v1), (2, va_rf v2)] by simp [lv_args, zcat_rf, zcat_i, zcat_l, zcat_f, zcat_d]) ▸ w_X2_pass v0 v1 v2 h, (plainFor_of_name (by decide)), by simp [lg_sl, zcat_rf, zcat_i, zcat_l, zcat_f, zcat_d], q2675, q96, hd0, by decide, by decide⟩
theorem w_X1_lambda_pass_14 (v0 : Option Nat) (v1 : Int32) (v2 : Option Nat) (h : zH) : zS D z yX1_lambda_pass_14 cX1_lambda_pass_14 3 (some .int) [] 14 h 0 [(0, va_rf v0), (1, .int v1), (2, va_rf v2)] [] (f_X1_lambda_pass_14 v0 v1 v2 h) := by
  unfold f_X1_lambda_pass_14
  refine s_aload_n (pc := 0) 2 dX1_lambda_pass_14_0 rfl rfl ?_
  refine s_iload_n (pc := 1) 1 dX1_lambda_pass_14_1 rfl rfl ?_
  refine s_aload_n (pc := 2) 0 dX1_lambda_pass_14_2 rfl rfl ?_
  refine s_gR (pc := 3) dX1_lambda_pass_14_3 gf_X1_9 (fun r1 => ?_)
  refine zS_ite (fun ht => ?_) (fun _ => zS_none)
  refine s_callV (pc := 6) (np := 2) (as := [.int v1, va_rf r1]) (rest := []) dX1_lambda_pass_14_6 ht (q := (RX2, TX2, 10)) rfl (c_X2_pass (by decide) v2 v1 r1 h) rfl rfl q2672 q2673 q2674 rfl (by decide) (zkI (fun x2 h3 => ?_)) zxo
  exact s_iret (pc := 9) dX1_lambda_pass_14_9 rfl
theorem c_X1_lambda_pass_14 {d0 : Nat} (hd0 : 14 < d0) (v0 : Option Nat) (v1 : Int32) (v2 : Option Nat) (h : zH) : zCal D z d0 h yX1_lambda_pass_14 [va_rf v0, .int v1, va_rf v2] (f_X1_lambda_pass_14 v0 v1 v2 h) :=
  ⟨cX1_lambda_pass_14, 3, (some .int), [], 14, (show lv_args 0 [va_rf v0, .int v1, va_rf v2] = [(0, va_rf v0), (1, .int v1), (2, va_rf v2)] by simp [lv_args, zcat_rf, zcat_i, zcat_l, zcat_f, zcat_d]) ▸ w_X1_lambda_pass_14 v0 v1 v2 h, (plainFor_of_name (by decide)), by simp [lg_sl, zcat_rf, zcat_i, zcat_l, zcat_f, zcat_d], q2671, q95, hd0, by decide, by decide⟩
theorem w_X1_isPosition (v0 : Int32) (h : zH) : zS D z yX1_isPosition cX1_isPosition 1 (some .boolean) [] 2 h 0 [(0, .int v0)] [] (f_X1_isPosition v0 h) := by
  unfold f_X1_isPosition
  refine s_iload_n (pc := 0) 0 dX1_isPosition_0 rfl rfl ?_
  refine s_iconst (pc := 1) (v := 0) dX1_isPosition_1 (by decide) ?_
  refine s_bipush (pc := 2) (v := 59) dX1_isPosition_2 (by decide) ?_
  refine s_callSS (pc := 4) (np := 3) (as := [.int v0, .int 0, .int 59]) (rest := []) dX1_isPosition_4 (c_X1_isBetween (by decide) v0 0 59 h) rfl rfl q2548 q1518 rfl (by decide) (zkI (fun x1 h2 => ?_)) zxo
  exact s_nret (pc := 7) dX1_isPosition_7 rfl
theorem c_X1_isPosition {d0 : Nat} (hd0 : 2 < d0) (v0 : Int32) (h : zH) : zCal D z d0 h yX1_isPosition [.int v0] (f_X1_isPosition v0 h) :=
  ⟨cX1_isPosition, 1, (some .boolean), [], 2, (show lv_args 0 [.int v0] = [(0, .int v0)] by simp [lv_args, zcat_rf, zcat_i, zcat_l, zcat_f, zcat_d]) ▸ w_X1_isPosition v0 h, (plainFor_of_name (by decide)), by simp [lg_sl, zcat_rf, zcat_i, zcat_l, zcat_f, zcat_d], q2737, q95, hd0, by decide, by decide⟩
theorem w_J5_size (v0 : Option Nat) (h : zH) : zS D z yJ5_size cJ5_size 1 (some .int) [] 2 h 0 [(0, va_rf v0)] [] (f_J5_size v0 h) := by
  unfold f_J5_size
  refine s_aload_n (pc := 0) 0 dJ5_size_0 rfl rfl ?_
  refine s_gR (pc := 1) dJ5_size_1 gf_J5_10 (fun r1 => ?_)
  refine zS_ite (fun ht => ?_) (fun _ => ?_)
  · refine s_callV (pc := 4) (np := 0) (as := []) (rest := []) dJ5_size_4 ht (q := (RJ1, TJ1, 8)) rfl (c_J1_size (by decide) r1 h) rfl rfl q2742 q1426 q3772 rfl (by decide) (zkI (fun x2 h3 => ?_)) zxo
    exact s_iret (pc := 7) dJ5_size_7 rfl
  refine zS_ite (fun ht => ?_) (fun _ => zS_none)
  refine s_callVU (pc := 4) (np := 0) (as := []) (rest := []) (owner := "java/util/HashMap") dJ5_size_4 ht (q := (RJ2, TJ2, 12)) rfl (c_J1_size (by decide) r1 h) ⟨_, _, _, q1427⟩ rfl rfl q2742 q3771 (Or.inl ⟨_, _, _, q1426, q1427⟩) (by decide) q1426 q3773 rfl (by decide) (zkI (fun x2 h3 => ?_)) zxo
  exact s_iret (pc := 7) dJ5_size_7 rfl
theorem c_J5_size {d0 : Nat} (hd0 : 2 < d0) (v0 : Option Nat) (h : zH) : zCal D z d0 h yJ5_size [va_rf v0] (f_J5_size v0 h) :=
  ⟨cJ5_size, 1, (some .int), [], 2, (show lv_args 0 [va_rf v0] = [(0, va_rf v0)] by simp [lv_args, zcat_rf, zcat_i, zcat_l, zcat_f, zcat_d]) ▸ w_J5_size v0 h, (plainFor_of_name (by decide)), by simp [lg_sl, zcat_rf, zcat_i, zcat_l, zcat_f, zcat_d], q2741, q102, hd0, by decide, by decide⟩
theorem w_X8_init (v0 : Option Nat) (v1 : Int32) (h : zH) : zS D z yX8_init cX8_init 2 none [] 1 h 0 [(0, va_rf v0), (1, .int v1)] [] (f_X8_init v0 v1 h) := by
  unfold f_X8_init
  refine s_aload_n (pc := 0) 0 dX8_init_0 rfl rfl ?_
  refine zS_ite (fun hr => ?_) (fun _ => zS_none)
  refine s_objinit (pc := 1) dX8_init_1 hr q1530 q164 q165 (by decide) (by decide) ?_
  refine s_aload_n (pc := 4) 0 dX8_init_4 rfl rfl ?_
  refine s_iload_n (pc := 5) 1 dX8_init_5 rfl rfl ?_
  refine s_putI (pc := 6) dX8_init_6 pf_X8_7 (fun h1 => ?_)
  exact s_vret (pc := 9) dX8_init_9 rfl
theorem c_X8_init {d0 : Nat} (hd0 : 1 < d0) (v0 : Option Nat) (v1 : Int32) (h : zH) : zCal D z d0 h yX8_init [va_rf v0, .int v1] (f_X8_init v0 v1 h) :=
  ⟨cX8_init, 2, none, [], 1, (show lv_args 0 [va_rf v0, .int v1] = [(0, va_rf v0), (1, .int v1)] by simp [lv_args, zcat_rf, zcat_i, zcat_l, zcat_f, zcat_d]) ▸ w_X8_init v0 v1 h, (plainFor_of_name (by decide)), by simp [lg_sl, zcat_rf, zcat_i, zcat_l, zcat_f, zcat_d], q1529, q151, hd0, by decide, by decide⟩
theorem w_J5_contains (v0 : Option Nat) (v1 : Option Nat) (h : zH) : zS D z yJ5_contains cJ5_contains 2 (some .boolean) [] 6 h 0 [(0, va_rf v0), (1, va_rf v1)] [] (f_J5_contains v0 v1 h) := by
  unfold f_J5_contains
  refine s_aload_n (pc := 0) 0 dJ5_contains_0 rfl rfl ?_
  refine s_gR (pc := 1) dJ5_contains_1 gf_J5_10 (fun r1 => ?_)
  refine s_aload_n (pc := 4) 1 dJ5_contains_4 rfl rfl ?_
  refine zS_ite (fun ht => ?_) (fun _ => ?_)
  · refine s_callV (pc := 5) (np := 1) (as := [va_rf v1]) (rest := []) dJ5_contains_5 ht (q := (RJ1, TJ1, 8)) rfl (c_J1_containsKey (by decide) r1 v1 h) rfl rfl q1540 q1541 q1542 rfl (by decide) (zkI (fun x2 h3 => ?_)) zxo
    exact s_nret (pc := 8) dJ5_contains_8 rfl
  refine zS_ite (fun ht => ?_) (fun _ => zS_none)
  refine s_callVU (pc := 5) (np := 1) (as := [va_rf v1]) (rest := []) (owner := "java/util/HashMap") dJ5_contains_5 ht (q := (RJ2, TJ2, 12)) rfl (c_J1_containsKey (by decide) r1 v1 h) ⟨_, _, _, q1545⟩ rfl rfl q1540 q1543 (Or.inl ⟨_, _, _, q1541, q1545⟩) (by decide) q1541 q1544 rfl (by decide) (zkI (fun x2 h3 => ?_)) zxo
  exact s_nret (pc := 8) dJ5_contains_8 rfl
theorem c_J5_contains {d0 : Nat} (hd0 : 6 < d0) (v0 : Option Nat) (v1 : Option Nat) (h : zH) : zCal D z d0 h yJ5_contains [va_rf v0, va_rf v1] (f_J5_contains v0 v1 h) :=
  ⟨cJ5_contains, 2, (some .boolean), [], 6, (show lv_args 0 [va_rf v0, va_rf v1] = [(0, va_rf v0), (1, va_rf v1)] by simp [lv_args, zcat_rf, zcat_i, zcat_l, zcat_f, zcat_d]) ▸ w_J5_contains v0 v1 h, (plainFor_of_name (by decide)), by simp [lg_sl, zcat_rf, zcat_i, zcat_l, zcat_f, zcat_d], q1539, q102, hd0, by decide, by decide⟩
theorem w_X2_hasBlock (v0 : Option Nat) (v1 : Int32) (h : zH) : zS D z yX2_hasBlock cX2_hasBlock 2 (some .boolean) [] 7 h 0 [(0, va_rf v0), (1, .int v1)] [] (f_X2_hasBlock v0 v1 h) := by
  unfold f_X2_hasBlock
  refine s_aload_n (pc := 0) 0 dX2_hasBlock_0 rfl rfl ?_
  refine s_gR (pc := 1) dX2_hasBlock_1 gf_X2_21 (fun r1 => ?_)
  refine s_new (pc := 4) dX2_hasBlock_4 nf_X2_75 (fun r2 h3 => ?_)
  refine s_dup (pc := 7) dX2_hasBlock_7 (zcat_rf _) ?_
  refine s_iload_n (pc := 8) 1 dX2_hasBlock_8 rfl rfl ?_
  refine zS_ite (fun hr => ?_) (fun _ => zS_none)
  refine s_callC (pc := 9) (np := 1) (as := [.int v1]) (rest := [va_rf r2, va_rf r1]) dX2_hasBlock_9 hr (c_X8_init (by decide) r2 v1 h3) ⟨_, _, q1529⟩ rfl rfl rfl q1527 q1528 rfl (by simp [zcat_rf, zcat_i, zcat_l, zcat_f, zcat_d]) (zkV (fun h4 => ?_)) zxo
  refine zS_ite (fun ht => ?_) (fun _ => zS_none)
  refine s_callV (pc := 12) (np := 1) (as := [va_rf r2]) (rest := []) dX2_hasBlock_12 ht (q := (RJ5, TJ5, 1)) rfl (c_J5_contains (by decide) r1 r2 h4) rfl rfl q1536 q1537 q1538 rfl (by decide) (zkI (fun x5 h6 => ?_)) zxo
  exact s_nret (pc := 15) dX2_hasBlock_15 rfl
theorem c_X2_hasBlock {d0 : Nat} (hd0 : 7 < d0) (v0 : Option Nat) (v1 : Int32) (h : zH) : zCal D z d0 h yX2_hasBlock [va_rf v0, .int v1] (f_X2_hasBlock v0 v1 h) :=
  ⟨cX2_hasBlock, 2, (some .boolean), [], 7, (show lv_args 0 [va_rf v0, .int v1] = [(0, va_rf v0), (1, .int v1)] by simp [lv_args, zcat_rf, zcat_i, zcat_l, zcat_f, zcat_d]) ▸ w_X2_hasBlock v0 v1 h, (plainFor_of_name (by decide)), by simp [lg_sl, zcat_rf, zcat_i, zcat_l, zcat_f, zcat_d], q1524, q96, hd0, by decide, by decide⟩
end WW2
