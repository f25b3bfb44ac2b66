set_option maxRecDepth 100000
theorem pf_X4_1 : zFp RX4 1 [3] 3 "<init>" (.object "FloatingDock$Yard") := ⟨_, _, _, .inl q1340, by decide +kernel, ztc ⟨_, tyX4, rfl, by decide, rfl, rfl, .inl rfl, in_X4, tyX4_ok, nmX4, .inr ⟨rfl, rfl, rfl, q1340⟩⟩ (zt0)⟩
theorem gf_X4_1 : zFg RX4 1 [3] 3 := ⟨_, _, _, .inl q1340, ztc ⟨_, rfl, by decide, rfl, rfl, .inl rfl, in_X4⟩ (zt0)⟩
theorem pf_X4_19 : zFp RX4 19 [3] 0 "<init>" (.object "java/util/ArrayList") := ⟨_, _, _, .inl q1336, by decide +kernel, ztc ⟨_, tyX4, rfl, by decide, rfl, rfl, .inl rfl, in_X4, tyX4_ok, nmX4, .inr ⟨rfl, rfl, rfl, q1336⟩⟩ (zt0)⟩
theorem pf_X4_31 : zFp RX4 31 [3] 1 "<init>" (.array (.int)) := ⟨_, _, _, .inl q1337, by decide +kernel, ztc ⟨_, tyX4, rfl, by decide, rfl, rfl, .inl rfl, in_X4, tyX4_ok, nmX4, .inr ⟨rfl, rfl, rfl, q1337⟩⟩ (zt0)⟩
theorem gf_X4_31 : zFg RX4 31 [3] 1 := ⟨_, _, _, .inl q1337, ztc ⟨_, rfl, by decide, rfl, rfl, .inl rfl, in_X4⟩ (zt0)⟩
theorem gf_X4_41 : zFg RX4 41 [2] 1 := ⟨_, _, _, .inr ⟨_, q1297⟩, ztc ⟨_, rfl, by decide, rfl, rfl, .inl rfl, in_X3⟩ (zt0)⟩
theorem gf_X4_45 : zFg RX4 45 [3] 2 := ⟨_, _, _, .inl q1338, ztc ⟨_, rfl, by decide, rfl, rfl, .inl rfl, in_X4⟩ (zt0)⟩
theorem pf_X4_45 {nm : String} : zFp RX4 45 [3] 2 nm (.int) := ⟨_, _, _, .inl q1338, by decide +kernel, ztc ⟨_, tyX4, rfl, by decide, rfl, rfl, .inl rfl, in_X4, tyX4_ok, nmX4, .inl rfl⟩ (zt0)⟩
theorem gf_X4_19 : zFg RX4 19 [3] 0 := ⟨_, _, _, .inl q1336, ztc ⟨_, rfl, by decide, rfl, rfl, .inl rfl, in_X4⟩ (zt0)⟩
theorem gf_X4_56 : zFg RX4 56 [5] 1 := ⟨_, _, _, .inr ⟨_, q2008⟩, ztc ⟨_, rfl, by decide, rfl, rfl, .inl rfl, in_X6⟩ (zt0)⟩
theorem nf_X2_318 : zFn RX2 318 3 [.null, .null, .int 0, .null] := ⟨_, tyX4, rfl, q1318, q1319, q139, in_X4, tyX4_ok, rfl⟩
theorem gf_X2_324 : zFg RX2 324 [3] 2 := ⟨_, _, _, .inr ⟨_, q1339⟩, ztc ⟨_, rfl, by decide, rfl, rfl, .inl rfl, in_X4⟩ (zt0)⟩
theorem gf_X1_198 : zFg RX1 198 [1] 6 := ⟨_, _, _, .inr ⟨_, q277⟩, ztc ⟨_, rfl, by decide, rfl, rfl, .inl rfl, in_X2⟩ (zt0)⟩
theorem gf_X1_215 : zFg RX1 215 [1] 4 := ⟨_, _, _, .inr ⟨_, q274⟩, ztc ⟨_, rfl, by decide, rfl, rfl, .inl rfl, in_X2⟩ (zt0)⟩
theorem gf_X1_267 : zFg RX1 267 [1] 8 := ⟨_, _, _, .inr ⟨_, q280⟩, ztc ⟨_, rfl, by decide, rfl, rfl, .inl rfl, in_X2⟩ (zt0)⟩
theorem gf_X1_270 : zFg RX1 270 [1] 9 := ⟨_, _, _, .inr ⟨_, q282⟩, ztc ⟨_, rfl, by decide, rfl, rfl, .inl rfl, in_X2⟩ (zt0)⟩
theorem nf_X2_357 : zFn RX2 357 16 [.null, .int 0, .int 0, .int 0] := ⟨_, tyJ8, rfl, q1502, q325, q105, in_J8, tyJ8_ok, rfl⟩
section WW8
variable {D : va_G} {z : Nat}
theorem w_X2_waiting_66 (K23 : Option Nat → Option Nat → Option Nat → zH → zO) (hK23 : ∀ (a0 : Option Nat) (a1 : Option Nat) (a2 : Option Nat) (h : zH), zS D z yX2_waiting cX2_waiting 4 (some (.object "java/util/ArrayList")) [] 10 h 23 [(0, va_rf a0), (1, va_rf a1), (2, va_rf a2)] [] (K23 a0 a1 a2 h)) (a0 : Option Nat) (a1 : Option Nat) (a2 : Option Nat) (h : zH) : zS D z yX2_waiting cX2_waiting 4 (some (.object "java/util/ArrayList")) [] 10 h 66 [(0, va_rf a0), (1, va_rf a1), (2, va_rf a2)] [] (f_X2_waiting_66 K23 a0 a1 a2 h) := by
  unfold f_X2_waiting_66
  refine s_goto (pc := 66) (tgt := 23) dX2_waiting_66 (by decide) ?_
  exact s_sub (pc := 23) [0, 1, 2] rfl (hK23 a0 a1 a2 h)
theorem w_X2_waiting_23 : ∀ (n : Nat) (a0 : Option Nat) (a1 : Option Nat) (a2 : Option Nat) (h : zH), zS D z yX2_waiting cX2_waiting 4 (some (.object "java/util/ArrayList")) [] 10 h 23 [(0, va_rf a0), (1, va_rf a1), (2, va_rf a2)] [] (f_X2_waiting_23 n a0 a1 a2 h) := by
  intro n
  induction n with
  | zero => intros; exact zS_none
  | succ n ih =>
    intro a0 a1 a2 h
    rw [f_X2_waiting_23.eq_2]
    refine s_aload_n (pc := 23) 2 dX2_waiting_23 rfl rfl ?_
    refine zS_ite (fun ht => ?_) (fun _ => ?_)
    · refine s_callF (pc := 24) (np := 0) (as := []) (rest := []) dX2_waiting_24 ht (q := (RX9, TX9, 2)) rfl (c_X9_hasNext (by decide) a2 h) ⟨_, _, _, q637⟩ rfl rfl q629 (by decide +kernel) q635 q633 rfl (by decide) (zkI (fun x9 h10 => ?_)) zxo
      refine s_if_eq (pc := 29) (tgt := 69) dX2_waiting_29 (by decide) (fun _ => ?_) (fun _ => ?_)
      · refine s_aload_n (pc := 69) 1 dX2_waiting_69 rfl rfl ?_
        exact s_aret (pc := 70) dX2_waiting_70 rfl (Or.inl ⟨_, rfl⟩)
      · refine s_aload_n (pc := 32) 2 dX2_waiting_32 rfl rfl ?_
        refine zS_ite (fun ht => ?_) (fun _ => ?_)
        · refine s_callF (pc := 33) (np := 0) (as := []) (rest := []) dX2_waiting_33 ht (q := (RX9, TX9, 2)) rfl (c_X9_next (by decide) a2 h10) ⟨_, _, _, q677⟩ rfl rfl q670 (by decide +kernel) q675 q673 rfl (by decide) (zkR (fun r11 h12 => ?_)) zxo
          refine s_cast (pc := 38) dX2_waiting_38 q836 zcs_FloatingDock_Ship ?_
          refine s_ast_n (pc := 41) (L2 := [(0, va_rf a0), (1, va_rf a1), (2, va_rf a2)]) [0, 1, 2] dX2_waiting_41 rfl (by decide) rfl rfl (zcB (j := 2) rfl (zcat_rf a2) rfl) ?_
          refine s_aload_n (pc := 42) 0 dX2_waiting_42 rfl rfl ?_
          refine zS_ite (fun ht => ?_) (fun _ => zS_none)
          refine s_callV (pc := 43) (np := 0) (as := []) (rest := []) dX2_waiting_43 ht (q := (RX6, TX6, 9)) rfl (c_X6_isInDock (by decide) r11 h12) rfl rfl q837 q367 q368 rfl (by decide) (zkI (fun x13 h14 => ?_)) zxo
          refine s_if_ne (pc := 46) (tgt := 66) dX2_waiting_46 (by decide) (fun _ => ?_) (fun _ => ?_)
          · exact s_sub (pc := 66) [1, 2, 3] rfl (w_X2_waiting_66 (f_X2_waiting_23 n) ih a0 a1 a2 h14)
          · refine s_aload_n (pc := 49) 0 dX2_waiting_49 rfl rfl ?_
            refine s_aload_n (pc := 50) 1 dX2_waiting_50 rfl rfl ?_
            refine s_gI (pc := 51) dX2_waiting_51 gf_X2_25 (fun x15 => ?_)
            refine zS_ite (fun ht => ?_) (fun _ => zS_none)
            refine s_callV (pc := 54) (np := 1) (as := [.int x15]) (rest := []) dX2_waiting_54 ht (q := (RX6, TX6, 9)) rfl (c_X6_isDeepEnough (by decide) r11 x15 h14) rfl rfl q1328 q1329 q1330 rfl (by decide) (zkI (fun x16 h17 => ?_)) zxo
            refine s_if_eq (pc := 57) (tgt := 66) dX2_waiting_57 (by decide) (fun _ => ?_) (fun _ => ?_)
            · exact s_sub (pc := 66) [1, 2, 3] rfl (w_X2_waiting_66 (f_X2_waiting_23 n) ih a0 a1 a2 h17)
            · refine s_aload_n (pc := 60) 2 dX2_waiting_60 rfl rfl ?_
              refine s_aload_n (pc := 61) 0 dX2_waiting_61 rfl rfl ?_
              refine zS_ite (fun ht => ?_) (fun _ => zS_none)
              refine s_callV (pc := 62) (np := 1) (as := [va_rf r11]) (rest := []) dX2_waiting_62 ht (q := (RJ37, TJ37, 3)) rfl (c_J37_add_2 (by decide) a1 r11 h17) rfl rfl q1304 q1305 q1306 rfl (by decide) (zkI (fun x18 h19 => ?_)) zxo
              refine s_pop (pc := 65) dX2_waiting_65 rfl ?_
              exact s_sub (pc := 66) [1, 2, 3] rfl (w_X2_waiting_66 (f_X2_waiting_23 n) ih a0 a1 a2 h19)
        refine zS_ite (fun ht => ?_) (fun _ => ?_)
        · refine s_callF (pc := 33) (np := 0) (as := []) (rest := []) dX2_waiting_33 ht (q := (RJ15, TJ15, 4)) rfl (c_J15_next (by decide) a2 h10) ⟨_, _, _, q788⟩ rfl rfl q670 (by decide +kernel) q786 q784 rfl (by decide) (zkR (fun r11 h12 => ?_)) zxo
          refine s_cast (pc := 38) dX2_waiting_38 q836 zcs_FloatingDock_Ship ?_
          refine s_ast_n (pc := 41) (L2 := [(0, va_rf a0), (1, va_rf a1), (2, va_rf a2)]) [0, 1, 2] dX2_waiting_41 rfl (by decide) rfl rfl (zcB (j := 2) rfl (zcat_rf a2) rfl) ?_
          refine s_aload_n (pc := 42) 0 dX2_waiting_42 rfl rfl ?_
          refine zS_ite (fun ht => ?_) (fun _ => zS_none)
          refine s_callV (pc := 43) (np := 0) (as := []) (rest := []) dX2_waiting_43 ht (q := (RX6, TX6, 9)) rfl (c_X6_isInDock (by decide) r11 h12) rfl rfl q837 q367 q368 rfl (by decide) (zkI (fun x20 h21 => ?_)) zxo
          refine s_if_ne (pc := 46) (tgt := 66) dX2_waiting_46 (by decide) (fun _ => ?_) (fun _ => ?_)
          · exact s_sub (pc := 66) [1, 2, 3] rfl (w_X2_waiting_66 (f_X2_waiting_23 n) ih a0 a1 a2 h21)
          · refine s_aload_n (pc := 49) 0 dX2_waiting_49 rfl rfl ?_
            refine s_aload_n (pc := 50) 1 dX2_waiting_50 rfl rfl ?_
            refine s_gI (pc := 51) dX2_waiting_51 gf_X2_25 (fun x22 => ?_)
            refine zS_ite (fun ht => ?_) (fun _ => zS_none)
            refine s_callV (pc := 54) (np := 1) (as := [.int x22]) (rest := []) dX2_waiting_54 ht (q := (RX6, TX6, 9)) rfl (c_X6_isDeepEnough (by decide) r11 x22 h21) rfl rfl q1328 q1329 q1330 rfl (by decide) (zkI (fun x23 h24 => ?_)) zxo
            refine s_if_eq (pc := 57) (tgt := 66) dX2_waiting_57 (by decide) (fun _ => ?_) (fun _ => ?_)
            · exact s_sub (pc := 66) [1, 2, 3] rfl (w_X2_waiting_66 (f_X2_waiting_23 n) ih a0 a1 a2 h24)
            · refine s_aload_n (pc := 60) 2 dX2_waiting_60 rfl rfl ?_
              refine s_aload_n (pc := 61) 0 dX2_waiting_61 rfl rfl ?_
              refine zS_ite (fun ht => ?_) (fun _ => zS_none)
              refine s_callV (pc := 62) (np := 1) (as := [va_rf r11]) (rest := []) dX2_waiting_62 ht (q := (RJ37, TJ37, 3)) rfl (c_J37_add_2 (by decide) a1 r11 h24) rfl rfl q1304 q1305 q1306 rfl (by decide) (zkI (fun x25 h26 => ?_)) zxo
              refine s_pop (pc := 65) dX2_waiting_65 rfl ?_
              exact s_sub (pc := 66) [1, 2, 3] rfl (w_X2_waiting_66 (f_X2_waiting_23 n) ih a0 a1 a2 h26)
        refine zS_ite (fun ht => ?_) (fun _ => ?_)
        · refine s_callF (pc := 33) (np := 0) (as := []) (rest := []) dX2_waiting_33 ht (q := (RJ17, TJ17, 5)) rfl (c_J17_next (by decide) a2 h10) ⟨_, _, _, q799⟩ rfl rfl q670 (by decide +kernel) q797 q795 rfl (by decide) (zkR (fun r11 h12 => ?_)) zxo
          refine s_cast (pc := 38) dX2_waiting_38 q836 zcs_FloatingDock_Ship ?_
          refine s_ast_n (pc := 41) (L2 := [(0, va_rf a0), (1, va_rf a1), (2, va_rf a2)]) [0, 1, 2] dX2_waiting_41 rfl (by decide) rfl rfl (zcB (j := 2) rfl (zcat_rf a2) rfl) ?_
          refine s_aload_n (pc := 42) 0 dX2_waiting_42 rfl rfl ?_
          refine zS_ite (fun ht => ?_) (fun _ => zS_none)
          refine s_callV (pc := 43) (np := 0) (as := []) (rest := []) dX2_waiting_43 ht (q := (RX6, TX6, 9)) rfl (c_X6_isInDock (by decide) r11 h12) rfl rfl q837 q367 q368 rfl (by decide) (zkI (fun x27 h28 => ?_)) zxo
          refine s_if_ne (pc := 46) (tgt := 66) dX2_waiting_46 (by decide) (fun _ => ?_) (fun _ => ?_)
          · exact s_sub (pc := 66) [1, 2, 3] rfl (w_X2_waiting_66 (f_X2_waiting_23 n) ih a0 a1 a2 h28)
          · refine s_aload_n (pc := 49) 0 dX2_waiting_49 rfl rfl ?_
            refine s_aload_n (pc := 50) 1 dX2_waiting_50 rfl rfl ?_
            refine s_gI (pc := 51) dX2_waiting_51 gf_X2_25 (fun x29 => ?_)
            refine zS_ite (fun ht => ?_) (fun _ => zS_none)
            refine s_callV (pc := 54) (np := 1) (as := [.int x29]) (rest := []) dX2_waiting_54 ht (q := (RX6, TX6, 9)) rfl (c_X6_isDeepEnough (by decide) r11 x29 h28) rfl rfl q1328 q1329 q1330 rfl (by decide) (zkI (fun x30 h31 => ?_)) zxo
            refine s_if_eq (pc := 57) (tgt := 66) dX2_waiting_57 (by decide) (fun _ => ?_) (fun _ => ?_)
            · exact s_sub (pc := 66) [1, 2, 3] rfl (w_X2_waiting_66 (f_X2_waiting_23 n) ih a0 a1 a2 h31)
            · refine s_aload_n (pc := 60) 2 dX2_waiting_60 rfl rfl ?_
              refine s_aload_n (pc := 61) 0 dX2_waiting_61 rfl rfl ?_
              refine zS_ite (fun ht => ?_) (fun _ => zS_none)
              refine s_callV (pc := 62) (np := 1) (as := [va_rf r11]) (rest := []) dX2_waiting_62 ht (q := (RJ37, TJ37, 3)) rfl (c_J37_add_2 (by decide) a1 r11 h31) rfl rfl q1304 q1305 q1306 rfl (by decide) (zkI (fun x32 h33 => ?_)) zxo
              refine s_pop (pc := 65) dX2_waiting_65 rfl ?_
              exact s_sub (pc := 66) [1, 2, 3] rfl (w_X2_waiting_66 (f_X2_waiting_23 n) ih a0 a1 a2 h33)
        refine zS_ite (fun ht => ?_) (fun _ => ?_)
        · refine s_callF (pc := 33) (np := 0) (as := []) (rest := []) dX2_waiting_33 ht (q := (RJ21, TJ21, 5)) rfl (c_J21_next (by decide) a2 h10) ⟨_, _, _, q812⟩ rfl rfl q670 (by decide +kernel) q810 q808 rfl (by decide) (zkR (fun r11 h12 => ?_)) zxo
          refine s_cast (pc := 38) dX2_waiting_38 q836 zcs_FloatingDock_Ship ?_
          refine s_ast_n (pc := 41) (L2 := [(0, va_rf a0), (1, va_rf a1), (2, va_rf a2)]) [0, 1, 2] dX2_waiting_41 rfl (by decide) rfl rfl (zcB (j := 2) rfl (zcat_rf a2) rfl) ?_
          refine s_aload_n (pc := 42) 0 dX2_waiting_42 rfl rfl ?_
          refine zS_ite (fun ht => ?_) (fun _ => zS_none)
          refine s_callV (pc := 43) (np := 0) (as := []) (rest := []) dX2_waiting_43 ht (q := (RX6, TX6, 9)) rfl (c_X6_isInDock (by decide) r11 h12) rfl rfl q837 q367 q368 rfl (by decide) (zkI (fun x34 h35 => ?_)) zxo
          refine s_if_ne (pc := 46) (tgt := 66) dX2_waiting_46 (by decide) (fun _ => ?_) (fun _ => ?_)
          · exact s_sub (pc := 66) [1, 2, 3] rfl (w_X2_waiting_66 (f_X2_waiting_23 n) ih a0 a1 a2 h35)
          · refine s_aload_n (pc := 49) 0 dX2_waiting_49 rfl rfl ?_
            refine s_aload_n (pc := 50) 1 dX2_waiting_50 rfl rfl ?_
            refine s_gI (pc := 51) dX2_waiting_51 gf_X2_25 (fun x36 => ?_)
            refine zS_ite (fun ht => ?_) (fun _ => zS_none)
            refine s_callV (pc := 54) (np := 1) (as := [.int x36]) (rest := []) dX2_waiting_54 ht (q := (RX6, TX6, 9)) rfl (c_X6_isDeepEnough (by decide) r11 x36 h35) rfl rfl q1328 q1329 q1330 rfl (by decide) (zkI (fun x37 h38 => ?_)) zxo
            refine s_if_eq (pc := 57) (tgt := 66) dX2_waiting_57 (by decide) (fun _ => ?_) (fun _ => ?_)
            · exact s_sub (pc := 66) [1, 2, 3] rfl (w_X2_waiting_66 (f_X2_waiting_23 n) ih a0 a1 a2 h38)
            · refine s_aload_n (pc := 60) 2 dX2_waiting_60 rfl rfl ?_
              refine s_aload_n (pc := 61) 0 dX2_waiting_61 rfl rfl ?_
              refine zS_ite (fun ht => ?_) (fun _ => zS_none)
              refine s_callV (pc := 62) (np := 1) (as := [va_rf r11]) (rest := []) dX2_waiting_62 ht (q := (RJ37, TJ37, 3)) rfl (c_J37_add_2 (by decide) a1 r11 h38) rfl rfl q1304 q1305 q1306 rfl (by decide) (zkI (fun x39 h40 => ?_)) zxo
              refine s_pop (pc := 65) dX2_waiting_65 rfl ?_
              exact s_sub (pc := 66) [1, 2, 3] rfl (w_X2_waiting_66 (f_X2_waiting_23 n) ih a0 a1 a2 h40)
        refine zS_ite (fun ht => ?_) (fun _ => zS_none)
        refine s_callF (pc := 33) (np := 0) (as := []) (rest := []) dX2_waiting_33 ht (q := (RJ22, TJ22, 5)) rfl (c_J22_next (by decide) a2 h10) ⟨_, _, _, q832⟩ rfl rfl q670 (by decide +kernel) q830 q828 rfl (by decide) (zkR (fun r11 h12 => ?_)) zxo
        refine s_cast (pc := 38) dX2_waiting_38 q836 zcs_FloatingDock_Ship ?_
        refine s_ast_n (pc := 41) (L2 := [(0, va_rf a0), (1, va_rf a1), (2, va_rf a2)]) [0, 1, 2] dX2_waiting_41 rfl (by decide) rfl rfl (zcB (j := 2) rfl (zcat_rf a2) rfl) ?_
        refine s_aload_n (pc := 42) 0 dX2_waiting_42 rfl rfl ?_
        refine zS_ite (fun ht => ?_) (fun _ => zS_none)
        refine s_callV (pc := 43) (np := 0) (as := []) (rest := []) dX2_waiting_43 ht (q := (RX6, TX6, 9)) rfl (c_X6_isInDock (by decide) r11 h12) rfl rfl q837 q367 q368 rfl (by decide) (zkI (fun x41 h42 => ?_)) zxo
        refine s_if_ne (pc := 46) (tgt := 66) dX2_waiting_46 (by decide) (fun _ => ?_) (fun _ => ?_)
        · exact s_sub (pc := 66) [1, 2, 3] rfl (w_X2_waiting_66 (f_X2_waiting_23 n) ih a0 a1 a2 h42)
        · refine s_aload_n (pc := 49) 0 dX2_waiting_49 rfl rfl ?_
          refine s_aload_n (pc := 50) 1 dX2_waiting_50 rfl rfl ?_
          refine s_gI (pc := 51) dX2_waiting_51 gf_X2_25 (fun x43 => ?_)
          refine zS_ite (fun ht => ?_) (fun _ => zS_none)
          refine s_callV (pc := 54) (np := 1) (as := [.int x43]) (rest := []) dX2_waiting_54 ht (q := (RX6, TX6, 9)) rfl (c_X6_isDeepEnough (by decide) r11 x43 h42) rfl rfl q1328 q1329 q1330 rfl (by decide) (zkI (fun x44 h45 => ?_)) zxo
          refine s_if_eq (pc := 57) (tgt := 66) dX2_waiting_57 (by decide) (fun _ => ?_) (fun _ => ?_)
          · exact s_sub (pc := 66) [1, 2, 3] rfl (w_X2_waiting_66 (f_X2_waiting_23 n) ih a0 a1 a2 h45)
          · refine s_aload_n (pc := 60) 2 dX2_waiting_60 rfl rfl ?_
            refine s_aload_n (pc := 61) 0 dX2_waiting_61 rfl rfl ?_
            refine zS_ite (fun ht => ?_) (fun _ => zS_none)
            refine s_callV (pc := 62) (np := 1) (as := [va_rf r11]) (rest := []) dX2_waiting_62 ht (q := (RJ37, TJ37, 3)) rfl (c_J37_add_2 (by decide) a1 r11 h45) rfl rfl q1304 q1305 q1306 rfl (by decide) (zkI (fun x46 h47 => ?_)) zxo
            refine s_pop (pc := 65) dX2_waiting_65 rfl ?_
            exact s_sub (pc := 66) [1, 2, 3] rfl (w_X2_waiting_66 (f_X2_waiting_23 n) ih a0 a1 a2 h47)
    refine zS_ite (fun ht => ?_) (fun _ => ?_)
    · refine s_callF (pc := 24) (np := 0) (as := []) (rest := []) dX2_waiting_24 ht (q := (RJ15, TJ15, 4)) rfl (c_J15_hasNext (by decide) a2 h) ⟨_, _, _, q653⟩ rfl rfl q629 (by decide +kernel) q651 q649 rfl (by decide) (zkI (fun x9 h10 => ?_)) zxo
      refine s_if_eq (pc := 29) (tgt := 69) dX2_waiting_29 (by decide) (fun _ => ?_) (fun _ => ?_)
      · refine s_aload_n (pc := 69) 1 dX2_waiting_69 rfl rfl ?_
        exact s_aret (pc := 70) dX2_waiting_70 rfl (Or.inl ⟨_, rfl⟩)
      · refine s_aload_n (pc := 32) 2 dX2_waiting_32 rfl rfl ?_
        refine zS_ite (fun ht => ?_) (fun _ => ?_)
        · refine s_callF (pc := 33) (np := 0) (as := []) (rest := []) dX2_waiting_33 ht (q := (RX9, TX9, 2)) rfl (c_X9_next (by decide) a2 h10) ⟨_, _, _, q677⟩ rfl rfl q670 (by decide +kernel) q675 q673 rfl (by decide) (zkR (fun r48 h49 => ?_)) zxo
          refine s_cast (pc := 38) dX2_waiting_38 q836 zcs_FloatingDock_Ship ?_
          refine s_ast_n (pc := 41) (L2 := [(0, va_rf a0), (1, va_rf a1), (2, va_rf a2)]) [0, 1, 2] dX2_waiting_41 rfl (by decide) rfl rfl (zcB (j := 2) rfl (zcat_rf a2) rfl) ?_
          refine s_aload_n (pc := 42) 0 dX2_waiting_42 rfl rfl ?_
          refine zS_ite (fun ht => ?_) (fun _ => zS_none)
          refine s_callV (pc := 43) (np := 0) (as := []) (rest := []) dX2_waiting_43 ht (q := (RX6, TX6, 9)) rfl (c_X6_isInDock (by decide) r48 h49) rfl rfl q837 q367 q368 rfl (by decide) (zkI (fun x50 h51 => ?_)) zxo
          refine s_if_ne (pc := 46) (tgt := 66) dX2_waiting_46 (by decide) (fun _ => ?_) (fun _ => ?_)
          · exact s_sub (pc := 66) [1, 2, 3] rfl (w_X2_waiting_66 (f_X2_waiting_23 n) ih a0 a1 a2 h51)
          · refine s_aload_n (pc := 49) 0 dX2_waiting_49 rfl rfl ?_
            refine s_aload_n (pc := 50) 1 dX2_waiting_50 rfl rfl ?_
            refine s_gI (pc := 51) dX2_waiting_51 gf_X2_25 (fun x52 => ?_)
            refine zS_ite (fun ht => ?_) (fun _ => zS_none)
            refine s_callV (pc := 54) (np := 1) (as := [.int x52]) (rest := []) dX2_waiting_54 ht (q := (RX6, TX6, 9)) rfl (c_X6_isDeepEnough (by decide) r48 x52 h51) rfl rfl q1328 q1329 q1330 rfl (by decide) (zkI (fun x53 h54 => ?_)) zxo
            refine s_if_eq (pc := 57) (tgt := 66) dX2_waiting_57 (by decide) (fun _ => ?_) (fun _ => ?_)
            · exact s_sub (pc := 66) [1, 2, 3] rfl (w_X2_waiting_66 (f_X2_waiting_23 n) ih a0 a1 a2 h54)
            · refine s_aload_n (pc := 60) 2 dX2_waiting_60 rfl rfl ?_
              refine s_aload_n (pc := 61) 0 dX2_waiting_61 rfl rfl ?_
              refine zS_ite (fun ht => ?_) (fun _ => zS_none)
              refine s_callV (pc := 62) (np := 1) (as := [va_rf r48]) (rest := []) dX2_waiting_62 ht (q := (RJ37, TJ37, 3)) rfl (c_J37_add_2 (by decide) a1 r48 h54) rfl rfl q1304 q1305 q1306 rfl (by decide) (zkI (fun x55 h56 => ?_)) zxo
              refine s_pop (pc := 65) dX2_waiting_65 rfl ?_
              exact s_sub (pc := 66) [1, 2, 3] rfl (w_X2_waiting_66 (f_X2_waiting_23 n) ih a0 a1 a2 h56)
        refine zS_ite (fun ht => ?_) (fun _ => ?_)
        · refine s_callF (pc := 33) (np := 0) (as := []) (rest := []) dX2_waiting_33 ht (q := (RJ15, TJ15, 4)) rfl (c_J15_next (by decide) a2 h10) ⟨_, _, _, q788⟩ rfl rfl q670 (by decide +kernel) q786 q784 rfl (by decide) (zkR (fun r48 h49 => ?_)) zxo
          refine s_cast (pc := 38) dX2_waiting_38 q836 zcs_FloatingDock_Ship ?_
          refine s_ast_n (pc := 41) (L2 := [(0, va_rf a0), (1, va_rf a1), (2, va_rf a2)]) [0, 1, 2] dX2_waiting_41 rfl (by decide) rfl rfl (zcB (j := 2) rfl (zcat_rf a2) rfl) ?_
          refine s_aload_n (pc := 42) 0 dX2_waiting_42 rfl rfl ?_
          refine zS_ite (fun ht => ?_) (fun _ => zS_none)
          refine s_callV (pc := 43) (np := 0) (as := []) (rest := []) dX2_waiting_43 ht (q := (RX6, TX6, 9)) rfl (c_X6_isInDock (by decide) r48 h49) rfl rfl q837 q367 q368 rfl (by decide) (zkI (fun x57 h58 => ?_)) zxo
          refine s_if_ne (pc := 46) (tgt := 66) dX2_waiting_46 (by decide) (fun _ => ?_) (fun _ => ?_)
          · exact s_sub (pc := 66) [1, 2, 3] rfl (w_X2_waiting_66 (f_X2_waiting_23 n) ih a0 a1 a2 h58)
          · refine s_aload_n (pc := 49) 0 dX2_waiting_49 rfl rfl ?_
            refine s_aload_n (pc := 50) 1 dX2_waiting_50 rfl rfl ?_
            refine s_gI (pc := 51) dX2_waiting_51 gf_X2_25 (fun x59 => ?_)
            refine zS_ite (fun ht => ?_) (fun _ => zS_none)
            refine s_callV (pc := 54) (np := 1) (as := [.int x59]) (rest := []) dX2_waiting_54 ht (q := (RX6, TX6, 9)) rfl (c_X6_isDeepEnough (by decide) r48 x59 h58) rfl rfl q1328 q1329 q1330 rfl (by decide) (zkI (fun x60 h61 => ?_)) zxo
            refine s_if_eq (pc := 57) (tgt := 66) dX2_waiting_57 (by decide) (fun _ => ?_) (fun _ => ?_)
            · exact s_sub (pc := 66) [1, 2, 3] rfl (w_X2_waiting_66 (f_X2_waiting_23 n) ih a0 a1 a2 h61)
            · refine s_aload_n (pc := 60) 2 dX2_waiting_60 rfl rfl ?_
              refine s_aload_n (pc := 61) 0 dX2_waiting_61 rfl rfl ?_
              refine zS_ite (fun ht => ?_) (fun _ => zS_none)
              refine s_callV (pc := 62) (np := 1) (as := [va_rf r48]) (rest := []) dX2_waiting_62 ht (q := (RJ37, TJ37, 3)) rfl (c_J37_add_2 (by decide) a1 r48 h61) rfl rfl q1304 q1305 q1306 rfl (by decide) (zkI (fun x62 h63 => ?_)) zxo
              refine s_pop (pc := 65) dX2_waiting_65 rfl ?_
              exact s_sub (pc := 66) [1, 2, 3] rfl (w_X2_waiting_66 (f_X2_waiting_23 n) ih a0 a1 a2 h63)
        refine zS_ite (fun ht => ?_) (fun _ => ?_)
        · refine s_callF (pc := 33) (np := 0) (as := []) (rest := []) dX2_waiting_33 ht (q := (RJ17, TJ17, 5)) rfl (c_J17_next (by decide) a2 h10) ⟨_, _, _, q799⟩ rfl rfl q670 (by decide +kernel) q797 q795 rfl (by decide) (zkR (fun r48 h49 => ?_)) zxo
          refine s_cast (pc := 38) dX2_waiting_38 q836 zcs_FloatingDock_Ship ?_
          refine s_ast_n (pc := 41) (L2 := [(0, va_rf a0), (1, va_rf a1), (2, va_rf a2)]) [0, 1, 2] dX2_waiting_41 rfl (by decide) rfl rfl (zcB (j := 2) rfl (zcat_rf a2) rfl) ?_
          refine s_aload_n (pc := 42) 0 dX2_waiting_42 rfl rfl ?_
          refine zS_ite (fun ht => ?_) (fun _ => zS_none)
          refine s_callV (pc := 43) (np := 0) (as := []) (rest := []) dX2_waiting_43 ht (q := (RX6, TX6, 9)) rfl (c_X6_isInDock (by decide) r48 h49) rfl rfl q837 q367 q368 rfl (by decide) (zkI (fun x64 h65 => ?_)) zxo
          refine s_if_ne (pc := 46) (tgt := 66) dX2_waiting_46 (by decide) (fun _ => ?_) (fun _ => ?_)
          · exact s_sub (pc := 66) [1, 2, 3] rfl (w_X2_waiting_66 (f_X2_waiting_23 n) ih a0 a1 a2 h65)
          · refine s_aload_n (pc := 49) 0 dX2_waiting_49 rfl rfl ?_
            refine s_aload_n (pc := 50) 1 dX2_waiting_50 rfl rfl ?_
            refine s_gI (pc := 51) dX2_waiting_51 gf_X2_25 (fun x66 => ?_)
            refine zS_ite (fun ht => ?_) (fun _ => zS_none)
            refine s_callV (pc := 54) (np := 1) (as := [.int x66]) (rest := []) dX2_waiting_54 ht (q := (RX6, TX6, 9)) rfl (c_X6_isDeepEnough (by decide) r48 x66 h65) rfl rfl q1328 q1329 q1330 rfl (by decide) (zkI (fun x67 h68 => ?_)) zxo
            refine s_if_eq (pc := 57) (tgt := 66) dX2_waiting_57 (by decide) (fun _ => ?_) (fun _ => ?_)
            · exact s_sub (pc := 66) [1, 2, 3] rfl (w_X2_waiting_66 (f_X2_waiting_23 n) ih a0 a1 a2 h68)
            · refine s_aload_n (pc := 60) 2 dX2_waiting_60 rfl rfl ?_
              refine s_aload_n (pc := 61) 0 dX2_waiting_61 rfl rfl ?_
              refine zS_ite (fun ht => ?_) (fun _ => zS_none)
              refine s_callV (pc := 62) (np := 1) (as := [va_rf r48]) (rest := []) dX2_waiting_62 ht (q := (RJ37, TJ37, 3)) rfl (c_J37_add_2 (by decide) a1 r48 h68) rfl rfl q1304 q1305 q1306 rfl (by decide) (zkI (fun x69 h70 => ?_)) zxo
              refine s_pop (pc := 65) dX2_waiting_65 rfl ?_
              exact s_sub (pc := 66) [1, 2, 3] rfl (w_X2_waiting_66 (f_X2_waiting_23 n) ih a0 a1 a2 h70)
        refine zS_ite (fun ht => ?_) (fun _ => ?_)
        · refine s_callF (pc := 33) (np := 0) (as := []) (rest := []) dX2_waiting_33 ht (q := (RJ21, TJ21, 5)) rfl (c_J21_next (by decide) a2 h10) ⟨_, _, _, q812⟩ rfl rfl q670 (by decide +kernel) q810 q808 rfl (by decide) (zkR (fun r48 h49 => ?_)) zxo
          refine s_cast (pc := 38) dX2_waiting_38 q836 zcs_FloatingDock_Ship ?_
          refine s_ast_n (pc := 41) (L2 := [(0, va_rf a0), (1, va_rf a1), (2, va_rf a2)]) [0, 1, 2] dX2_waiting_41 rfl (by decide) rfl rfl (zcB (j := 2) rfl (zcat_rf a2) rfl) ?_
          refine s_aload_n (pc := 42) 0 dX2_waiting_42 rfl rfl ?_
          refine zS_ite (fun ht => ?_) (fun _ => zS_none)
          refine s_callV (pc := 43) (np := 0) (as := []) (rest := []) dX2_waiting_43 ht (q := (RX6, TX6, 9)) rfl (c_X6_isInDock (by decide) r48 h49) rfl rfl q837 q367 q368 rfl (by decide) (zkI (fun x71 h72 => ?_)) zxo
          refine s_if_ne (pc := 46) (tgt := 66) dX2_waiting_46 (by decide) (fun _ => ?_) (fun _ => ?_)
          · exact s_sub (pc := 66) [1, 2, 3] rfl (w_X2_waiting_66 (f_X2_waiting_23 n) ih a0 a1 a2 h72)
          · refine s_aload_n (pc := 49) 0 dX2_waiting_49 rfl rfl ?_
            refine s_aload_n (pc := 50) 1 dX2_waiting_50 rfl rfl ?_
            refine s_gI (pc := 51) dX2_waiting_51 gf_X2_25 (fun x73 => ?_)
            refine zS_ite (fun ht => ?_) (fun _ => zS_none)
            refine s_callV (pc := 54) (np := 1) (as := [.int x73]) (rest := []) dX2_waiting_54 ht (q := (RX6, TX6, 9)) rfl (c_X6_isDeepEnough (by decide) r48 x73 h72) rfl rfl q1328 q1329 q1330 rfl (by decide) (zkI (fun x74 h75 => ?_)) zxo
            refine s_if_eq (pc := 57) (tgt := 66) dX2_waiting_57 (by decide) (fun _ => ?_) (fun _ => ?_)
            · exact s_sub (pc := 66) [1, 2, 3] rfl (w_X2_waiting_66 (f_X2_waiting_23 n) ih a0 a1 a2 h75)
            · refine s_aload_n (pc := 60) 2 dX2_waiting_60 rfl rfl ?_
              refine s_aload_n (pc := 61) 0 dX2_waiting_61 rfl rfl ?_
              refine zS_ite (fun ht => ?_) (fun _ => zS_none)
              refine s_callV (pc := 62) (np := 1) (as := [va_rf r48]) (rest := []) dX2_waiting_62 ht (q := (RJ37, TJ37, 3)) rfl (c_J37_add_2 (by decide) a1 r48 h75) rfl rfl q1304 q1305 q1306 rfl (by decide) (zkI (fun x76 h77 => ?_)) zxo
              refine s_pop (pc := 65) dX2_waiting_65 rfl ?_
              exact s_sub (pc := 66) [1, 2, 3] rfl (w_X2_waiting_66 (f_X2_waiting_23 n) ih a0 a1 a2 h77)
        refine zS_ite (fun ht => ?_) (fun _ => zS_none)
        refine s_callF (pc := 33) (np := 0) (as := []) (rest := []) dX2_waiting_33 ht (q := (RJ22, TJ22, 5)) rfl (c_J22_next (by decide) a2 h10) ⟨_, _, _, q832⟩ rfl rfl q670 (by decide +kernel) q830 q828 rfl (by decide) (zkR (fun r48 h49 => ?_)) zxo
        refine s_cast (pc := 38) dX2_waiting_38 q836 zcs_FloatingDock_Ship ?_
        refine s_ast_n (pc := 41) (L2 := [(0, va_rf a0), (1, va_rf a1), (2, va_rf a2)]) [0, 1, 2] dX2_waiting_41 rfl (by decide) rfl rfl (zcB (j := 2) rfl (zcat_rf a2) rfl) ?_
        refine s_aload_n (pc := 42) 0 dX2_waiting_42 rfl rfl ?_
        refine zS_ite (fun ht => ?_) (fun _ => zS_none)
        refine s_callV (pc := 43) (np := 0) (as := []) (rest := []) dX2_waiting_43 ht (q := (RX6, TX6, 9)) rfl (c_X6_isInDock (by decide) r48 h49) rfl rfl q837 q367 q368 rfl (by decide) (zkI (fun x78 h79 => ?_)) zxo
        refine s_if_ne (pc := 46) (tgt := 66) dX2_waiting_46 (by decide) (fun _ => ?_) (fun _ => ?_)
        · exact s_sub (pc := 66) [1, 2, 3] rfl (w_X2_waiting_66 (f_X2_waiting_23 n) ih a0 a1 a2 h79)
        · refine s_aload_n (pc := 49) 0 dX2_waiting_49 rfl rfl ?_
          refine s_aload_n (pc := 50) 1 dX2_waiting_50 rfl rfl ?_
          refine s_gI (pc := 51) dX2_waiting_51 gf_X2_25 (fun x80 => ?_)
          refine zS_ite (fun ht => ?_) (fun _ => zS_none)
          refine s_callV (pc := 54) (np := 1) (as := [.int x80]) (rest := []) dX2_waiting_54 ht (q := (RX6, TX6, 9)) rfl (c_X6_isDeepEnough (by decide) r48 x80 h79) rfl rfl q1328 q1329 q1330 rfl (by decide) (zkI (fun x81 h82 => ?_)) zxo
          refine s_if_eq (pc := 57) (tgt := 66) dX2_waiting_57 (by decide) (fun _ => ?_) (fun _ => ?_)
          · exact s_sub (pc := 66) [1, 2, 3] rfl (w_X2_waiting_66 (f_X2_waiting_23 n) ih a0 a1 a2 h82)
          · refine s_aload_n (pc := 60) 2 dX2_waiting_60 rfl rfl ?_
            refine s_aload_n (pc := 61) 0 dX2_waiting_61 rfl rfl ?_
            refine zS_ite (fun ht => ?_) (fun _ => zS_none)
            refine s_callV (pc := 62) (np := 1) (as := [va_rf r48]) (rest := []) dX2_waiting_62 ht (q := (RJ37, TJ37, 3)) rfl (c_J37_add_2 (by decide) a1 r48 h82) rfl rfl q1304 q1305 q1306 rfl (by decide) (zkI (fun x83 h84 => ?_)) zxo
            refine s_pop (pc := 65) dX2_waiting_65 rfl ?_
            exact s_sub (pc := 66) [1, 2, 3] rfl (w_X2_waiting_66 (f_X2_waiting_23 n) ih a0 a1 a2 h84)
    refine zS_ite (fun ht => ?_) (fun _ => ?_)
    · refine s_callF (pc := 24) (np := 0) (as := []) (rest := []) dX2_waiting_24 ht (q := (RJ17, TJ17, 5)) rfl (c_J16_hasNext (by decide) a2 h) ⟨_, _, _, q659⟩ rfl rfl q629 (by decide +kernel) q657 q655 rfl (by decide) (zkI (fun x9 h10 => ?_)) zxo
      refine s_if_eq (pc := 29) (tgt := 69) dX2_waiting_29 (by decide) (fun _ => ?_) (fun _ => ?_)
      · refine s_aload_n (pc := 69) 1 dX2_waiting_69 rfl rfl ?_
        exact s_aret (pc := 70) dX2_waiting_70 rfl (Or.inl ⟨_, rfl⟩)
      · refine s_aload_n (pc := 32) 2 dX2_waiting_32 rfl rfl ?_
        refine zS_ite (fun ht => ?_) (fun _ => ?_)
        · refine s_callF (pc := 33) (np := 0) (as := []) (rest := []) dX2_waiting_33 ht (q := (RX9, TX9, 2)) rfl (c_X9_next (by decide) a2 h10) ⟨_, _, _, q677⟩ rfl rfl q670 (by decide +kernel) q675 q673 rfl (by decide) (zkR (fun r85 h86 => ?_)) zxo
          refine s_cast (pc := 38) dX2_waiting_38 q836 zcs_FloatingDock_Ship ?_
          refine s_ast_n (pc := 41) (L2 := [(0, va_rf a0), (1, va_rf a1), (2, va_rf a2)]) [0, 1, 2] dX2_waiting_41 rfl (by decide) rfl rfl (zcB (j := 2) rfl (zcat_rf a2) rfl) ?_
          refine s_aload_n (pc := 42) 0 dX2_waiting_42 rfl rfl ?_
          refine zS_ite (fun ht => ?_) (fun _ => zS_none)
          refine s_callV (pc := 43) (np := 0) (as := []) (rest := []) dX2_waiting_43 ht (q := (RX6, TX6, 9)) rfl (c_X6_isInDock (by decide) r85 h86) rfl rfl q837 q367 q368 rfl (by decide) (zkI (fun x87 h88 => ?_)) zxo
          refine s_if_ne (pc := 46) (tgt := 66) dX2_waiting_46 (by decide) (fun _ => ?_) (fun _ => ?_)
          · exact s_sub (pc := 66) [1, 2, 3] rfl (w_X2_waiting_66 (f_X2_waiting_23 n) ih a0 a1 a2 h88)
          · refine s_aload_n (pc := 49) 0 dX2_waiting_49 rfl rfl ?_
            refine s_aload_n (pc := 50) 1 dX2_waiting_50 rfl rfl ?_
            refine s_gI (pc := 51) dX2_waiting_51 gf_X2_25 (fun x89 => ?_)
            refine zS_ite (fun ht => ?_) (fun _ => zS_none)
            refine s_callV (pc := 54) (np := 1) (as := [.int x89]) (rest := []) dX2_waiting_54 ht (q := (RX6, TX6, 9)) rfl (c_X6_isDeepEnough (by decide) r85 x89 h88) rfl rfl q1328 q1329 q1330 rfl (by decide) (zkI (fun x90 h91 => ?_)) zxo
            refine s_if_eq (pc := 57) (tgt := 66) dX2_waiting_57 (by decide) (fun _ => ?_) (fun _ => ?_)
            · exact s_sub (pc := 66) [1, 2, 3] rfl (w_X2_waiting_66 (f_X2_waiting_23 n) ih a0 a1 a2 h91)
            · refine s_aload_n (pc := 60) 2 dX2_waiting_60 rfl rfl ?_
              refine s_aload_n (pc := 61) 0 dX2_waiting_61 rfl rfl ?_
              refine zS_ite (fun ht => ?_) (fun _ => zS_none)
              refine s_callV (pc := 62) (np := 1) (as := [va_rf r85]) (rest := []) dX2_waiting_62 ht (q := (RJ37, TJ37, 3)) rfl (c_J37_add_2 (by decide) a1 r85 h91) rfl rfl q1304 q1305 q1306 rfl (by decide) (zkI (fun x92 h93 => ?_)) zxo
              refine s_pop (pc := 65) dX2_waiting_65 rfl ?_
              exact s_sub (pc := 66) [1, 2, 3] rfl (w_X2_waiting_66 (f_X2_waiting_23 n) ih a0 a1 a2 h93)
        refine zS_ite (fun ht => ?_) (fun _ => ?_)
        · refine s_callF (pc := 33) (np := 0) (as := []) (rest := []) dX2_waiting_33 ht (q := (RJ15, TJ15, 4)) rfl (c_J15_next (by decide) a2 h10) ⟨_, _, _, q788⟩ rfl rfl q670 (by decide +kernel) q786 q784 rfl (by decide) (zkR (fun r85 h86 => ?_)) zxo
          refine s_cast (pc := 38) dX2_waiting_38 q836 zcs_FloatingDock_Ship ?_
          refine s_ast_n (pc := 41) (L2 := [(0, va_rf a0), (1, va_rf a1), (2, va_rf a2)]) [0, 1, 2] dX2_waiting_41 rfl (by decide) rfl rfl (zcB (j := 2) rfl (zcat_rf a2) rfl) ?_
          refine s_aload_n (pc := 42) 0 dX2_waiting_42 rfl rfl ?_
          refine zS_ite (fun ht => ?_) (fun _ => zS_none)
          refine s_callV (pc := 43) (np := 0) (as := []) (rest := []) dX2_waiting_43 ht (q := (RX6, TX6, 9)) rfl (c_X6_isInDock (by decide) r85 h86) rfl rfl q837 q367 q368 rfl (by decide) (zkI (fun x94 h95 => ?_)) zxo
          refine s_if_ne (pc := 46) (tgt := 66) dX2_waiting_46 (by decide) (fun _ => ?_) (fun _ => ?_)
          · exact s_sub (pc := 66) [1, 2, 3] rfl (w_X2_waiting_66 (f_X2_waiting_23 n) ih a0 a1 a2 h95)
          · refine s_aload_n (pc := 49) 0 dX2_waiting_49 rfl rfl ?_
            refine s_aload_n (pc := 50) 1 dX2_waiting_50 rfl rfl ?_
            refine s_gI (pc := 51) dX2_waiting_51 gf_X2_25 (fun x96 => ?_)
            refine zS_ite (fun ht => ?_) (fun _ => zS_none)
            refine s_callV (pc := 54) (np := 1) (as := [.int x96]) (rest := []) dX2_waiting_54 ht (q := (RX6, TX6, 9)) rfl (c_X6_isDeepEnough (by decide) r85 x96 h95) rfl rfl q1328 q1329 q1330 rfl (by decide) (zkI (fun x97 h98 => ?_)) zxo
            refine s_if_eq (pc := 57) (tgt := 66) dX2_waiting_57 (by decide) (fun _ => ?_) (fun _ => ?_)
            · exact s_sub (pc := 66) [1, 2, 3] rfl (w_X2_waiting_66 (f_X2_waiting_23 n) ih a0 a1 a2 h98)
            · refine s_aload_n (pc := 60) 2 dX2_waiting_60 rfl rfl ?_
              refine s_aload_n (pc := 61) 0 dX2_waiting_61 rfl rfl ?_
              refine zS_ite (fun ht => ?_) (fun _ => zS_none)
              refine s_callV (pc := 62) (np := 1) (as := [va_rf r85]) (rest := []) dX2_waiting_62 ht (q := (RJ37, TJ37, 3)) rfl (c_J37_add_2 (by decide) a1 r85 h98) rfl rfl q1304 q1305 q1306 rfl (by decide) (zkI (fun x99 h100 => ?_)) zxo
              refine s_pop (pc := 65) dX2_waiting_65 rfl ?_
              exact s_sub (pc := 66) [1, 2, 3] rfl (w_X2_waiting_66 (f_X2_waiting_23 n) ih a0 a1 a2 h100)
        refine zS_ite (fun ht => ?_) (fun _ => ?_)
        · refine s_callF (pc := 33) (np := 0) (as := []) (rest := []) dX2_waiting_33 ht (q := (RJ17, TJ17, 5)) rfl (c_J17_next (by decide) a2 h10) ⟨_, _, _, q799⟩ rfl rfl q670 (by decide +kernel) q797 q795 rfl (by decide) (zkR (fun r85 h86 => ?_)) zxo
          refine s_cast (pc := 38) dX2_waiting_38 q836 zcs_FloatingDock_Ship ?_
          refine s_ast_n (pc := 41) (L2 := [(0, va_rf a0), (1, va_rf a1), (2, va_rf a2)]) [0, 1, 2] dX2_waiting_41 rfl (by decide) rfl rfl (zcB (j := 2) rfl (zcat_rf a2) rfl) ?_
          refine s_aload_n (pc := 42) 0 dX2_waiting_42 rfl rfl ?_
          refine zS_ite (fun ht => ?_) (fun _ => zS_none)
          refine s_callV (pc := 43) (np := 0) (as := []) (rest := []) dX2_waiting_43 ht (q := (RX6, TX6, 9)) rfl (c_X6_isInDock (by decide) r85 h86) rfl rfl q837 q367 q368 rfl (by decide) (zkI (fun x101 h102 => ?_)) zxo
          refine s_if_ne (pc := 46) (tgt := 66) dX2_waiting_46 (by decide) (fun _ => ?_) (fun _ => ?_)
          · exact s_sub (pc := 66) [1, 2, 3] rfl (w_X2_waiting_66 (f_X2_waiting_23 n) ih a0 a1 a2 h102)
          · refine s_aload_n (pc := 49) 0 dX2_waiting_49 rfl rfl ?_
            refine s_aload_n (pc := 50) 1 dX2_waiting_50 rfl rfl ?_
            refine s_gI (pc := 51) dX2_waiting_51 gf_X2_25 (fun x103 => ?_)
            refine zS_ite (fun ht => ?_) (fun _ => zS_none)
            refine s_callV (pc := 54) (np := 1) (as := [.int x103]) (rest := []) dX2_waiting_54 ht (q := (RX6, TX6, 9)) rfl (c_X6_isDeepEnough (by decide) r85 x103 h102) rfl rfl q1328 q1329 q1330 rfl (by decide) (zkI (fun x104 h105 => ?_)) zxo
            refine s_if_eq (pc := 57) (tgt := 66) dX2_waiting_57 (by decide) (fun _ => ?_) (fun _ => ?_)
            · exact s_sub (pc := 66) [1, 2, 3] rfl (w_X2_waiting_66 (f_X2_waiting_23 n) ih a0 a1 a2 h105)
            · refine s_aload_n (pc := 60) 2 dX2_waiting_60 rfl rfl ?_
              refine s_aload_n (pc := 61) 0 dX2_waiting_61 rfl rfl ?_
              refine zS_ite (fun ht => ?_) (fun _ => zS_none)
              refine s_callV (pc := 62) (np := 1) (as := [va_rf r85]) (rest := []) dX2_waiting_62 ht (q := (RJ37, TJ37, 3)) rfl (c_J37_add_2 (by decide) a1 r85 h105) rfl rfl q1304 q1305 q1306 rfl (by decide) (zkI (fun x106 h107 => ?_)) zxo
              refine s_pop (pc := 65) dX2_waiting_65 rfl ?_
              exact s_sub (pc := 66) [1, 2, 3] rfl (w_X2_waiting_66 (f_X2_waiting_23 n) ih a0 a1 a2 h107)
        refine zS_ite (fun ht => ?_) (fun _ => ?_)
        · refine s_callF (pc := 33) (np := 0) (as := []) (rest := []) dX2_waiting_33 ht (q := (RJ21, TJ21, 5)) rfl (c_J21_next (by decide) a2 h10) ⟨_, _, _, q812⟩ rfl rfl q670 (by decide +kernel) q810 q808 rfl (by decide) (zkR (fun r85 h86 => ?_)) zxo
          refine s_cast (pc := 38) dX2_waiting_38 q836 zcs_FloatingDock_Ship ?_
          refine s_ast_n (pc := 41) (L2 := [(0, va_rf a0), (1, va_rf a1), (2, va_rf a2)]) [0, 1, 2] dX2_waiting_41 rfl (by decide) rfl rfl (zcB (j := 2) rfl (zcat_rf a2) rfl) ?_
          refine s_aload_n (pc := 42) 0 dX2_waiting_42 rfl rfl ?_
          refine zS_ite (fun ht => ?_) (fun _ => zS_none)
          refine s_callV (pc := 43) (np := 0) (as := []) (rest := []) dX2_waiting_43 ht (q := (RX6, TX6, 9)) rfl (c_X6_isInDock (by decide) r85 h86) rfl rfl q837 q367 q368 rfl (by decide) (zkI (fun x108 h109 => ?_)) zxo
          refine s_if_ne (pc := 46) (tgt := 66) dX2_waiting_46 (by decide) (fun _ => ?_) (fun _ => ?_)
          · exact s_sub (pc := 66) [1, 2, 3] rfl (w_X2_waiting_66 (f_X2_waiting_23 n) ih a0 a1 a2 h109)
          · refine s_aload_n (pc := 49) 0 dX2_waiting_49 rfl rfl ?_
            refine s_aload_n (pc := 50) 1 dX2_waiting_50 rfl rfl ?_
            refine s_gI (pc := 51) dX2_waiting_51 gf_X2_25 (fun x110 => ?_)
            refine zS_ite (fun ht => ?_) (fun _ => zS_none)
            refine s_callV (pc := 54) (np := 1) (as := [.int x110]) (rest := []) dX2_waiting_54 ht (q := (RX6, TX6, 9)) rfl (c_X6_isDeepEnough (by decide) r85 x110 h109) rfl rfl q1328 q1329 q1330 rfl (by decide) (zkI (fun x111 h112 => ?_)) zxo
            refine s_if_eq (pc := 57) (tgt := 66) dX2_waiting_57 (by decide) (fun _ => ?_) (fun _ => ?_)
            · exact s_sub (pc := 66) [1, 2, 3] rfl (w_X2_waiting_66 (f_X2_waiting_23 n) ih a0 a1 a2 h112)
            · refine s_aload_n (pc := 60) 2 dX2_waiting_60 rfl rfl ?_
              refine s_aload_n (pc := 61) 0 dX2_waiting_61 rfl rfl ?_
              refine zS_ite (fun ht => ?_) (fun _ => zS_none)
              refine s_callV (pc := 62) (np := 1) (as := [va_rf r85]) (rest := []) dX2_waiting_62 ht (q := (RJ37, TJ37, 3)) rfl (c_J37_add_2 (by decide) a1 r85 h112) rfl rfl q1304 q1305 q1306 rfl (by decide) (zkI (fun x113 h114 => ?_)) zxo
              refine s_pop (pc := 65) dX2_waiting_65 rfl ?_
              exact s_sub (pc := 66) [1, 2, 3] rfl (w_X2_waiting_66 (f_X2_waiting_23 n) ih a0 a1 a2 h114)
        refine zS_ite (fun ht => ?_) (fun _ => zS_none)
        refine s_callF (pc := 33) (np := 0) (as := []) (rest := []) dX2_waiting_33 ht (q := (RJ22, TJ22, 5)) rfl (c_J22_next (by decide) a2 h10) ⟨_, _, _, q832⟩ rfl rfl q670 (by decide +kernel) q830 q828 rfl (by decide) (zkR (fun r85 h86 => ?_)) zxo
        refine s_cast (pc := 38) dX2_waiting_38 q836 zcs_FloatingDock_Ship ?_
        refine s_ast_n (pc := 41) (L2 := [(0, va_rf a0), (1, va_rf a1), (2, va_rf a2)]) [0, 1, 2] dX2_waiting_41 rfl (by decide) rfl rfl (zcB (j := 2) rfl (zcat_rf a2) rfl) ?_
        refine s_aload_n (pc := 42) 0 dX2_waiting_42 rfl rfl ?_
        refine zS_ite (fun ht => ?_) (fun _ => zS_none)
        refine s_callV (pc := 43) (np := 0) (as := []) (rest := []) dX2_waiting_43 ht (q := (RX6, TX6, 9)) rfl (c_X6_isInDock (by decide) r85 h86) rfl rfl q837 q367 q368 rfl (by decide) (zkI (fun x115 h116 => ?_)) zxo
        refine s_if_ne (pc := 46) (tgt := 66) dX2_waiting_46 (by decide) (fun _ => ?_) (fun _ => ?_)
        · exact s_sub (pc := 66) [1, 2, 3] rfl (w_X2_waiting_66 (f_X2_waiting_23 n) ih a0 a1 a2 h116)
        · refine s_aload_n (pc := 49) 0 dX2_waiting_49 rfl rfl ?_
          refine s_aload_n (pc := 50) 1 dX2_waiting_50 rfl rfl ?_
          refine s_gI (pc := 51) dX2_waiting_51 gf_X2_25 (fun x117 => ?_)
          refine zS_ite (fun ht => ?_) (fun _ => zS_none)
          refine s_callV (pc := 54) (np := 1) (as := [.int x117]) (rest := []) dX2_waiting_54 ht (q := (RX6, TX6, 9)) rfl (c_X6_isDeepEnough (by decide) r85 x117 h116) rfl rfl q1328 q1329 q1330 rfl (by decide) (zkI (fun x118 h119 => ?_)) zxo
          refine s_if_eq (pc := 57) (tgt := 66) dX2_waiting_57 (by decide) (fun _ => ?_) (fun _ => ?_)
          · exact s_sub (pc := 66) [1, 2, 3] rfl (w_X2_waiting_66 (f_X2_waiting_23 n) ih a0 a1 a2 h119)
          · refine s_aload_n (pc := 60) 2 dX2_waiting_60 rfl rfl ?_
            refine s_aload_n (pc := 61) 0 dX2_waiting_61 rfl rfl ?_
            refine zS_ite (fun ht => ?_) (fun _ => zS_none)
            refine s_callV (pc := 62) (np := 1) (as := [va_rf r85]) (rest := []) dX2_waiting_62 ht (q := (RJ37, TJ37, 3)) rfl (c_J37_add_2 (by decide) a1 r85 h119) rfl rfl q1304 q1305 q1306 rfl (by decide) (zkI (fun x120 h121 => ?_)) zxo
            refine s_pop (pc := 65) dX2_waiting_65 rfl ?_
            exact s_sub (pc := 66) [1, 2, 3] rfl (w_X2_waiting_66 (f_X2_waiting_23 n) ih a0 a1 a2 h121)
    refine zS_ite (fun ht => ?_) (fun _ => ?_)
    · refine s_callF (pc := 24) (np := 0) (as := []) (rest := []) dX2_waiting_24 ht (q := (RJ21, TJ21, 5)) rfl (c_J20_hasNext (by decide) a2 h) ⟨_, _, _, q665⟩ rfl rfl q629 (by decide +kernel) q663 q661 rfl (by decide) (zkI (fun x9 h10 => ?_)) zxo
      refine s_if_eq (pc := 29) (tgt := 69) dX2_waiting_29 (by decide) (fun _ => ?_) (fun _ => ?_)
      · refine s_aload_n (pc := 69) 1 dX2_waiting_69 rfl rfl ?_
        exact s_aret (pc := 70) dX2_waiting_70 rfl (Or.inl ⟨_, rfl⟩)
      · refine s_aload_n (pc := 32) 2 dX2_waiting_32 rfl rfl ?_
        refine zS_ite (fun ht => ?_) (fun _ => ?_)
        · refine s_callF (pc := 33) (np := 0) (as := []) (rest := []) dX2_waiting_33 ht (q := (RX9, TX9, 2)) rfl (c_X9_next (by decide) a2 h10) ⟨_, _, _, q677⟩ rfl rfl q670 (by decide +kernel) q675 q673 rfl (by decide) (zkR (fun r122 h123 => ?_)) zxo
          refine s_cast (pc := 38) dX2_waiting_38 q836 zcs_FloatingDock_Ship ?_
          refine s_ast_n (pc := 41) (L2 := [(0, va_rf a0), (1, va_rf a1), (2, va_rf a2)]) [0, 1, 2] dX2_waiting_41 rfl (by decide) rfl rfl (zcB (j := 2) rfl (zcat_rf a2) rfl) ?_
          refine s_aload_n (pc := 42) 0 dX2_waiting_42 rfl rfl ?_
          refine zS_ite (fun ht => ?_) (fun _ => zS_none)
          refine s_callV (pc := 43) (np := 0) (as := []) (rest := []) dX2_waiting_43 ht (q := (RX6, TX6, 9)) rfl (c_X6_isInDock (by decide) r122 h123) rfl rfl q837 q367 q368 rfl (by decide) (zkI (fun x124 h125 => ?_)) zxo
          refine s_if_ne (pc := 46) (tgt := 66) dX2_waiting_46 (by decide) (fun _ => ?_) (fun _ => ?_)
          · exact s_sub (pc := 66) [1, 2, 3] rfl (w_X2_waiting_66 (f_X2_waiting_23 n) ih a0 a1 a2 h125)
          · refine s_aload_n (pc := 49) 0 dX2_waiting_49 rfl rfl ?_
            refine s_aload_n (pc := 50) 1 dX2_waiting_50 rfl rfl ?_
            refine s_gI (pc := 51) dX2_waiting_51 gf_X2_25 (fun x126 => ?_)
            refine zS_ite (fun ht => ?_) (fun _ => zS_none)
            refine s_callV (pc := 54) (np := 1) (as := [.int x126]) (rest := []) dX2_waiting_54 ht (q := (RX6, TX6, 9)) rfl (c_X6_isDeepEnough (by decide) r122 x126 h125) rfl rfl q1328 q1329 q1330 rfl (by decide) (zkI (fun x127 h128 => ?_)) zxo
            refine s_if_eq (pc := 57) (tgt := 66) dX2_waiting_57 (by decide) (fun _ => ?_) (fun _ => ?_)
            · exact s_sub (pc := 66) [1, 2, 3] rfl (w_X2_waiting_66 (f_X2_waiting_23 n) ih a0 a1 a2 h128)
            · refine s_aload_n (pc := 60) 2 dX2_waiting_60 rfl rfl ?_
              refine s_aload_n (pc := 61) 0 dX2_waiting_61 rfl rfl ?_
              refine zS_ite (fun ht => ?_) (fun _ => zS_none)
              refine s_callV (pc := 62) (np := 1) (as := [va_rf r122]) (rest := []) dX2_waiting_62 ht (q := (RJ37, TJ37, 3)) rfl (c_J37_add_2 (by decide) a1 r122 h128) rfl rfl q1304 q1305 q1306 rfl (by decide) (zkI (fun x129 h130 => ?_)) zxo
              refine s_pop (pc := 65) dX2_waiting_65 rfl ?_
              exact s_sub (pc := 66) [1, 2, 3] rfl (w_X2_waiting_66 (f_X2_waiting_23 n) ih a0 a1 a2 h130)
        refine zS_ite (fun ht => ?_) (fun _ => ?_)
        · refine s_callF (pc := 33) (np := 0) (as := []) (rest := []) dX2_waiting_33 ht (q := (RJ15, TJ15, 4)) rfl (c_J15_next (by decide) a2 h10) ⟨_, _, _, q788⟩ rfl rfl q670 (by decide +kernel) q786 q784 rfl (by decide) (zkR (fun r122 h123 => ?_)) zxo
          refine s_cast (pc := 38) dX2_waiting_38 q836 zcs_FloatingDock_Ship ?_
          refine s_ast_n (pc := 41) (L2 := [(0, va_rf a0), (1, va_rf a1), (2, va_rf a2)]) [0, 1, 2] dX2_waiting_41 rfl (by decide) rfl rfl (zcB (j := 2) rfl (zcat_rf a2) rfl) ?_
          refine s_aload_n (pc := 42) 0 dX2_waiting_42 rfl rfl ?_
          refine zS_ite (fun ht => ?_) (fun _ => zS_none)
          refine s_callV (pc := 43) (np := 0) (as := []) (rest := []) dX2_waiting_43 ht (q := (RX6, TX6, 9)) rfl (c_X6_isInDock (by decide) r122 h123) rfl rfl q837 q367 q368 rfl (by decide) (zkI (fun x131 h132 => ?_)) zxo
          refine s_if_ne (pc := 46) (tgt := 66) dX2_waiting_46 (by decide) (fun _ => ?_) (fun _ => ?_)
          · exact s_sub (pc := 66) [1, 2, 3] rfl (w_X2_waiting_66 (f_X2_waiting_23 n) ih a0 a1 a2 h132)
          · refine s_aload_n (pc := 49) 0 dX2_waiting_49 rfl rfl ?_
            refine s_aload_n (pc := 50) 1 dX2_waiting_50 rfl rfl ?_
            refine s_gI (pc := 51) dX2_waiting_51 gf_X2_25 (fun x133 => ?_)
            refine zS_ite (fun ht => ?_) (fun _ => zS_none)
            refine s_callV (pc := 54) (np := 1) (as := [.int x133]) (rest := []) dX2_waiting_54 ht (q := (RX6, TX6, 9)) rfl (c_X6_isDeepEnough (by decide) r122 x133 h132) rfl rfl q1328 q1329 q1330 rfl (by decide) (zkI (fun x134 h135 => ?_)) zxo
            refine s_if_eq (pc := 57) (tgt := 66) dX2_waiting_57 (by decide) (fun _ => ?_) (fun _ => ?_)
            · exact s_sub (pc := 66) [1, 2, 3] rfl (w_X2_waiting_66 (f_X2_waiting_23 n) ih a0 a1 a2 h135)
            · refine s_aload_n (pc := 60) 2 dX2_waiting_60 rfl rfl ?_
              refine s_aload_n (pc := 61) 0 dX2_waiting_61 rfl rfl ?_
              refine zS_ite (fun ht => ?_) (fun _ => zS_none)
              refine s_callV (pc := 62) (np := 1) (as := [va_rf r122]) (rest := []) dX2_waiting_62 ht (q := (RJ37, TJ37, 3)) rfl (c_J37_add_2 (by decide) a1 r122 h135) rfl rfl q1304 q1305 q1306 rfl (by decide) (zkI (fun x136 h137 => ?_)) zxo
              refine s_pop (pc := 65) dX2_waiting_65 rfl ?_
              exact s_sub (pc := 66) [1, 2, 3] rfl (w_X2_waiting_66 (f_X2_waiting_23 n) ih a0 a1 a2 h137)
        refine zS_ite (fun ht => ?_) (fun _ => ?_)
        · refine s_callF (pc := 33) (np := 0) (as := []) (rest := []) dX2_waiting_33 ht (q := (RJ17, TJ17, 5)) rfl (c_J17_next (by decide) a2 h10) ⟨_, _, _, q799⟩ rfl rfl q670 (by decide +kernel) q797 q795 rfl (by decide) (zkR (fun r122 h123 => ?_)) zxo
          refine s_cast (pc := 38) dX2_waiting_38 q836 zcs_FloatingDock_Ship ?_
          refine s_ast_n (pc := 41) (L2 := [(0, va_rf a0), (1, va_rf a1), (2, va_rf a2)]) [0, 1, 2] dX2_waiting_41 rfl (by decide) rfl rfl (zcB (j := 2) rfl (zcat_rf a2) rfl) ?_
          refine s_aload_n (pc := 42) 0 dX2_waiting_42 rfl rfl ?_
          refine zS_ite (fun ht => ?_) (fun _ => zS_none)
          refine s_callV (pc := 43) (np := 0) (as := []) (rest := []) dX2_waiting_43 ht (q := (RX6, TX6, 9)) rfl (c_X6_isInDock (by decide) r122 h123) rfl rfl q837 q367 q368 rfl (by decide) (zkI (fun x138 h139 => ?_)) zxo
          refine s_if_ne (pc := 46) (tgt := 66) dX2_waiting_46 (by decide) (fun _ => ?_) (fun _ => ?_)
          · exact s_sub (pc := 66) [1, 2, 3] rfl (w_X2_waiting_66 (f_X2_waiting_23 n) ih a0 a1 a2 h139)
          · refine s_aload_n (pc := 49) 0 dX2_waiting_49 rfl rfl ?_
            refine s_aload_n (pc := 50) 1 dX2_waiting_50 rfl rfl ?_
            refine s_gI (pc := 51) dX2_waiting_51 gf_X2_25 (fun x140 => ?_)
            refine zS_ite (fun ht => ?_) (fun _ => zS_none)
            refine s_callV (pc := 54) (np := 1) (as := [.int x140]) (rest := []) dX2_waiting_54 ht (q := (RX6, TX6, 9)) rfl (c_X6_isDeepEnough (by decide) r122 x140 h139) rfl rfl q1328 q1329 q1330 rfl (by decide) (zkI (fun x141 h142 => ?_)) zxo
            refine s_if_eq (pc := 57) (tgt := 66) dX2_waiting_57 (by decide) (fun _ => ?_) (fun _ => ?_)
            · exact s_sub (pc := 66) [1, 2, 3] rfl (w_X2_waiting_66 (f_X2_waiting_23 n) ih a0 a1 a2 h142)
            · refine s_aload_n (pc := 60) 2 dX2_waiting_60 rfl rfl ?_
              refine s_aload_n (pc := 61) 0 dX2_waiting_61 rfl rfl ?_
              refine zS_ite (fun ht => ?_) (fun _ => zS_none)
              refine s_callV (pc := 62) (np := 1) (as := [va_rf r122]) (rest := []) dX2_waiting_62 ht (q := (RJ37, TJ37, 3)) rfl (c_J37_add_2 (by decide) a1 r122 h142) rfl rfl q1304 q1305 q1306 rfl (by decide) (zkI (fun x143 h144 => ?_)) zxo
              refine s_pop (pc := 65) dX2_waiting_65 rfl ?_
              exact s_sub (pc := 66) [1, 2, 3] rfl (w_X2_waiting_66 (f_X2_waiting_23 n) ih a0 a1 a2 h144)
        refine zS_ite (fun ht => ?_) (fun _ => ?_)
        · refine s_callF (pc := 33) (np := 0) (as := []) (rest := []) dX2_waiting_33 ht (q := (RJ21, TJ21, 5)) rfl (c_J21_next (by decide) a2 h10) ⟨_, _, _, q812⟩ rfl rfl q670 (by decide +kernel) q810 q808 rfl (by decide) (zkR (fun r122 h123 => ?_)) zxo
          refine s_cast (pc := 38) dX2_waiting_38 q836 zcs_FloatingDock_Ship ?_
          refine s_ast_n (pc := 41) (L2 := [(0, va_rf a0), (1, va_rf a1), (2, va_rf a2)]) [0, 1, 2] dX2_waiting_41 rfl (by decide) rfl rfl (zcB (j := 2) rfl (zcat_rf a2) rfl) ?_
          refine s_aload_n (pc := 42) 0 dX2_waiting_42 rfl rfl ?_
          refine zS_ite (fun ht => ?_) (fun _ => zS_none)
          refine s_callV (pc := 43) (np := 0) (as := []) (rest := []) dX2_waiting_43 ht (q := (RX6, TX6, 9)) rfl (c_X6_isInDock (by decide) r122 h123) rfl rfl q837 q367 q368 rfl (by decide) (zkI (fun x145 h146 => ?_)) zxo
          refine s_if_ne (pc := 46) (tgt := 66) dX2_waiting_46 (by decide) (fun _ => ?_) (fun _ => ?_)
          · exact s_sub (pc := 66) [1, 2, 3] rfl (w_X2_waiting_66 (f_X2_waiting_23 n) ih a0 a1 a2 h146)
          · refine s_aload_n (pc := 49) 0 dX2_waiting_49 rfl rfl ?_
            refine s_aload_n (pc := 50) 1 dX2_waiting_50 rfl rfl ?_
            refine s_gI (pc := 51) dX2_waiting_51 gf_X2_25 (fun x147 => ?_)
            refine zS_ite (fun ht => ?_) (fun _ => zS_none)
            refine s_callV (pc := 54) (np := 1) (as := [.int x147]) (rest := []) dX2_waiting_54 ht (q := (RX6, TX6, 9)) rfl (c_X6_isDeepEnough (by decide) r122 x147 h146) rfl rfl q1328 q1329 q1330 rfl (by decide) (zkI (fun x148 h149 => ?_)) zxo
            refine s_if_eq (pc := 57) (tgt := 66) dX2_waiting_57 (by decide) (fun _ => ?_) (fun _ => ?_)
            · exact s_sub (pc := 66) [1, 2, 3] rfl (w_X2_waiting_66 (f_X2_waiting_23 n) ih a0 a1 a2 h149)
            · refine s_aload_n (pc := 60) 2 dX2_waiting_60 rfl rfl ?_
              refine s_aload_n (pc := 61) 0 dX2_waiting_61 rfl rfl ?_
              refine zS_ite (fun ht => ?_) (fun _ => zS_none)
              refine s_callV (pc := 62) (np := 1) (as := [va_rf r122]) (rest := []) dX2_waiting_62 ht (q := (RJ37, TJ37, 3)) rfl (c_J37_add_2 (by decide) a1 r122 h149) rfl rfl q1304 q1305 q1306 rfl (by decide) (zkI (fun x150 h151 => ?_)) zxo
              refine s_pop (pc := 65) dX2_waiting_65 rfl ?_
              exact s_sub (pc := 66) [1, 2, 3] rfl (w_X2_waiting_66 (f_X2_waiting_23 n) ih a0 a1 a2 h151)
        refine zS_ite (fun ht => ?_) (fun _ => zS_none)
        refine s_callF (pc := 33) (np := 0) (as := []) (rest := []) dX2_waiting_33 ht (q := (RJ22, TJ22, 5)) rfl (c_J22_next (by decide) a2 h10) ⟨_, _, _, q832⟩ rfl rfl q670 (by decide +kernel) q830 q828 rfl (by decide) (zkR (fun r122 h123 => ?_)) zxo
        refine s_cast (pc := 38) dX2_waiting_38 q836 zcs_FloatingDock_Ship ?_
        refine s_ast_n (pc := 41) (L2 := [(0, va_rf a0), (1, va_rf a1), (2, va_rf a2)]) [0, 1, 2] dX2_waiting_41 rfl (by decide) rfl rfl (zcB (j := 2) rfl (zcat_rf a2) rfl) ?_
        refine s_aload_n (pc := 42) 0 dX2_waiting_42 rfl rfl ?_
        refine zS_ite (fun ht => ?_) (fun _ => zS_none)
        refine s_callV (pc := 43) (np := 0) (as := []) (rest := []) dX2_waiting_43 ht (q := (RX6, TX6, 9)) rfl (c_X6_isInDock (by decide) r122 h123) rfl rfl q837 q367 q368 rfl (by decide) (zkI (fun x152 h153 => ?_)) zxo
        refine s_if_ne (pc := 46) (tgt := 66) dX2_waiting_46 (by decide) (fun _ => ?_) (fun _ => ?_)
        · exact s_sub (pc := 66) [1, 2, 3] rfl (w_X2_waiting_66 (f_X2_waiting_23 n) ih a0 a1 a2 h153)
        · refine s_aload_n (pc := 49) 0 dX2_waiting_49 rfl rfl ?_
          refine s_aload_n (pc := 50) 1 dX2_waiting_50 rfl rfl ?_
          refine s_gI (pc := 51) dX2_waiting_51 gf_X2_25 (fun x154 => ?_)
          refine zS_ite (fun ht => ?_) (fun _ => zS_none)
          refine s_callV (pc := 54) (np := 1) (as := [.int x154]) (rest := []) dX2_waiting_54 ht (q := (RX6, TX6, 9)) rfl (c_X6_isDeepEnough (by decide) r122 x154 h153) rfl rfl q1328 q1329 q1330 rfl (by decide) (zkI (fun x155 h156 => ?_)) zxo
          refine s_if_eq (pc := 57) (tgt := 66) dX2_waiting_57 (by decide) (fun _ => ?_) (fun _ => ?_)
          · exact s_sub (pc := 66) [1, 2, 3] rfl (w_X2_waiting_66 (f_X2_waiting_23 n) ih a0 a1 a2 h156)
          · refine s_aload_n (pc := 60) 2 dX2_waiting_60 rfl rfl ?_
            refine s_aload_n (pc := 61) 0 dX2_waiting_61 rfl rfl ?_
            refine zS_ite (fun ht => ?_) (fun _ => zS_none)
            refine s_callV (pc := 62) (np := 1) (as := [va_rf r122]) (rest := []) dX2_waiting_62 ht (q := (RJ37, TJ37, 3)) rfl (c_J37_add_2 (by decide) a1 r122 h156) rfl rfl q1304 q1305 q1306 rfl (by decide) (zkI (fun x157 h158 => ?_)) zxo
            refine s_pop (pc := 65) dX2_waiting_65 rfl ?_
            exact s_sub (pc := 66) [1, 2, 3] rfl (w_X2_waiting_66 (f_X2_waiting_23 n) ih a0 a1 a2 h158)
    refine zS_ite (fun ht => ?_) (fun _ => zS_none)
    refine s_callF (pc := 24) (np := 0) (as := []) (rest := []) dX2_waiting_24 ht (q := (RJ22, TJ22, 5)) rfl (c_J20_hasNext (by decide) a2 h) ⟨_, _, _, q665⟩ rfl rfl q629 (by decide +kernel) q663 q667 rfl (by decide) (zkI (fun x9 h10 => ?_)) zxo
    refine s_if_eq (pc := 29) (tgt := 69) dX2_waiting_29 (by decide) (fun _ => ?_) (fun _ => ?_)
    · refine s_aload_n (pc := 69) 1 dX2_waiting_69 rfl rfl ?_
      exact s_aret (pc := 70) dX2_waiting_70 rfl (Or.inl ⟨_, rfl⟩)
    · refine s_aload_n (pc := 32) 2 dX2_waiting_32 rfl rfl ?_
      refine zS_ite (fun ht => ?_) (fun _ => ?_)
      · refine s_callF (pc := 33) (np := 0) (as := []) (rest := []) dX2_waiting_33 ht (q := (RX9, TX9, 2)) rfl (c_X9_next (by decide) a2 h10) ⟨_, _, _, q677⟩ rfl rfl q670 (by decide +kernel) q675 q673 rfl (by decide) (zkR (fun r159 h160 => ?_)) zxo
        refine s_cast (pc := 38) dX2_waiting_38 q836 zcs_FloatingDock_Ship ?_
        refine s_ast_n (pc := 41) (L2 := [(0, va_rf a0), (1, va_rf a1), (2, va_rf a2)]) [0, 1, 2] dX2_waiting_41 rfl (by decide) rfl rfl (zcB (j := 2) rfl (zcat_rf a2) rfl) ?_
        refine s_aload_n (pc := 42) 0 dX2_waiting_42 rfl rfl ?_
        refine zS_ite (fun ht => ?_) (fun _ => zS_none)
        refine s_callV (pc := 43) (np := 0) (as := []) (rest := []) dX2_waiting_43 ht (q := (RX6, TX6, 9)) rfl (c_X6_isInDock (by decide) r159 h160) rfl rfl q837 q367 q368 rfl (by decide) (zkI (fun x161 h162 => ?_)) zxo
        refine s_if_ne (pc := 46) (tgt := 66) dX2_waiting_46 (by decide) (fun _ => ?_) (fun _ => ?_)
        · exact s_sub (pc := 66) [1, 2, 3] rfl (w_X2_waiting_66 (f_X2_waiting_23 n) ih a0 a1 a2 h162)
        · refine s_aload_n (pc := 49) 0 dX2_waiting_49 rfl rfl ?_
          refine s_aload_n (pc := 50) 1 dX2_waiting_50 rfl rfl ?_
          refine s_gI (pc := 51) dX2_waiting_51 gf_X2_25 (fun x163 => ?_)
          refine zS_ite (fun ht => ?_) (fun _ => zS_none)
          refine s_callV (pc := 54) (np := 1) (as := [.int x163]) (rest := []) dX2_waiting_54 ht (q := (RX6, TX6, 9)) rfl (c_X6_isDeepEnough (by decide) r159 x163 h162) rfl rfl q1328 q1329 q1330 rfl (by decide) (zkI (fun x164 h165 => ?_)) zxo
          refine s_if_eq (pc := 57) (tgt := 66) dX2_waiting_57 (by decide) (fun _ => ?_) (fun _ => ?_)
          · exact s_sub (pc := 66) [1, 2, 3] rfl (w_X2_waiting_66 (f_X2_waiting_23 n) ih a0 a1 a2 h165)
          · refine s_aload_n (pc := 60) 2 dX2_waiting_60 rfl rfl ?_
            refine s_aload_n (pc := 61) 0 dX2_waiting_61 rfl rfl ?_
            refine zS_ite (fun ht => ?_) (fun _ => zS_none)
            refine s_callV (pc := 62) (np := 1) (as := [va_rf r159]) (rest := []) dX2_waiting_62 ht (q := (RJ37, TJ37, 3)) rfl (c_J37_add_2 (by decide) a1 r159 h165) rfl rfl q1304 q1305 q1306 rfl (by decide) (zkI (fun x166 h167 => ?_)) zxo
            refine s_pop (pc := 65) dX2_waiting_65 rfl ?_
            exact s_sub (pc := 66) [1, 2, 3] rfl (w_X2_waiting_66 (f_X2_waiting_23 n) ih a0 a1 a2 h167)
      refine zS_ite (fun ht => ?_) (fun _ => ?_)
      · refine s_callF (pc := 33) (np := 0) (as := []) (rest := []) dX2_waiting_33 ht (q := (RJ15, TJ15, 4)) rfl (c_J15_next (by decide) a2 h10) ⟨_, _, _, q788⟩ rfl rfl q670 (by decide +kernel) q786 q784 rfl (by decide) (zkR (fun r159 h160 => ?_)) zxo
        refine s_cast (pc := 38) dX2_waiting_38 q836 zcs_FloatingDock_Ship ?_
        refine s_ast_n (pc := 41) (L2 := [(0, va_rf a0), (1, va_rf a1), (2, va_rf a2)]) [0, 1, 2] dX2_waiting_41 rfl (by decide) rfl rfl (zcB (j := 2) rfl (zcat_rf a2) rfl) ?_
        refine s_aload_n (pc := 42) 0 dX2_waiting_42 rfl rfl ?_
        refine zS_ite (fun ht => ?_) (fun _ => zS_none)
        refine s_callV (pc := 43) (np := 0) (as := []) (rest := []) dX2_waiting_43 ht (q := (RX6, TX6, 9)) rfl (c_X6_isInDock (by decide) r159 h160) rfl rfl q837 q367 q368 rfl (by decide) (zkI (fun x168 h169 => ?_)) zxo
        refine s_if_ne (pc := 46) (tgt := 66) dX2_waiting_46 (by decide) (fun _ => ?_) (fun _ => ?_)
        · exact s_sub (pc := 66) [1, 2, 3] rfl (w_X2_waiting_66 (f_X2_waiting_23 n) ih a0 a1 a2 h169)
        · refine s_aload_n (pc := 49) 0 dX2_waiting_49 rfl rfl ?_
          refine s_aload_n (pc := 50) 1 dX2_waiting_50 rfl rfl ?_
          refine s_gI (pc := 51) dX2_waiting_51 gf_X2_25 (fun x170 => ?_)
          refine zS_ite (fun ht => ?_) (fun _ => zS_none)
          refine s_callV (pc := 54) (np := 1) (as := [.int x170]) (rest := []) dX2_waiting_54 ht (q := (RX6, TX6, 9)) rfl (c_X6_isDeepEnough (by decide) r159 x170 h169) rfl rfl q1328 q1329 q1330 rfl (by decide) (zkI (fun x171 h172 => ?_)) zxo
          refine s_if_eq (pc := 57) (tgt := 66) dX2_waiting_57 (by decide) (fun _ => ?_) (fun _ => ?_)
          · exact s_sub (pc := 66) [1, 2, 3] rfl (w_X2_waiting_66 (f_X2_waiting_23 n) ih a0 a1 a2 h172)
          · refine s_aload_n (pc := 60) 2 dX2_waiting_60 rfl rfl ?_
            refine s_aload_n (pc := 61) 0 dX2_waiting_61 rfl rfl ?_
            refine zS_ite (fun ht => ?_) (fun _ => zS_none)
            refine s_callV (pc := 62) (np := 1) (as := [va_rf r159]) (rest := []) dX2_waiting_62 ht (q := (RJ37, TJ37, 3)) rfl (c_J37_add_2 (by decide) a1 r159 h172) rfl rfl q1304 q1305 q1306 rfl (by decide) (zkI (fun x173 h174 => ?_)) zxo
            refine s_pop (pc := 65) dX2_waiting_65 rfl ?_
            exact s_sub (pc := 66) [1, 2, 3] rfl (w_X2_waiting_66 (f_X2_waiting_23 n) ih a0 a1 a2 h174)
      refine zS_ite (fun ht => ?_) (fun _ => ?_)
      · refine s_callF (pc := 33) (np := 0) (as := []) (rest := []) dX2_waiting_33 ht (q := (RJ17, TJ17, 5)) rfl (c_J17_next (by decide) a2 h10) ⟨_, _, _, q799⟩ rfl rfl q670 (by decide +kernel) q797 q795 rfl (by decide) (zkR (fun r159 h160 => ?_)) zxo
        refine s_cast (pc := 38) dX2_waiting_38 q836 zcs_FloatingDock_Ship ?_
        refine s_ast_n (pc := 41) (L2 := [(0, va_rf a0), (1, va_rf a1), (2, va_rf a2)]) [0, 1, 2] dX2_waiting_41 rfl (by decide) rfl rfl (zcB (j := 2) rfl (zcat_rf a2) rfl) ?_
        refine s_aload_n (pc := 42) 0 dX2_waiting_42 rfl rfl ?_
        refine zS_ite (fun ht => ?_) (fun _ => zS_none)
        refine s_callV (pc := 43) (np := 0) (as := []) (rest := []) dX2_waiting_43 ht (q := (RX6, TX6, 9)) rfl (c_X6_isInDock (by decide) r159 h160) rfl rfl q837 q367 q368 rfl (by decide) (zkI (fun x175 h176 => ?_)) zxo
        refine s_if_ne (pc := 46) (tgt := 66) dX2_waiting_46 (by decide) (fun _ => ?_) (fun _ => ?_)
        · exact s_sub (pc := 66) [1, 2, 3] rfl (w_X2_waiting_66 (f_X2_waiting_23 n) ih a0 a1 a2 h176)
        · refine s_aload_n (pc := 49) 0 dX2_waiting_49 rfl rfl ?_
          refine s_aload_n (pc := 50) 1 dX2_waiting_50 rfl rfl ?_
          refine s_gI (pc := 51) dX2_waiting_51 gf_X2_25 (fun x177 => ?_)
          refine zS_ite (fun ht => ?_) (fun _ => zS_none)
          refine s_callV (pc := 54) (np := 1) (as := [.int x177]) (rest := []) dX2_waiting_54 ht (q := (RX6, TX6, 9)) rfl (c_X6_isDeepEnough (by decide) r159 x177 h176) rfl rfl q1328 q1329 q1330 rfl (by decide) (zkI (fun x178 h179 => ?_)) zxo
          refine s_if_eq (pc := 57) (tgt := 66) dX2_waiting_57 (by decide) (fun _ => ?_) (fun _ => ?_)
          · exact s_sub (pc := 66) [1, 2, 3] rfl (w_X2_waiting_66 (f_X2_waiting_23 n) ih a0 a1 a2 h179)
          · refine s_aload_n (pc := 60) 2 dX2_waiting_60 rfl rfl ?_
            refine s_aload_n (pc := 61) 0 dX2_waiting_61 rfl rfl ?_
            refine zS_ite (fun ht => ?_) (fun _ => zS_none)
            refine s_callV (pc := 62) (np := 1) (as := [va_rf r159]) (rest := []) dX2_waiting_62 ht (q := (RJ37, TJ37, 3)) rfl (c_J37_add_2 (by decide) a1 r159 h179) rfl rfl q1304 q1305 q1306 rfl (by decide) (zkI (fun x180 h181 => ?_)) zxo
            refine s_pop (pc := 65) dX2_waiting_65 rfl ?_
            exact s_sub (pc := 66) [1, 2, 3] rfl (w_X2_waiting_66 (f_X2_waiting_23 n) ih a0 a1 a2 h181)
      refine zS_ite (fun ht => ?_) (fun _ => ?_)
      · refine s_callF (pc := 33) (np := 0) (as := []) (rest := []) dX2_waiting_33 ht (q := (RJ21, TJ21, 5)) rfl (c_J21_next (by decide) a2 h10) ⟨_, _, _, q812⟩ rfl rfl q670 (by decide +kernel) q810 q808 rfl (by decide) (zkR (fun r159 h160 => ?_)) zxo
        refine s_cast (pc := 38) dX2_waiting_38 q836 zcs_FloatingDock_Ship ?_
        refine s_ast_n (pc := 41) (L2 := [(0, va_rf a0), (1, va_rf a1), (2, va_rf a2)]) [0, 1, 2] dX2_waiting_41 rfl (by decide) rfl rfl (zcB (j := 2) rfl (zcat_rf a2) rfl) ?_
        refine s_aload_n (pc := 42) 0 dX2_waiting_42 rfl rfl ?_
        refine zS_ite (fun ht => ?_) (fun _ => zS_none)
        refine s_callV (pc := 43) (np := 0) (as := []) (rest := []) dX2_waiting_43 ht (q := (RX6, TX6, 9)) rfl (c_X6_isInDock (by decide) r159 h160) rfl rfl q837 q367 q368 rfl (by decide) (zkI (fun x182 h183 => ?_)) zxo
        refine s_if_ne (pc := 46) (tgt := 66) dX2_waiting_46 (by decide) (fun _ => ?_) (fun _ => ?_)
        · exact s_sub (pc := 66) [1, 2, 3] rfl (w_X2_waiting_66 (f_X2_waiting_23 n) ih a0 a1 a2 h183)
        · refine s_aload_n (pc := 49) 0 dX2_waiting_49 rfl rfl ?_
          refine s_aload_n (pc := 50) 1 dX2_waiting_50 rfl rfl ?_
          refine s_gI (pc := 51) dX2_waiting_51 gf_X2_25 (fun x184 => ?_)
          refine zS_ite (fun ht => ?_) (fun _ => zS_none)
          refine s_callV (pc := 54) (np := 1) (as := [.int x184]) (rest := []) dX2_waiting_54 ht (q := (RX6, TX6, 9)) rfl (c_X6_isDeepEnough (by decide) r159 x184 h183) rfl rfl q1328 q1329 q1330 rfl (by decide) (zkI (fun x185 h186 => ?_)) zxo
          refine s_if_eq (pc := 57) (tgt := 66) dX2_waiting_57 (by decide) (fun _ => ?_) (fun _ => ?_)
          · exact s_sub (pc := 66) [1, 2, 3] rfl (w_X2_waiting_66 (f_X2_waiting_23 n) ih a0 a1 a2 h186)
          · refine s_aload_n (pc := 60) 2 dX2_waiting_60 rfl rfl ?_
            refine s_aload_n (pc := 61) 0 dX2_waiting_61 rfl rfl ?_
            refine zS_ite (fun ht => ?_) (fun _ => zS_none)
            refine s_callV (pc := 62) (np := 1) (as := [va_rf r159]) (rest := []) dX2_waiting_62 ht (q := (RJ37, TJ37, 3)) rfl (c_J37_add_2 (by decide) a1 r159 h186) rfl rfl q1304 q1305 q1306 rfl (by decide) (zkI (fun x187 h188 => ?_)) zxo
            refine s_pop (pc := 65) dX2_waiting_65 rfl ?_
            exact s_sub (pc := 66) [1, 2, 3] rfl (w_X2_waiting_66 (f_X2_waiting_23 n) ih a0 a1 a2 h188)
      refine zS_ite (fun ht => ?_) (fun _ => zS_none)
      refine s_callF (pc := 33) (np := 0) (as := []) (rest := []) dX2_waiting_33 ht (q := (RJ22, TJ22, 5)) rfl (c_J22_next (by decide) a2 h10) ⟨_, _, _, q832⟩ rfl rfl q670 (by decide +kernel) q830 q828 rfl (by decide) (zkR (fun r159 h160 => ?_)) zxo
      refine s_cast (pc := 38) dX2_waiting_38 q836 zcs_FloatingDock_Ship ?_
      refine s_ast_n (pc := 41) (L2 := [(0, va_rf a0), (1, va_rf a1), (2, va_rf a2)]) [0, 1, 2] dX2_waiting_41 rfl (by decide) rfl rfl (zcB (j := 2) rfl (zcat_rf a2) rfl) ?_
      refine s_aload_n (pc := 42) 0 dX2_waiting_42 rfl rfl ?_
      refine zS_ite (fun ht => ?_) (fun _ => zS_none)
      refine s_callV (pc := 43) (np := 0) (as := []) (rest := []) dX2_waiting_43 ht (q := (RX6, TX6, 9)) rfl (c_X6_isInDock (by decide) r159 h160) rfl rfl q837 q367 q368 rfl (by decide) (zkI (fun x189 h190 => ?_)) zxo
      refine s_if_ne (pc := 46) (tgt := 66) dX2_waiting_46 (by decide) (fun _ => ?_) (fun _ => ?_)
      · exact s_sub (pc := 66) [1, 2, 3] rfl (w_X2_waiting_66 (f_X2_waiting_23 n) ih a0 a1 a2 h190)
      · refine s_aload_n (pc := 49) 0 dX2_waiting_49 rfl rfl ?_
        refine s_aload_n (pc := 50) 1 dX2_waiting_50 rfl rfl ?_
        refine s_gI (pc := 51) dX2_waiting_51 gf_X2_25 (fun x191 => ?_)
        refine zS_ite (fun ht => ?_) (fun _ => zS_none)
        refine s_callV (pc := 54) (np := 1) (as := [.int x191]) (rest := []) dX2_waiting_54 ht (q := (RX6, TX6, 9)) rfl (c_X6_isDeepEnough (by decide) r159 x191 h190) rfl rfl q1328 q1329 q1330 rfl (by decide) (zkI (fun x192 h193 => ?_)) zxo
        refine s_if_eq (pc := 57) (tgt := 66) dX2_waiting_57 (by decide) (fun _ => ?_) (fun _ => ?_)
        · exact s_sub (pc := 66) [1, 2, 3] rfl (w_X2_waiting_66 (f_X2_waiting_23 n) ih a0 a1 a2 h193)
        · refine s_aload_n (pc := 60) 2 dX2_waiting_60 rfl rfl ?_
          refine s_aload_n (pc := 61) 0 dX2_waiting_61 rfl rfl ?_
          refine zS_ite (fun ht => ?_) (fun _ => zS_none)
          refine s_callV (pc := 62) (np := 1) (as := [va_rf r159]) (rest := []) dX2_waiting_62 ht (q := (RJ37, TJ37, 3)) rfl (c_J37_add_2 (by decide) a1 r159 h193) rfl rfl q1304 q1305 q1306 rfl (by decide) (zkI (fun x194 h195 => ?_)) zxo
          refine s_pop (pc := 65) dX2_waiting_65 rfl ?_
          exact s_sub (pc := 66) [1, 2, 3] rfl (w_X2_waiting_66 (f_X2_waiting_23 n) ih a0 a1 a2 h195)
theorem w_X2_waiting (v0 : Option Nat) (h : zH) : zS D z yX2_waiting cX2_waiting 4 (some (.object "java/util/ArrayList")) [] 10 h 0 [(0, va_rf v0)] [] (f_X2_waiting v0 h) := by
  unfold f_X2_waiting
  refine s_new (pc := 0) dX2_waiting_0 nf_X2_135 (fun r1 h2 => ?_)
  refine s_dup (pc := 3) dX2_waiting_3 (zcat_rf _) ?_
  refine s_bipush (pc := 4) (v := 8) dX2_waiting_4 (by decide) ?_
  refine zS_ite (fun hr => ?_) (fun _ => zS_none)
  refine s_callC (pc := 6) (np := 1) (as := [.int 8]) (rest := [va_rf r1]) dX2_waiting_6 hr (c_J37_init (by decide) r1 8 h2) ⟨_, _, q1150⟩ rfl rfl rfl q1148 q1149 rfl (by simp [zcat_rf, zcat_i, zcat_l, zcat_f, zcat_d]) (zkV (fun h3 => ?_)) zxo
  refine s_ast_n (pc := 9) (L2 := [(0, va_rf v0)]) [0] dX2_waiting_9 rfl (by decide) rfl rfl (zcB (j := 0) rfl (zcat_rf v0) rfl) ?_
  refine s_aload_n (pc := 10) 1 dX2_waiting_10 rfl rfl ?_
  refine s_gR (pc := 11) dX2_waiting_11 gf_X2_12 (fun r4 => ?_)
  refine zS_ite (fun ht => ?_) (fun _ => zS_none)
  refine s_callV (pc := 14) (np := 0) (as := []) (rest := []) dX2_waiting_14 ht (q := (RJ2, TJ2, 12)) rfl (c_J2_values (by decide) r4 h3) rfl rfl q413 q414 q415 rfl (by decide) (zkR (fun r5 h6 => ?_)) zxo
  refine zS_ite (fun ht => ?_) (fun _ => zS_none)
  refine s_callF (pc := 17) (np := 0) (as := []) (rest := []) dX2_waiting_17 ht (q := (RJ13, TJ13, 2)) rfl (c_J13_iterator (by decide) r5 h6) ⟨_, _, _, q615⟩ rfl rfl q436 (by decide +kernel) q613 q611 rfl (by decide) (zkR (fun r7 h8 => ?_)) zxo
  refine s_ast_n (pc := 22) (L2 := [(1, va_rf r1), (0, va_rf v0)]) [0, 1] dX2_waiting_22 rfl (by decide) rfl rfl (zcB (j := 0) rfl (zcat_rf r1) rfl) ?_
  exact s_sub (pc := 23) [2, 1, 0] rfl (w_X2_waiting_23 zfuel v0 r1 r7 h8)
theorem c_X2_waiting {d0 : Nat} (hd0 : 10 < d0) (v0 : Option Nat) (h : zH) : zCal D z d0 h yX2_waiting [va_rf v0] (f_X2_waiting v0 h) :=
  ⟨cX2_waiting, 4, (some (.object "java/util/ArrayList")), [], 10, (show lv_args 0 [va_rf v0] = [(0, va_rf v0)] by simp [lv_args, zcat_rf, zcat_i, zcat_l, zcat_f, zcat_d]) ▸ w_X2_waiting v0 h, (plainFor_of_name (by decide)), by simp [lg_sl, zcat_rf, zcat_i, zcat_l, zcat_f, zcat_d], q1327, q96, hd0, by decide, by decide⟩
theorem w_X4_init_37 : ∀ (n : Nat) (a0 : Option Nat) (a2 : Option Nat) (a3 : Int32) (h : zH), zS D z yX4_init cX4_init 4 none [] 12 h 37 [(0, va_rf a0), (2, va_rf a2), (3, .int a3)] [] (f_X4_init_37 n a0 a2 a3 h) := by
  intro n
  induction n with
  | zero => intros; exact zS_none
  | succ n ih =>
    intro a0 a2 a3 h
    rw [f_X4_init_37.eq_2]
    refine s_iload_n (pc := 37) 2 dX4_init_37 rfl rfl ?_
    refine s_aload_n (pc := 38) 0 dX4_init_38 rfl rfl ?_
    refine s_gR (pc := 39) dX4_init_39 gf_X4_31 (fun r13 => ?_)
    refine s_alen (pc := 42) dX4_init_42 zarrs_ok (fun x14 => ?_)
    refine s_icmp_ge (pc := 43) (tgt := 69) dX4_init_43 (by decide) (fun _ => ?_) (fun _ => ?_)
    · exact s_vret (pc := 69) dX4_init_69 rfl
    · refine s_aload_n (pc := 46) 0 dX4_init_46 rfl rfl ?_
      refine s_gR (pc := 47) dX4_init_47 gf_X4_31 (fun r15 => ?_)
      refine s_iload_n (pc := 50) 2 dX4_init_50 rfl rfl ?_
      refine s_aload_n (pc := 51) 1 dX4_init_51 rfl rfl ?_
      refine s_iload_n (pc := 52) 2 dX4_init_52 rfl rfl ?_
      refine zS_ite (fun ht => ?_) (fun _ => zS_none)
      refine s_callV (pc := 53) (np := 1) (as := [.int a3]) (rest := [.int a3, va_rf r15]) dX4_init_53 ht (q := (RJ37, TJ37, 3)) rfl (c_J37_get (by decide) a2 a3 h) rfl rfl q1334 q1190 q1191 rfl (by simp [zcat_rf, zcat_i, zcat_l, zcat_f, zcat_d]) (zkR (fun r16 h17 => ?_)) zxo
      refine s_cast (pc := 56) dX4_init_56 q1335 zcs_FloatingDock_Stretch ?_
      refine s_gI (pc := 59) dX4_init_59 gf_X4_41 (fun x18 => ?_)
      refine s_iast (pc := 62) dX4_init_62 (ztc rfl zt0) (fun h19 => ?_)
      refine s_inc (pc := 63) (v := 1) (L2 := [(0, va_rf a0), (2, va_rf a2)]) 2 [0, 1] dX4_init_63 rfl (by decide) (by decide) rfl rfl (zcB (j := 1) rfl (zcat_rf a2) rfl) (fun x20 => ?_)
      refine s_goto (pc := 66) (tgt := 37) dX4_init_66 (by decide) ?_
      exact s_sub (pc := 37) [1, 2, 0] rfl (ih a0 a2 x20 h19)
theorem w_X4_init (v0 : Option Nat) (v1 : Option Nat) (h : zH) : zS D z yX4_init cX4_init 4 none [] 12 h 0 [(0, va_rf v0), (1, va_rf v1)] [] (f_X4_init v0 v1 h) := by
  unfold f_X4_init
  refine s_aload_n (pc := 0) 0 dX4_init_0 rfl rfl ?_
  refine s_aload_n (pc := 1) 1 dX4_init_1 rfl rfl ?_
  refine s_putR (pc := 2) dX4_init_2 pf_X4_1 (fun h1 => ?_)
  refine s_aload_n (pc := 5) 0 dX4_init_5 rfl rfl ?_
  refine zS_ite (fun hr => ?_) (fun _ => zS_none)
  refine s_objinit (pc := 6) dX4_init_6 hr q1323 q164 q165 (by decide) (by decide) ?_
  refine s_aload_n (pc := 9) 0 dX4_init_9 rfl rfl ?_
  refine s_aload_n (pc := 10) 0 dX4_init_10 rfl rfl ?_
  refine s_gR (pc := 11) dX4_init_11 gf_X4_1 (fun r2 => ?_)
  refine zS_ite (fun ht => ?_) (fun _ => zS_none)
  refine s_callVN (pc := 14) (np := 0) (as := []) (rest := [va_rf v0]) dX4_init_14 ht (q := (RX2, TX2, 10)) rfl (c_X2_waiting (by decide) r2 h1) ⟨_, _, _, q1327⟩ rfl rfl q1324 q1326 qs10 rfl (by simp [zcat_rf, zcat_i, zcat_l, zcat_f, zcat_d]) (zkR (fun r3 h4 => ?_)) zxo
  refine s_putR (pc := 17) dX4_init_17 pf_X4_19 (fun h5 => ?_)
  refine s_aload_n (pc := 20) 1 dX4_init_20 rfl rfl ?_
  refine zS_ite (fun ht => ?_) (fun _ => zS_none)
  refine s_callV (pc := 21) (np := 0) (as := []) (rest := []) dX4_init_21 ht (q := (RX2, TX2, 10)) rfl (c_X2_gaps (by decide) v1 h5) rfl rfl q1332 q1143 q1144 rfl (by decide) (zkR (fun r6 h7 => ?_)) zxo
  refine s_ast_n (pc := 24) (L2 := [(0, va_rf v0)]) [0] dX4_init_24 rfl (by decide) rfl rfl (zcA rfl) ?_
  refine s_aload_n (pc := 25) 1 dX4_init_25 rfl rfl ?_
  refine s_aload_n (pc := 26) 0 dX4_init_26 rfl rfl ?_
  refine zS_ite (fun ht => ?_) (fun _ => zS_none)
  refine s_callV (pc := 27) (np := 0) (as := []) (rest := [va_rf v0]) dX4_init_27 ht (q := (RJ37, TJ37, 3)) rfl (c_J37_size (by decide) r6 h7) rfl rfl q1333 q1186 q1187 rfl (by simp [zcat_rf, zcat_i, zcat_l, zcat_f, zcat_d]) (zkI (fun x8 h9 => ?_)) zxo
  refine s_newa (pc := 30) (ty := .int) dX4_init_30 rfl ⟨rfl, by decide⟩ q1350 rfl rfl (fun r10 h11 => ?_)
  refine s_putA (pc := 32) dX4_init_32 pf_X4_31 (fun h12 => ?_)
  refine s_iconst (pc := 35) (v := 0) dX4_init_35 (by decide) ?_
  refine s_ist_n (pc := 36) (L2 := [(2, va_rf r6), (0, va_rf v0)]) [0, 1] dX4_init_36 rfl (by decide) rfl rfl (zcB (j := 0) rfl (zcat_rf r6) rfl) ?_
  exact s_sub (pc := 37) [2, 1, 0] rfl (w_X4_init_37 zfuel v0 r6 0 h12)
theorem c_X4_init {d0 : Nat} (hd0 : 12 < d0) (v0 : Option Nat) (v1 : Option Nat) (h : zH) : zCal D z d0 h yX4_init [va_rf v0, va_rf v1] (f_X4_init v0 v1 h) :=
  ⟨cX4_init, 4, none, [], 12, (show lv_args 0 [va_rf v0, va_rf v1] = [(0, va_rf v0), (1, va_rf v1)] by simp [lv_args, zcat_rf, zcat_i, zcat_l, zcat_f, zcat_d]) ▸ w_X4_init v0 v1 h, (plainFor_of_name (by decide)), by simp [lg_sl, zcat_rf, zcat_i, zcat_l, zcat_f, zcat_d], q1322, q139, hd0, by decide, by decide⟩
theorem w_X4_pack_113 {d9 : Nat} (hd9 : 4 ≤ d9) (RC : Option Nat → Int32 → Int32 → zH → zO) (hRC : ∀ (v0 : Option Nat) (v1 : Int32) (v2 : Int32) (h : zH), zCal D z d9 h yX4_pack [va_rf v0, .int v1, .int v2] (RC v0 v1 v2 h)) (K60 : Option Nat → Int32 → Int32 → Int32 → Int32 → zH → zO) (hK60 : ∀ (a0 : Option Nat) (a1 : Int32) (a2 : Int32) (a3 : Int32) (a4 : Int32) (h : zH), zS D z yX4_pack cX4_pack 5 none [] d9 h 60 [(0, va_rf a0), (1, .int a1), (2, .int a2), (3, .int a3), (4, .int a4)] [] (K60 a0 a1 a2 a3 a4 h)) (a0 : Option Nat) (a1 : Int32) (a2 : Int32) (a3 : Int32) (a4 : Int32) (h : zH) : zS D z yX4_pack cX4_pack 5 none [] d9 h 113 [(0, va_rf a0), (1, .int a1), (2, .int a2), (3, .int a3), (4, .int a4)] [] (f_X4_pack_113 RC K60 a0 a1 a2 a3 a4 h) := by
  unfold f_X4_pack_113
  refine s_inc (pc := 113) (v := 1) (L2 := [(0, va_rf a0), (1, .int a1), (2, .int a2), (3, .int a3)]) 4 [0, 1, 2, 3] dX4_pack_113 rfl (by decide) (by decide) rfl rfl (zcB (j := 3) rfl rfl rfl) (fun x27 => ?_)
  refine s_goto (pc := 116) (tgt := 60) dX4_pack_116 (by decide) ?_
  exact s_sub (pc := 60) [1, 2, 3, 4, 0] rfl (hK60 a0 a1 a2 a3 x27 h)
theorem w_X4_pack_119 {d9 : Nat} (hd9 : 4 ≤ d9) (RC : Option Nat → Int32 → Int32 → zH → zO) (hRC : ∀ (v0 : Option Nat) (v1 : Int32) (v2 : Int32) (h : zH), zCal D z d9 h yX4_pack [va_rf v0, .int v1, .int v2] (RC v0 v1 v2 h)) (a0 : Option Nat) (a1 : Int32) (a2 : Int32) (h : zH) : zS D z yX4_pack cX4_pack 5 none [] d9 h 119 [(0, va_rf a0), (1, .int a1), (2, .int a2)] [] (f_X4_pack_119 RC a0 a1 a2 h) := by
  unfold f_X4_pack_119
  refine s_aload_n (pc := 119) 0 dX4_pack_119 rfl rfl ?_
  refine s_iload_n (pc := 120) 1 dX4_pack_120 rfl rfl ?_
  refine s_iconst (pc := 121) (v := 1) dX4_pack_121 (by decide) ?_
  refine s_iadd (pc := 122) dX4_pack_122 ?_
  refine s_iload_n (pc := 123) 2 dX4_pack_123 rfl rfl ?_
  refine zS_ite (fun ht => ?_) (fun _ => zS_none)
  refine s_callV (pc := 124) (np := 2) (as := [.int (a1 + 1), .int a2]) (rest := []) dX4_pack_124 ht (q := (RX4, TX4, 4)) rfl (hRC a0 (a1 + 1) a2 h) rfl rfl q1357 q1352 q1353 rfl (by decide) (zkV (fun h28 => ?_)) zxo
  exact s_vret (pc := 127) dX4_pack_127 rfl
theorem w_X4_pack_60 {d9 : Nat} (hd9 : 4 ≤ d9) (RC : Option Nat → Int32 → Int32 → zH → zO) (hRC : ∀ (v0 : Option Nat) (v1 : Int32) (v2 : Int32) (h : zH), zCal D z d9 h yX4_pack [va_rf v0, .int v1, .int v2] (RC v0 v1 v2 h)) : ∀ (n : Nat) (a0 : Option Nat) (a1 : Int32) (a2 : Int32) (a3 : Int32) (a4 : Int32) (h : zH), zS D z yX4_pack cX4_pack 5 none [] d9 h 60 [(0, va_rf a0), (1, .int a1), (2, .int a2), (3, .int a3), (4, .int a4)] [] (f_X4_pack_60 RC n a0 a1 a2 a3 a4 h) := by
  intro n
  induction n with
  | zero => intros; exact zS_none
  | succ n ih =>
    intro a0 a1 a2 a3 a4 h
    rw [f_X4_pack_60.eq_2]
    refine s_iload (pc := 60) 4 dX4_pack_60 rfl ?_
    refine s_aload_n (pc := 62) 0 dX4_pack_62 rfl rfl ?_
    refine s_gR (pc := 63) dX4_pack_63 gf_X4_31 (fun r16 => ?_)
    refine s_alen (pc := 66) dX4_pack_66 zarrs_ok (fun x17 => ?_)
    refine s_icmp_ge (pc := 67) (tgt := 119) dX4_pack_67 (by decide) (fun _ => ?_) (fun _ => ?_)
    · exact s_sub (pc := 119) [0, 1, 2] rfl (w_X4_pack_119 hd9 RC hRC a0 a1 a2 h)
    · refine s_aload_n (pc := 70) 0 dX4_pack_70 rfl rfl ?_
      refine s_gR (pc := 71) dX4_pack_71 gf_X4_31 (fun r18 => ?_)
      refine s_iload (pc := 74) 4 dX4_pack_74 rfl ?_
      refine s_iald (pc := 76) dX4_pack_76 (ztc rfl zt0) (fun x19 => ?_)
      refine s_iload_n (pc := 77) 3 dX4_pack_77 rfl rfl ?_
      refine s_icmp_lt (pc := 78) (tgt := 113) dX4_pack_78 (by decide) (fun _ => ?_) (fun _ => ?_)
      · exact s_sub (pc := 113) [0, 1, 2, 3, 4] rfl (w_X4_pack_113 hd9 RC hRC (f_X4_pack_60 RC n) ih a0 a1 a2 a3 a4 h)
      · refine s_aload_n (pc := 81) 0 dX4_pack_81 rfl rfl ?_
        refine s_gR (pc := 82) dX4_pack_82 gf_X4_31 (fun r20 => ?_)
        refine s_iload (pc := 85) 4 dX4_pack_85 rfl ?_
        refine s_dup2_11 (pc := 87) dX4_pack_87 rfl (zcat_rf _) ?_
        refine s_iald (pc := 88) dX4_pack_88 (ztc rfl zt0) (fun x21 => ?_)
        refine s_iload_n (pc := 89) 3 dX4_pack_89 rfl rfl ?_
        refine s_isub (pc := 90) dX4_pack_90 ?_
        refine s_iast (pc := 91) dX4_pack_91 (ztc rfl zt0) (fun h22 => ?_)
        refine s_aload_n (pc := 92) 0 dX4_pack_92 rfl rfl ?_
        refine s_iload_n (pc := 93) 1 dX4_pack_93 rfl rfl ?_
        refine s_iconst (pc := 94) (v := 1) dX4_pack_94 (by decide) ?_
        refine s_iadd (pc := 95) dX4_pack_95 ?_
        refine s_iload_n (pc := 96) 2 dX4_pack_96 rfl rfl ?_
        refine s_iconst (pc := 97) (v := 1) dX4_pack_97 (by decide) ?_
        refine s_iadd (pc := 98) dX4_pack_98 ?_
        refine zS_ite (fun ht => ?_) (fun _ => zS_none)
        refine s_callV (pc := 99) (np := 2) (as := [.int (a1 + 1), .int (a2 + 1)]) (rest := []) dX4_pack_99 ht (q := (RX4, TX4, 4)) rfl (hRC a0 (a1 + 1) (a2 + 1) h22) rfl rfl q1357 q1352 q1353 rfl (by decide) (zkV (fun h23 => ?_)) zxo
        refine s_aload_n (pc := 102) 0 dX4_pack_102 rfl rfl ?_
        refine s_gR (pc := 103) dX4_pack_103 gf_X4_31 (fun r24 => ?_)
        refine s_iload (pc := 106) 4 dX4_pack_106 rfl ?_
        refine s_dup2_11 (pc := 108) dX4_pack_108 rfl (zcat_rf _) ?_
        refine s_iald (pc := 109) dX4_pack_109 (ztc rfl zt0) (fun x25 => ?_)
        refine s_iload_n (pc := 110) 3 dX4_pack_110 rfl rfl ?_
        refine s_iadd (pc := 111) dX4_pack_111 ?_
        refine s_iast (pc := 112) dX4_pack_112 (ztc rfl zt0) (fun h26 => ?_)
        exact s_sub (pc := 113) [0, 1, 2, 3, 4] rfl (w_X4_pack_113 hd9 RC hRC (f_X4_pack_60 RC n) ih a0 a1 a2 a3 a4 h26)
theorem w_X4_pack {d9 : Nat} (hd9 : 4 ≤ d9) (RC : Option Nat → Int32 → Int32 → zH → zO) (hRC : ∀ (v0 : Option Nat) (v1 : Int32) (v2 : Int32) (h : zH), zCal D z d9 h yX4_pack [va_rf v0, .int v1, .int v2] (RC v0 v1 v2 h)) (v0 : Option Nat) (v1 : Int32) (v2 : Int32) (h : zH) : zS D z yX4_pack cX4_pack 5 none [] d9 h 0 [(0, va_rf v0), (1, .int v1), (2, .int v2)] [] (g_X4_pack RC v0 v1 v2 h) := by
  unfold g_X4_pack
  refine s_aload_n (pc := 0) 0 dX4_pack_0 rfl rfl ?_
  refine s_aload_n (pc := 1) 0 dX4_pack_1 rfl rfl ?_
  refine s_gI (pc := 2) dX4_pack_2 gf_X4_45 (fun x1 => ?_)
  refine s_iload_n (pc := 5) 2 dX4_pack_5 rfl rfl ?_
  refine s_callSS (pc := 6) (np := 2) (as := [.int x1, .int v2]) (rest := [va_rf v0]) dX4_pack_6 (c_J11_max (by omega) x1 v2 h) rfl rfl q1355 q881 rfl (by simp [zcat_rf, zcat_i, zcat_l, zcat_f, zcat_d]) (zkI (fun x2 h3 => ?_)) zxo
  refine s_putI (pc := 9) dX4_pack_9 pf_X4_45 (fun h4 => ?_)
  refine s_iload_n (pc := 12) 1 dX4_pack_12 rfl rfl ?_
  refine s_aload_n (pc := 13) 0 dX4_pack_13 rfl rfl ?_
  refine s_gR (pc := 14) dX4_pack_14 gf_X4_19 (fun r5 => ?_)
  refine zS_ite (fun ht => ?_) (fun _ => zS_none)
  refine s_callV (pc := 17) (np := 0) (as := []) (rest := [.int v1]) dX4_pack_17 ht (q := (RJ37, TJ37, 3)) rfl (c_J37_size (by omega) r5 h4) rfl rfl q1333 q1186 q1187 rfl (by simp [zcat_rf, zcat_i, zcat_l, zcat_f, zcat_d]) (zkI (fun x6 h7 => ?_)) zxo
  refine s_icmp_eq (pc := 20) (tgt := 41) dX4_pack_20 (by decide) (fun _ => ?_) (fun _ => ?_)
  · exact s_vret (pc := 41) dX4_pack_41 rfl
  · refine s_iload_n (pc := 23) 2 dX4_pack_23 rfl rfl ?_
    refine s_aload_n (pc := 24) 0 dX4_pack_24 rfl rfl ?_
    refine s_gR (pc := 25) dX4_pack_25 gf_X4_19 (fun r8 => ?_)
    refine zS_ite (fun ht => ?_) (fun _ => zS_none)
    refine s_callV (pc := 28) (np := 0) (as := []) (rest := [.int v2]) dX4_pack_28 ht (q := (RJ37, TJ37, 3)) rfl (c_J37_size (by omega) r8 h7) rfl rfl q1333 q1186 q1187 rfl (by simp [zcat_rf, zcat_i, zcat_l, zcat_f, zcat_d]) (zkI (fun x9 h10 => ?_)) zxo
    refine s_iadd (pc := 31) dX4_pack_31 ?_
    refine s_iload_n (pc := 32) 1 dX4_pack_32 rfl rfl ?_
    refine s_isub (pc := 33) dX4_pack_33 ?_
    refine s_aload_n (pc := 34) 0 dX4_pack_34 rfl rfl ?_
    refine s_gI (pc := 35) dX4_pack_35 gf_X4_45 (fun x11 => ?_)
    refine s_icmp_gt (pc := 38) (tgt := 42) dX4_pack_38 (by decide) (fun _ => ?_) (fun _ => ?_)
    · refine s_aload_n (pc := 42) 0 dX4_pack_42 rfl rfl ?_
      refine s_gR (pc := 43) dX4_pack_43 gf_X4_19 (fun r12 => ?_)
      refine s_iload_n (pc := 46) 1 dX4_pack_46 rfl rfl ?_
      refine zS_ite (fun ht => ?_) (fun _ => zS_none)
      refine s_callV (pc := 47) (np := 1) (as := [.int v1]) (rest := []) dX4_pack_47 ht (q := (RJ37, TJ37, 3)) rfl (c_J37_get (by omega) r12 v1 h10) rfl rfl q1334 q1190 q1191 rfl (by decide) (zkR (fun r13 h14 => ?_)) zxo
      refine s_cast (pc := 50) dX4_pack_50 q1356 zcs_FloatingDock_Ship ?_
      refine s_gI (pc := 53) dX4_pack_53 gf_X4_56 (fun x15 => ?_)
      refine s_ist_n (pc := 56) (L2 := [(0, va_rf v0), (1, .int v1), (2, .int v2)]) [0, 1, 2] dX4_pack_56 rfl (by decide) rfl rfl (zcB (j := 2) rfl rfl rfl) ?_
      refine s_iconst (pc := 57) (v := 0) dX4_pack_57 (by decide) ?_
      refine s_ist (pc := 58) (L2 := [(3, .int x15), (0, va_rf v0), (1, .int v1), (2, .int v2)]) [0, 1, 2, 3] dX4_pack_58 (by decide) rfl rfl (zcB (j := 0) rfl rfl rfl) ?_
      exact s_sub (pc := 60) [2, 3, 4, 1, 0] rfl (w_X4_pack_60 hd9 RC hRC zfuel v0 v1 v2 x15 0 h14)
    · exact s_vret (pc := 41) dX4_pack_41 rfl
theorem c_X4_pack : ∀ (n : Nat) {d0 : Nat} (hd0 : 4 + n < d0) (v0 : Option Nat) (v1 : Int32) (v2 : Int32) (h : zH), zCal D z d0 h yX4_pack [va_rf v0, .int v1, .int v2] (f_X4_pack n v0 v1 v2 h) := by
  intro n
  induction n with
  | zero =>
    intro d0 hd0 v0 v1 v2 h
    exact ⟨cX4_pack, 5, none, [], 4, zS_none, (plainFor_of_name (by decide)), by simp [lg_sl, zcat_rf, zcat_i, zcat_l, zcat_f, zcat_d], q1354, q139, by omega, by decide, by decide⟩
  | succ n ih =>
    intro d0 hd0 v0 v1 v2 h
    have hw := w_X4_pack (d9 := 4 + n + 1) (by omega) (f_X4_pack n) (fun v0 v1 v2 h => ih (d0 := 4 + n + 1) (by omega) v0 v1 v2 h) v0 v1 v2 h
    exact ⟨cX4_pack, 5, none, [], 4 + n + 1, (show lv_args 0 [va_rf v0, .int v1, .int v2] = [(0, va_rf v0), (1, .int v1), (2, .int v2)] by simp [lv_args, zcat_rf, zcat_i, zcat_l, zcat_f, zcat_d]) ▸ hw, (plainFor_of_name (by decide)), by simp [lg_sl, zcat_rf, zcat_i, zcat_l, zcat_f, zcat_d], q1354, q139, by omega, by decide, by decide⟩
theorem w_X2_mostByTrying (v0 : Option Nat) (h : zH) : zS D z yX2_mostByTrying cX2_mostByTrying 2 (some .int) [] 17 h 0 [(0, va_rf v0)] [] (f_X2_mostByTrying v0 h) := by
  unfold f_X2_mostByTrying
  refine s_new (pc := 0) dX2_mostByTrying_0 nf_X2_318 (fun r1 h2 => ?_)
  refine s_dup (pc := 3) dX2_mostByTrying_3 (zcat_rf _) ?_
  refine s_aload_n (pc := 4) 0 dX2_mostByTrying_4 rfl rfl ?_
  refine zS_ite (fun hr => ?_) (fun _ => zS_none)
  refine s_callC (pc := 5) (np := 1) (as := [va_rf v0]) (rest := [va_rf r1]) dX2_mostByTrying_5 hr (c_X4_init (by decide) r1 v0 h2) ⟨_, _, q1322⟩ rfl rfl rfl q1320 q1321 rfl (by simp [zcat_rf, zcat_i, zcat_l, zcat_f, zcat_d]) (zkV (fun h3 => ?_)) zxo
  refine s_ast_n (pc := 8) (L2 := []) [] dX2_mostByTrying_8 rfl (by decide) rfl rfl (zcA rfl) ?_
  refine s_aload_n (pc := 9) 0 dX2_mostByTrying_9 rfl rfl ?_
  refine s_iconst (pc := 10) (v := 0) dX2_mostByTrying_10 (by decide) ?_
  refine s_iconst (pc := 11) (v := 0) dX2_mostByTrying_11 (by decide) ?_
  refine zS_ite (fun ht => ?_) (fun _ => zS_none)
  refine s_callV (pc := 12) (np := 2) (as := [.int 0, .int 0]) (rest := []) dX2_mostByTrying_12 ht (q := (RX4, TX4, 4)) rfl (c_X4_pack 12 (by decide) r1 0 0 h3) rfl rfl q1351 q1352 q1353 rfl (by decide) (zkV (fun h4 => ?_)) zxo
  refine s_aload_n (pc := 15) 0 dX2_mostByTrying_15 rfl rfl ?_
  refine s_gI (pc := 16) dX2_mostByTrying_16 gf_X2_324 (fun x5 => ?_)
  exact s_iret (pc := 19) dX2_mostByTrying_19 rfl
theorem c_X2_mostByTrying {d0 : Nat} (hd0 : 17 < d0) (v0 : Option Nat) (h : zH) : zCal D z d0 h yX2_mostByTrying [va_rf v0] (f_X2_mostByTrying v0 h) :=
  ⟨cX2_mostByTrying, 2, (some .int), [], 17, (show lv_args 0 [va_rf v0] = [(0, va_rf v0)] by simp [lv_args, zcat_rf, zcat_i, zcat_l, zcat_f, zcat_d]) ▸ w_X2_mostByTrying v0 h, (plainFor_of_name (by decide)), by simp [lg_sl, zcat_rf, zcat_i, zcat_l, zcat_f, zcat_d], q1317, q96, hd0, by decide, by decide⟩
theorem w_X1_lambda_new_5 (v0 : Option Nat) (h : zH) : zS D z yX1_lambda_new_5 cX1_lambda_new_5 1 (some .int) [] 18 h 0 [(0, va_rf v0)] [] (f_X1_lambda_new_5 v0 h) := by
  unfold f_X1_lambda_new_5
  refine s_aload_n (pc := 0) 0 dX1_lambda_new_5_0 rfl rfl ?_
  refine zS_ite (fun ht => ?_) (fun _ => zS_none)
  refine s_callV (pc := 1) (np := 0) (as := []) (rest := []) dX1_lambda_new_5_1 ht (q := (RX2, TX2, 10)) rfl (c_X2_mostByTrying (by decide) v0 h) rfl rfl q1314 q1315 q1316 rfl (by decide) (zkI (fun x1 h2 => ?_)) zxo
  exact s_iret (pc := 4) dX1_lambda_new_5_4 rfl
theorem c_X1_lambda_new_5 {d0 : Nat} (hd0 : 18 < d0) (v0 : Option Nat) (h : zH) : zCal D z d0 h yX1_lambda_new_5 [va_rf v0] (f_X1_lambda_new_5 v0 h) :=
  ⟨cX1_lambda_new_5, 1, (some .int), [], 18, (show lv_args 0 [va_rf v0] = [(0, va_rf v0)] by simp [lv_args, zcat_rf, zcat_i, zcat_l, zcat_f, zcat_d]) ▸ w_X1_lambda_new_5 v0 h, (plainFor_of_name (by decide)), by simp [lg_sl, zcat_rf, zcat_i, zcat_l, zcat_f, zcat_d], q1313, q95, hd0, by decide, by decide⟩
theorem w_X2_lengths_11 : ∀ (n : Nat) (a1 : Option Nat) (a2 : Option Nat) (a3 : Int32) (h : zH), zS D z yX2_lengths cX2_lengths 5 (some (.array (.int))) [] 4 h 11 [(1, va_rf a1), (2, va_rf a2), (3, .int a3)] [] (f_X2_lengths_11 n a1 a2 a3 h) := by
  intro n
  induction n with
  | zero => intros; exact zS_none
  | succ n ih =>
    intro a1 a2 a3 h
    rw [f_X2_lengths_11.eq_2]
    refine s_iload_n (pc := 11) 2 dX2_lengths_11 rfl rfl ?_
    refine s_aload_n (pc := 12) 1 dX2_lengths_12 rfl rfl ?_
    refine s_alen (pc := 13) dX2_lengths_13 zarrs_ok (fun x5 => ?_)
    refine s_icmp_ge (pc := 14) (tgt := 52) dX2_lengths_14 (by decide) (fun _ => ?_) (fun _ => ?_)
    · refine s_aload_n (pc := 52) 1 dX2_lengths_52 rfl rfl ?_
      exact s_aret (pc := 53) dX2_lengths_53 rfl (Or.inr ⟨_, rfl⟩)
    · refine s_iload_n (pc := 17) 2 dX2_lengths_17 rfl rfl ?_
      refine s_callSS (pc := 18) (np := 1) (as := [.int a3]) (rest := []) dX2_lengths_18 (c_J24_numberOfTrailingZeros (by decide) a3 h) rfl rfl q1369 q1133 rfl (by decide) (zkI (fun x6 h7 => ?_)) zxo
      refine s_ist (pc := 21) (L2 := [(1, va_rf a1), (2, va_rf a2), (3, .int a3)]) [0, 1, 2] dX2_lengths_21 (by decide) rfl rfl (zcB (j := 2) rfl rfl rfl) ?_
      refine s_aload_n (pc := 23) 2 dX2_lengths_23 rfl rfl ?_
      refine s_iload_n (pc := 24) 3 dX2_lengths_24 rfl rfl ?_
      refine s_aload_n (pc := 25) 2 dX2_lengths_25 rfl rfl ?_
      refine s_iload_n (pc := 26) 3 dX2_lengths_26 rfl rfl ?_
      refine s_iload_n (pc := 27) 3 dX2_lengths_27 rfl rfl ?_
      refine s_iconst (pc := 28) (v := 1) dX2_lengths_28 (by decide) ?_
      refine s_isub (pc := 29) dX2_lengths_29 ?_
      refine s_iand (pc := 30) dX2_lengths_30 ?_
      refine s_iald (pc := 31) dX2_lengths_31 (ztc rfl zt0) (fun x8 => ?_)
      refine s_aload_n (pc := 32) 1 dX2_lengths_32 rfl rfl ?_
      refine s_iload (pc := 33) 0 dX2_lengths_33 rfl ?_
      refine zS_ite (fun ht => ?_) (fun _ => zS_none)
      refine s_callV (pc := 35) (np := 1) (as := [.int x6]) (rest := [.int x8, .int a3, va_rf a2]) dX2_lengths_35 ht (q := (RJ37, TJ37, 3)) rfl (c_J37_get (by decide) a1 x6 h7) rfl rfl q1189 q1190 q1191 rfl (by simp [zcat_rf, zcat_i, zcat_l, zcat_f, zcat_d]) (zkR (fun r9 h10 => ?_)) zxo
      refine s_cast (pc := 38) dX2_lengths_38 q836 zcs_FloatingDock_Ship ?_
      refine s_gI (pc := 41) dX2_lengths_41 gf_X2_183 (fun x11 => ?_)
      refine s_iadd (pc := 44) dX2_lengths_44 ?_
      refine s_iast (pc := 45) dX2_lengths_45 (ztc rfl zt0) (fun h12 => ?_)
      refine s_inc (pc := 46) (v := 1) (L2 := [(1, va_rf a1), (2, va_rf a2)]) 3 [1, 2] dX2_lengths_46 rfl (by decide) (by decide) rfl rfl (zcB (j := 1) rfl (zcat_rf a2) rfl) (fun x13 => ?_)
      refine s_goto (pc := 49) (tgt := 11) dX2_lengths_49 (by decide) ?_
      exact s_sub (pc := 11) [1, 2, 0] rfl (ih a1 a2 x13 h12)
theorem w_X2_lengths (v0 : Option Nat) (v1 : Option Nat) (h : zH) : zS D z yX2_lengths cX2_lengths 5 (some (.array (.int))) [] 4 h 0 [(0, va_rf v0), (1, va_rf v1)] [] (f_X2_lengths v0 v1 h) := by
  unfold f_X2_lengths
  refine s_iconst (pc := 0) (v := 1) dX2_lengths_0 (by decide) ?_
  refine s_aload_n (pc := 1) 1 dX2_lengths_1 rfl rfl ?_
  refine zS_ite (fun ht => ?_) (fun _ => zS_none)
  refine s_callV (pc := 2) (np := 0) (as := []) (rest := [.int 1]) dX2_lengths_2 ht (q := (RJ37, TJ37, 3)) rfl (c_J37_size (by decide) v1 h) rfl rfl q1185 q1186 q1187 rfl (by simp [zcat_rf, zcat_i, zcat_l, zcat_f, zcat_d]) (zkI (fun x1 h2 => ?_)) zxo
  refine s_ishl (pc := 5) dX2_lengths_5 ?_
  refine s_newa (pc := 6) (ty := .int) dX2_lengths_6 rfl ⟨rfl, by decide⟩ q1350 rfl rfl (fun r3 h4 => ?_)
  refine s_ast_n (pc := 8) (L2 := [(1, va_rf v1)]) [1] dX2_lengths_8 rfl (by decide) rfl rfl (zcB (j := 0) rfl (zcat_rf v1) rfl) ?_
  refine s_iconst (pc := 9) (v := 1) dX2_lengths_9 (by decide) ?_
  refine s_ist_n (pc := 10) (L2 := [(2, va_rf r3), (1, va_rf v1)]) [0, 1] dX2_lengths_10 rfl (by decide) rfl rfl (zcB (j := 0) rfl (zcat_rf r3) rfl) ?_
  exact s_sub (pc := 11) [2, 1, 0] rfl (w_X2_lengths_11 zfuel v1 r3 1 h4)
theorem c_X2_lengths {d0 : Nat} (hd0 : 4 < d0) (v0 : Option Nat) (v1 : Option Nat) (h : zH) : zCal D z d0 h yX2_lengths [va_rf v0, va_rf v1] (f_X2_lengths v0 v1 h) :=
  ⟨cX2_lengths, 5, (some (.array (.int))), [], 4, (show lv_args 0 [va_rf v0, va_rf v1] = [(0, va_rf v0), (1, va_rf v1)] by simp [lv_args, zcat_rf, zcat_i, zcat_l, zcat_f, zcat_d]) ▸ w_X2_lengths v0 v1 h, (plainFor_of_name (by decide)), by simp [lg_sl, zcat_rf, zcat_i, zcat_l, zcat_f, zcat_d], q1368, q96, hd0, by decide, by decide⟩
theorem w_X2_fitting_94 (K17 : Option Nat → Option Nat → Option Nat → zH → zO) (hK17 : ∀ (a1 : Option Nat) (a2 : Option Nat) (a3 : Option Nat) (h : zH), zS D z yX2_fitting cX2_fitting 7 (some (.array (.boolean))) [] 12 h 17 [(1, va_rf a1), (2, va_rf a2), (3, va_rf a3)] [] (K17 a1 a2 a3 h)) (K43 : Option Nat → Option Nat → Option Nat → Option Nat → Int32 → zH → zO) (hK43 : ∀ (a1 : Option Nat) (a2 : Option Nat) (a3 : Option Nat) (a4 : Option Nat) (a5 : Int32) (h : zH), zS D z yX2_fitting cX2_fitting 7 (some (.array (.boolean))) [] 12 h 43 [(1, va_rf a1), (2, va_rf a2), (3, va_rf a3), (4, va_rf a4), (5, .int a5)] [] (K43 a1 a2 a3 a4 a5 h)) (K52 : Option Nat → Option Nat → Option Nat → Option Nat → Int32 → Int32 → zH → zO) (hK52 : ∀ (a1 : Option Nat) (a2 : Option Nat) (a3 : Option Nat) (a4 : Option Nat) (a5 : Int32) (a6 : Int32) (h : zH), zS D z yX2_fitting cX2_fitting 7 (some (.array (.boolean))) [] 12 h 52 [(1, va_rf a1), (2, va_rf a2), (3, va_rf a3), (4, va_rf a4), (5, .int a5), (6, .int a6)] [] (K52 a1 a2 a3 a4 a5 a6 h)) (a1 : Option Nat) (a2 : Option Nat) (a3 : Option Nat) (a4 : Option Nat) (a5 : Int32) (a6 : Int32) (s0 : Int32) (s1 : Int32) (s2 : Option Nat) (h : zH) : zS D z yX2_fitting cX2_fitting 7 (some (.array (.boolean))) [] 12 h 94 [(1, va_rf a1), (2, va_rf a2), (3, va_rf a3), (4, va_rf a4), (5, .int a5), (6, .int a6)] [.int s0, .int s1, va_rf s2] (f_X2_fitting_94 K17 K43 K52 a1 a2 a3 a4 a5 a6 s0 s1 s2 h) := by
  unfold f_X2_fitting_94
  refine s_zast (pc := 94) dX2_fitting_94 (ztc rfl zt0) (fun h75 => ?_)
  refine s_iload (pc := 95) 5 dX2_fitting_95 rfl ?_
  refine s_iconst (pc := 97) (v := 1) dX2_fitting_97 (by decide) ?_
  refine s_isub (pc := 98) dX2_fitting_98 ?_
  refine s_iload (pc := 99) 4 dX2_fitting_99 rfl ?_
  refine s_iand (pc := 101) dX2_fitting_101 ?_
  refine s_nm (pc := 102) Value.int (fun x76 => ?_)
  refine s_ist (pc := 102) (L2 := [(1, va_rf a1), (2, va_rf a2), (3, va_rf a3), (4, va_rf a4), (5, .int a5)]) [0, 1, 2, 3, 4] dX2_fitting_102 (by decide) rfl rfl (zcB (j := 4) rfl rfl rfl) ?_
  refine s_goto (pc := 104) (tgt := 52) dX2_fitting_104 (by decide) ?_
  exact s_sub (pc := 52) [1, 2, 3, 4, 5, 0] rfl (hK52 a1 a2 a3 a4 a5 x76 h75)
theorem w_X2_fitting_93 (K17 : Option Nat → Option Nat → Option Nat → zH → zO) (hK17 : ∀ (a1 : Option Nat) (a2 : Option Nat) (a3 : Option Nat) (h : zH), zS D z yX2_fitting cX2_fitting 7 (some (.array (.boolean))) [] 12 h 17 [(1, va_rf a1), (2, va_rf a2), (3, va_rf a3)] [] (K17 a1 a2 a3 h)) (K43 : Option Nat → Option Nat → Option Nat → Option Nat → Int32 → zH → zO) (hK43 : ∀ (a1 : Option Nat) (a2 : Option Nat) (a3 : Option Nat) (a4 : Option Nat) (a5 : Int32) (h : zH), zS D z yX2_fitting cX2_fitting 7 (some (.array (.boolean))) [] 12 h 43 [(1, va_rf a1), (2, va_rf a2), (3, va_rf a3), (4, va_rf a4), (5, .int a5)] [] (K43 a1 a2 a3 a4 a5 h)) (K52 : Option Nat → Option Nat → Option Nat → Option Nat → Int32 → Int32 → zH → zO) (hK52 : ∀ (a1 : Option Nat) (a2 : Option Nat) (a3 : Option Nat) (a4 : Option Nat) (a5 : Int32) (a6 : Int32) (h : zH), zS D z yX2_fitting cX2_fitting 7 (some (.array (.boolean))) [] 12 h 52 [(1, va_rf a1), (2, va_rf a2), (3, va_rf a3), (4, va_rf a4), (5, .int a5), (6, .int a6)] [] (K52 a1 a2 a3 a4 a5 a6 h)) (a1 : Option Nat) (a2 : Option Nat) (a3 : Option Nat) (a4 : Option Nat) (a5 : Int32) (a6 : Int32) (s0 : Int32) (s1 : Option Nat) (h : zH) : zS D z yX2_fitting cX2_fitting 7 (some (.array (.boolean))) [] 12 h 93 [(1, va_rf a1), (2, va_rf a2), (3, va_rf a3), (4, va_rf a4), (5, .int a5), (6, .int a6)] [.int s0, va_rf s1] (f_X2_fitting_93 K17 K43 K52 a1 a2 a3 a4 a5 a6 s0 s1 h) := by
  unfold f_X2_fitting_93
  refine s_iconst (pc := 93) (v := 0) dX2_fitting_93 (by decide) ?_
  exact s_sub (pc := 94) [0, 1, 2, 3, 4, 5] rfl (w_X2_fitting_94 K17 hK17 K43 hK43 K52 hK52 a1 a2 a3 a4 a5 a6 0 s0 s1 h)
theorem w_X2_fitting_107 (K17 : Option Nat → Option Nat → Option Nat → zH → zO) (hK17 : ∀ (a1 : Option Nat) (a2 : Option Nat) (a3 : Option Nat) (h : zH), zS D z yX2_fitting cX2_fitting 7 (some (.array (.boolean))) [] 12 h 17 [(1, va_rf a1), (2, va_rf a2), (3, va_rf a3)] [] (K17 a1 a2 a3 h)) (K43 : Option Nat → Option Nat → Option Nat → Option Nat → Int32 → zH → zO) (hK43 : ∀ (a1 : Option Nat) (a2 : Option Nat) (a3 : Option Nat) (a4 : Option Nat) (a5 : Int32) (h : zH), zS D z yX2_fitting cX2_fitting 7 (some (.array (.boolean))) [] 12 h 43 [(1, va_rf a1), (2, va_rf a2), (3, va_rf a3), (4, va_rf a4), (5, .int a5)] [] (K43 a1 a2 a3 a4 a5 h)) (a1 : Option Nat) (a2 : Option Nat) (a3 : Option Nat) (a4 : Option Nat) (a5 : Int32) (h : zH) : zS D z yX2_fitting cX2_fitting 7 (some (.array (.boolean))) [] 12 h 107 [(1, va_rf a1), (2, va_rf a2), (3, va_rf a3), (4, va_rf a4), (5, .int a5)] [] (f_X2_fitting_107 K17 K43 a1 a2 a3 a4 a5 h) := by
  unfold f_X2_fitting_107
  refine s_inc (pc := 107) (v := -1) (L2 := [(1, va_rf a1), (2, va_rf a2), (3, va_rf a3), (4, va_rf a4)]) 4 [0, 1, 2, 3] dX2_fitting_107 rfl (by decide) (by decide) rfl rfl (zcB (j := 3) rfl (zcat_rf a4) rfl) (fun x77 => ?_)
  refine s_goto (pc := 110) (tgt := 43) dX2_fitting_110 (by decide) ?_
  exact s_sub (pc := 43) [1, 2, 3, 4, 0] rfl (hK43 a1 a2 a3 a4 x77 h)
theorem w_X2_fitting_52 (K17 : Option Nat → Option Nat → Option Nat → zH → zO) (hK17 : ∀ (a1 : Option Nat) (a2 : Option Nat) (a3 : Option Nat) (h : zH), zS D z yX2_fitting cX2_fitting 7 (some (.array (.boolean))) [] 12 h 17 [(1, va_rf a1), (2, va_rf a2), (3, va_rf a3)] [] (K17 a1 a2 a3 h)) (K43 : Option Nat → Option Nat → Option Nat → Option Nat → Int32 → zH → zO) (hK43 : ∀ (a1 : Option Nat) (a2 : Option Nat) (a3 : Option Nat) (a4 : Option Nat) (a5 : Int32) (h : zH), zS D z yX2_fitting cX2_fitting 7 (some (.array (.boolean))) [] 12 h 43 [(1, va_rf a1), (2, va_rf a2), (3, va_rf a3), (4, va_rf a4), (5, .int a5)] [] (K43 a1 a2 a3 a4 a5 h)) : ∀ (n : Nat) (a1 : Option Nat) (a2 : Option Nat) (a3 : Option Nat) (a4 : Option Nat) (a5 : Int32) (a6 : Int32) (h : zH), zS D z yX2_fitting cX2_fitting 7 (some (.array (.boolean))) [] 12 h 52 [(1, va_rf a1), (2, va_rf a2), (3, va_rf a3), (4, va_rf a4), (5, .int a5), (6, .int a6)] [] (f_X2_fitting_52 K17 K43 n a1 a2 a3 a4 a5 a6 h) := by
  intro n
  induction n with
  | zero => intros; exact zS_none
  | succ n ih =>
    intro a1 a2 a3 a4 a5 a6 h
    rw [f_X2_fitting_52.eq_2]
    refine s_iload (pc := 52) 5 dX2_fitting_52 rfl ?_
    refine s_if_le (pc := 54) (tgt := 107) dX2_fitting_54 (by decide) (fun _ => ?_) (fun _ => ?_)
    · exact s_sub (pc := 107) [0, 1, 2, 3, 4] rfl (w_X2_fitting_107 K17 hK17 K43 hK43 a1 a2 a3 a4 a5 h)
    · refine s_aload_n (pc := 57) 1 dX2_fitting_57 rfl rfl ?_
      refine s_iload (pc := 58) 4 dX2_fitting_58 rfl ?_
      refine s_zald (pc := 60) dX2_fitting_60 (ztc rfl zt0) (fun x71 => ?_)
      refine s_if_ne (pc := 61) (tgt := 107) dX2_fitting_61 (by decide) (fun _ => ?_) (fun _ => ?_)
      · exact s_sub (pc := 107) [0, 1, 2, 3, 4] rfl (w_X2_fitting_107 K17 hK17 K43 hK43 a1 a2 a3 a4 a5 h)
      · refine s_aload_n (pc := 64) 1 dX2_fitting_64 rfl rfl ?_
        refine s_iload (pc := 65) 4 dX2_fitting_65 rfl ?_
        refine s_aload_n (pc := 67) 0 dX2_fitting_67 rfl rfl ?_
        refine s_iload (pc := 68) 5 dX2_fitting_68 rfl ?_
        refine s_iald (pc := 70) dX2_fitting_70 (ztc rfl zt0) (fun x72 => ?_)
        refine s_aload (pc := 71) 3 dX2_fitting_71 rfl ?_
        refine s_gI (pc := 73) dX2_fitting_73 gf_X2_313 (fun x73 => ?_)
        refine s_icmp_gt (pc := 76) (tgt := 93) dX2_fitting_76 (by decide) (fun _ => ?_) (fun _ => ?_)
        · exact s_sub (pc := 93) [0, 1, 2, 3, 4, 5] rfl (w_X2_fitting_93 K17 hK17 K43 hK43 (f_X2_fitting_52 K17 K43 n) ih a1 a2 a3 a4 a5 a6 a5 a2 h)
        · refine s_aload_n (pc := 79) 1 dX2_fitting_79 rfl rfl ?_
          refine s_iload (pc := 80) 4 dX2_fitting_80 rfl ?_
          refine s_iload (pc := 82) 5 dX2_fitting_82 rfl ?_
          refine s_ixor (pc := 84) dX2_fitting_84 ?_
          refine s_zald (pc := 85) dX2_fitting_85 (ztc rfl zt0) (fun x74 => ?_)
          refine s_if_eq (pc := 86) (tgt := 93) dX2_fitting_86 (by decide) (fun _ => ?_) (fun _ => ?_)
          · exact s_sub (pc := 93) [0, 1, 2, 3, 4, 5] rfl (w_X2_fitting_93 K17 hK17 K43 hK43 (f_X2_fitting_52 K17 K43 n) ih a1 a2 a3 a4 a5 a6 a5 a2 h)
          · refine s_iconst (pc := 89) (v := 1) dX2_fitting_89 (by decide) ?_
            refine s_goto (pc := 90) (tgt := 94) dX2_fitting_90 (by decide) ?_
            exact s_sub (pc := 94) [0, 1, 2, 3, 4, 5] rfl (w_X2_fitting_94 K17 hK17 K43 hK43 (f_X2_fitting_52 K17 K43 n) ih a1 a2 a3 a4 a5 a6 1 a5 a2 h)
theorem w_X2_fitting_113 (K17 : Option Nat → Option Nat → Option Nat → zH → zO) (hK17 : ∀ (a1 : Option Nat) (a2 : Option Nat) (a3 : Option Nat) (h : zH), zS D z yX2_fitting cX2_fitting 7 (some (.array (.boolean))) [] 12 h 17 [(1, va_rf a1), (2, va_rf a2), (3, va_rf a3)] [] (K17 a1 a2 a3 h)) (a1 : Option Nat) (a2 : Option Nat) (a3 : Option Nat) (h : zH) : zS D z yX2_fitting cX2_fitting 7 (some (.array (.boolean))) [] 12 h 113 [(1, va_rf a1), (2, va_rf a2), (3, va_rf a3)] [] (f_X2_fitting_113 K17 a1 a2 a3 h) := by
  unfold f_X2_fitting_113
  refine s_goto (pc := 113) (tgt := 17) dX2_fitting_113 (by decide) ?_
  exact s_sub (pc := 17) [0, 1, 2] rfl (hK17 a1 a2 a3 h)
theorem w_X2_fitting_43 (K17 : Option Nat → Option Nat → Option Nat → zH → zO) (hK17 : ∀ (a1 : Option Nat) (a2 : Option Nat) (a3 : Option Nat) (h : zH), zS D z yX2_fitting cX2_fitting 7 (some (.array (.boolean))) [] 12 h 17 [(1, va_rf a1), (2, va_rf a2), (3, va_rf a3)] [] (K17 a1 a2 a3 h)) : ∀ (n : Nat) (a1 : Option Nat) (a2 : Option Nat) (a3 : Option Nat) (a4 : Option Nat) (a5 : Int32) (h : zH), zS D z yX2_fitting cX2_fitting 7 (some (.array (.boolean))) [] 12 h 43 [(1, va_rf a1), (2, va_rf a2), (3, va_rf a3), (4, va_rf a4), (5, .int a5)] [] (f_X2_fitting_43 K17 n a1 a2 a3 a4 a5 h) := by
  intro n
  induction n with
  | zero => intros; exact zS_none
  | succ n ih =>
    intro a1 a2 a3 a4 a5 h
    rw [f_X2_fitting_43.eq_2]
    refine s_iload (pc := 43) 4 dX2_fitting_43 rfl ?_
    refine s_if_le (pc := 45) (tgt := 113) dX2_fitting_45 (by decide) (fun _ => ?_) (fun _ => ?_)
    · exact s_sub (pc := 113) [0, 1, 2] rfl (w_X2_fitting_113 K17 hK17 a1 a2 a3 h)
    · refine s_iload (pc := 48) 4 dX2_fitting_48 rfl ?_
      refine s_ist (pc := 50) (L2 := [(1, va_rf a1), (2, va_rf a2), (3, va_rf a3), (4, va_rf a4), (5, .int a5)]) [0, 1, 2, 3, 4] dX2_fitting_50 (by decide) rfl rfl (zcB (j := 4) rfl rfl rfl) ?_
      exact s_sub (pc := 52) [1, 2, 3, 4, 5, 0] rfl (w_X2_fitting_52 K17 hK17 (f_X2_fitting_43 K17 n) ih zfuel a1 a2 a3 a4 a5 a5 h)
theorem w_X2_fitting_17 : ∀ (n : Nat) (a1 : Option Nat) (a2 : Option Nat) (a3 : Option Nat) (h : zH), zS D z yX2_fitting cX2_fitting 7 (some (.array (.boolean))) [] 12 h 17 [(1, va_rf a1), (2, va_rf a2), (3, va_rf a3)] [] (f_X2_fitting_17 n a1 a2 a3 h) := by
  intro n
  induction n with
  | zero => intros; exact zS_none
  | succ n ih =>
    intro a1 a2 a3 h
    rw [f_X2_fitting_17.eq_2]
    refine s_aload_n (pc := 17) 2 dX2_fitting_17 rfl rfl ?_
    refine zS_ite (fun ht => ?_) (fun _ => ?_)
    · refine s_callF (pc := 18) (np := 0) (as := []) (rest := []) dX2_fitting_18 ht (q := (RX9, TX9, 2)) rfl (c_X9_hasNext (by decide) a3 h) ⟨_, _, _, q637⟩ rfl rfl q629 (by decide +kernel) q635 q633 rfl (by decide) (zkI (fun x9 h10 => ?_)) zxo
      refine s_if_eq (pc := 23) (tgt := 116) dX2_fitting_23 (by decide) (fun _ => ?_) (fun _ => ?_)
      · refine s_aload_n (pc := 116) 1 dX2_fitting_116 rfl rfl ?_
        exact s_aret (pc := 117) dX2_fitting_117 rfl (Or.inr ⟨_, rfl⟩)
      · refine s_aload_n (pc := 26) 2 dX2_fitting_26 rfl rfl ?_
        refine zS_ite (fun ht => ?_) (fun _ => ?_)
        · refine s_callF (pc := 27) (np := 0) (as := []) (rest := []) dX2_fitting_27 ht (q := (RX9, TX9, 2)) rfl (c_X9_next (by decide) a3 h10) ⟨_, _, _, q677⟩ rfl rfl q670 (by decide +kernel) q675 q673 rfl (by decide) (zkR (fun r11 h12 => ?_)) zxo
          refine s_cast (pc := 32) dX2_fitting_32 q1287 zcs_FloatingDock_Stretch ?_
          refine s_ast (pc := 35) (L2 := [(1, va_rf a1), (2, va_rf a2), (3, va_rf a3)]) [0, 1, 2] dX2_fitting_35 (by decide) rfl rfl (zcB (j := 2) rfl (zcat_rf a3) rfl) ?_
          refine s_aload_n (pc := 37) 1 dX2_fitting_37 rfl rfl ?_
          refine s_alen (pc := 38) dX2_fitting_38 zarrs_ok (fun x13 => ?_)
          refine s_iconst (pc := 39) (v := 1) dX2_fitting_39 (by decide) ?_
          refine s_isub (pc := 40) dX2_fitting_40 ?_
          refine s_nm (pc := 41) Value.int (fun x14 => ?_)
          refine s_ist (pc := 41) (L2 := [(4, va_rf r11), (1, va_rf a1), (2, va_rf a2), (3, va_rf a3)]) [0, 1, 2, 3] dX2_fitting_41 (by decide) rfl rfl (zcB (j := 0) rfl (zcat_rf r11) rfl) ?_
          exact s_sub (pc := 43) [2, 3, 4, 1, 0] rfl (w_X2_fitting_43 (f_X2_fitting_17 n) ih zfuel a1 a2 a3 r11 x14 h12)
        refine zS_ite (fun ht => ?_) (fun _ => ?_)
        · refine s_callF (pc := 27) (np := 0) (as := []) (rest := []) dX2_fitting_27 ht (q := (RJ15, TJ15, 4)) rfl (c_J15_next (by decide) a3 h10) ⟨_, _, _, q788⟩ rfl rfl q670 (by decide +kernel) q786 q784 rfl (by decide) (zkR (fun r11 h12 => ?_)) zxo
          refine s_cast (pc := 32) dX2_fitting_32 q1287 zcs_FloatingDock_Stretch ?_
          refine s_ast (pc := 35) (L2 := [(1, va_rf a1), (2, va_rf a2), (3, va_rf a3)]) [0, 1, 2] dX2_fitting_35 (by decide) rfl rfl (zcB (j := 2) rfl (zcat_rf a3) rfl) ?_
          refine s_aload_n (pc := 37) 1 dX2_fitting_37 rfl rfl ?_
          refine s_alen (pc := 38) dX2_fitting_38 zarrs_ok (fun x15 => ?_)
          refine s_iconst (pc := 39) (v := 1) dX2_fitting_39 (by decide) ?_
          refine s_isub (pc := 40) dX2_fitting_40 ?_
          refine s_nm (pc := 41) Value.int (fun x16 => ?_)
          refine s_ist (pc := 41) (L2 := [(4, va_rf r11), (1, va_rf a1), (2, va_rf a2), (3, va_rf a3)]) [0, 1, 2, 3] dX2_fitting_41 (by decide) rfl rfl (zcB (j := 0) rfl (zcat_rf r11) rfl) ?_
          exact s_sub (pc := 43) [2, 3, 4, 1, 0] rfl (w_X2_fitting_43 (f_X2_fitting_17 n) ih zfuel a1 a2 a3 r11 x16 h12)
        refine zS_ite (fun ht => ?_) (fun _ => ?_)
        · refine s_callF (pc := 27) (np := 0) (as := []) (rest := []) dX2_fitting_27 ht (q := (RJ17, TJ17, 5)) rfl (c_J17_next (by decide) a3 h10) ⟨_, _, _, q799⟩ rfl rfl q670 (by decide +kernel) q797 q795 rfl (by decide) (zkR (fun r11 h12 => ?_)) zxo
          refine s_cast (pc := 32) dX2_fitting_32 q1287 zcs_FloatingDock_Stretch ?_
          refine s_ast (pc := 35) (L2 := [(1, va_rf a1), (2, va_rf a2), (3, va_rf a3)]) [0, 1, 2] dX2_fitting_35 (by decide) rfl rfl (zcB (j := 2) rfl (zcat_rf a3) rfl) ?_
          refine s_aload_n (pc := 37) 1 dX2_fitting_37 rfl rfl ?_
          refine s_alen (pc := 38) dX2_fitting_38 zarrs_ok (fun x17 => ?_)
          refine s_iconst (pc := 39) (v := 1) dX2_fitting_39 (by decide) ?_
          refine s_isub (pc := 40) dX2_fitting_40 ?_
          refine s_nm (pc := 41) Value.int (fun x18 => ?_)
          refine s_ist (pc := 41) (L2 := [(4, va_rf r11), (1, va_rf a1), (2, va_rf a2), (3, va_rf a3)]) [0, 1, 2, 3] dX2_fitting_41 (by decide) rfl rfl (zcB (j := 0) rfl (zcat_rf r11) rfl) ?_
          exact s_sub (pc := 43) [2, 3, 4, 1, 0] rfl (w_X2_fitting_43 (f_X2_fitting_17 n) ih zfuel a1 a2 a3 r11 x18 h12)
        refine zS_ite (fun ht => ?_) (fun _ => ?_)
        · refine s_callF (pc := 27) (np := 0) (as := []) (rest := []) dX2_fitting_27 ht (q := (RJ21, TJ21, 5)) rfl (c_J21_next (by decide) a3 h10) ⟨_, _, _, q812⟩ rfl rfl q670 (by decide +kernel) q810 q808 rfl (by decide) (zkR (fun r11 h12 => ?_)) zxo
          refine s_cast (pc := 32) dX2_fitting_32 q1287 zcs_FloatingDock_Stretch ?_
          refine s_ast (pc := 35) (L2 := [(1, va_rf a1), (2, va_rf a2), (3, va_rf a3)]) [0, 1, 2] dX2_fitting_35 (by decide) rfl rfl (zcB (j := 2) rfl (zcat_rf a3) rfl) ?_
          refine s_aload_n (pc := 37) 1 dX2_fitting_37 rfl rfl ?_
          refine s_alen (pc := 38) dX2_fitting_38 zarrs_ok (fun x19 => ?_)
          refine s_iconst (pc := 39) (v := 1) dX2_fitting_39 (by decide) ?_
          refine s_isub (pc := 40) dX2_fitting_40 ?_
          refine s_nm (pc := 41) Value.int (fun x20 => ?_)
          refine s_ist (pc := 41) (L2 := [(4, va_rf r11), (1, va_rf a1), (2, va_rf a2), (3, va_rf a3)]) [0, 1, 2, 3] dX2_fitting_41 (by decide) rfl rfl (zcB (j := 0) rfl (zcat_rf r11) rfl) ?_
          exact s_sub (pc := 43) [2, 3, 4, 1, 0] rfl (w_X2_fitting_43 (f_X2_fitting_17 n) ih zfuel a1 a2 a3 r11 x20 h12)
        refine zS_ite (fun ht => ?_) (fun _ => zS_none)
        refine s_callF (pc := 27) (np := 0) (as := []) (rest := []) dX2_fitting_27 ht (q := (RJ22, TJ22, 5)) rfl (c_J22_next (by decide) a3 h10) ⟨_, _, _, q832⟩ rfl rfl q670 (by decide +kernel) q830 q828 rfl (by decide) (zkR (fun r11 h12 => ?_)) zxo
        refine s_cast (pc := 32) dX2_fitting_32 q1287 zcs_FloatingDock_Stretch ?_
        refine s_ast (pc := 35) (L2 := [(1, va_rf a1), (2, va_rf a2), (3, va_rf a3)]) [0, 1, 2] dX2_fitting_35 (by decide) rfl rfl (zcB (j := 2) rfl (zcat_rf a3) rfl) ?_
        refine s_aload_n (pc := 37) 1 dX2_fitting_37 rfl rfl ?_
        refine s_alen (pc := 38) dX2_fitting_38 zarrs_ok (fun x21 => ?_)
        refine s_iconst (pc := 39) (v := 1) dX2_fitting_39 (by decide) ?_
        refine s_isub (pc := 40) dX2_fitting_40 ?_
        refine s_nm (pc := 41) Value.int (fun x22 => ?_)
        refine s_ist (pc := 41) (L2 := [(4, va_rf r11), (1, va_rf a1), (2, va_rf a2), (3, va_rf a3)]) [0, 1, 2, 3] dX2_fitting_41 (by decide) rfl rfl (zcB (j := 0) rfl (zcat_rf r11) rfl) ?_
        exact s_sub (pc := 43) [2, 3, 4, 1, 0] rfl (w_X2_fitting_43 (f_X2_fitting_17 n) ih zfuel a1 a2 a3 r11 x22 h12)
    refine zS_ite (fun ht => ?_) (fun _ => ?_)
    · refine s_callF (pc := 18) (np := 0) (as := []) (rest := []) dX2_fitting_18 ht (q := (RJ15, TJ15, 4)) rfl (c_J15_hasNext (by decide) a3 h) ⟨_, _, _, q653⟩ rfl rfl q629 (by decide +kernel) q651 q649 rfl (by decide) (zkI (fun x9 h10 => ?_)) zxo
      refine s_if_eq (pc := 23) (tgt := 116) dX2_fitting_23 (by decide) (fun _ => ?_) (fun _ => ?_)
      · refine s_aload_n (pc := 116) 1 dX2_fitting_116 rfl rfl ?_
        exact s_aret (pc := 117) dX2_fitting_117 rfl (Or.inr ⟨_, rfl⟩)
      · refine s_aload_n (pc := 26) 2 dX2_fitting_26 rfl rfl ?_
        refine zS_ite (fun ht => ?_) (fun _ => ?_)
        · refine s_callF (pc := 27) (np := 0) (as := []) (rest := []) dX2_fitting_27 ht (q := (RX9, TX9, 2)) rfl (c_X9_next (by decide) a3 h10) ⟨_, _, _, q677⟩ rfl rfl q670 (by decide +kernel) q675 q673 rfl (by decide) (zkR (fun r23 h24 => ?_)) zxo
          refine s_cast (pc := 32) dX2_fitting_32 q1287 zcs_FloatingDock_Stretch ?_
          refine s_ast (pc := 35) (L2 := [(1, va_rf a1), (2, va_rf a2), (3, va_rf a3)]) [0, 1, 2] dX2_fitting_35 (by decide) rfl rfl (zcB (j := 2) rfl (zcat_rf a3) rfl) ?_
          refine s_aload_n (pc := 37) 1 dX2_fitting_37 rfl rfl ?_
          refine s_alen (pc := 38) dX2_fitting_38 zarrs_ok (fun x25 => ?_)
          refine s_iconst (pc := 39) (v := 1) dX2_fitting_39 (by decide) ?_
          refine s_isub (pc := 40) dX2_fitting_40 ?_
          refine s_nm (pc := 41) Value.int (fun x26 => ?_)
          refine s_ist (pc := 41) (L2 := [(4, va_rf r23), (1, va_rf a1), (2, va_rf a2), (3, va_rf a3)]) [0, 1, 2, 3] dX2_fitting_41 (by decide) rfl rfl (zcB (j := 0) rfl (zcat_rf r23) rfl) ?_
          exact s_sub (pc := 43) [2, 3, 4, 1, 0] rfl (w_X2_fitting_43 (f_X2_fitting_17 n) ih zfuel a1 a2 a3 r23 x26 h24)
        refine zS_ite (fun ht => ?_) (fun _ => ?_)
        · refine s_callF (pc := 27) (np := 0) (as := []) (rest := []) dX2_fitting_27 ht (q := (RJ15, TJ15, 4)) rfl (c_J15_next (by decide) a3 h10) ⟨_, _, _, q788⟩ rfl rfl q670 (by decide +kernel) q786 q784 rfl (by decide) (zkR (fun r23 h24 => ?_)) zxo
          refine s_cast (pc := 32) dX2_fitting_32 q1287 zcs_FloatingDock_Stretch ?_
          refine s_ast (pc := 35) (L2 := [(1, va_rf a1), (2, va_rf a2), (3, va_rf a3)]) [0, 1, 2] dX2_fitting_35 (by decide) rfl rfl (zcB (j := 2) rfl (zcat_rf a3) rfl) ?_
          refine s_aload_n (pc := 37) 1 dX2_fitting_37 rfl rfl ?_
          refine s_alen (pc := 38) dX2_fitting_38 zarrs_ok (fun x27 => ?_)
          refine s_iconst (pc := 39) (v := 1) dX2_fitting_39 (by decide) ?_
          refine s_isub (pc := 40) dX2_fitting_40 ?_
          refine s_nm (pc := 41) Value.int (fun x28 => ?_)
          refine s_ist (pc := 41) (L2 := [(4, va_rf r23), (1, va_rf a1), (2, va_rf a2), (3, va_rf a3)]) [0, 1, 2, 3] dX2_fitting_41 (by decide) rfl rfl (zcB (j := 0) rfl (zcat_rf r23) rfl) ?_
          exact s_sub (pc := 43) [2, 3, 4, 1, 0] rfl (w_X2_fitting_43 (f_X2_fitting_17 n) ih zfuel a1 a2 a3 r23 x28 h24)
        refine zS_ite (fun ht => ?_) (fun _ => ?_)
        · refine s_callF (pc := 27) (np := 0) (as := []) (rest := []) dX2_fitting_27 ht (q := (RJ17, TJ17, 5)) rfl (c_J17_next (by decide) a3 h10) ⟨_, _, _, q799⟩ rfl rfl q670 (by decide +kernel) q797 q795 rfl (by decide) (zkR (fun r23 h24 => ?_)) zxo
          refine s_cast (pc := 32) dX2_fitting_32 q1287 zcs_FloatingDock_Stretch ?_
          refine s_ast (pc := 35) (L2 := [(1, va_rf a1), (2, va_rf a2), (3, va_rf a3)]) [0, 1, 2] dX2_fitting_35 (by decide) rfl rfl (zcB (j := 2) rfl (zcat_rf a3) rfl) ?_
          refine s_aload_n (pc := 37) 1 dX2_fitting_37 rfl rfl ?_
          refine s_alen (pc := 38) dX2_fitting_38 zarrs_ok (fun x29 => ?_)
          refine s_iconst (pc := 39) (v := 1) dX2_fitting_39 (by decide) ?_
          refine s_isub (pc := 40) dX2_fitting_40 ?_
          refine s_nm (pc := 41) Value.int (fun x30 => ?_)
          refine s_ist (pc := 41) (L2 := [(4, va_rf r23), (1, va_rf a1), (2, va_rf a2), (3, va_rf a3)]) [0, 1, 2, 3] dX2_fitting_41 (by decide) rfl rfl (zcB (j := 0) rfl (zcat_rf r23) rfl) ?_
          exact s_sub (pc := 43) [2, 3, 4, 1, 0] rfl (w_X2_fitting_43 (f_X2_fitting_17 n) ih zfuel a1 a2 a3 r23 x30 h24)
        refine zS_ite (fun ht => ?_) (fun _ => ?_)
        · refine s_callF (pc := 27) (np := 0) (as := []) (rest := []) dX2_fitting_27 ht (q := (RJ21, TJ21, 5)) rfl (c_J21_next (by decide) a3 h10) ⟨_, _, _, q812⟩ rfl rfl q670 (by decide +kernel) q810 q808 rfl (by decide) (zkR (fun r23 h24 => ?_)) zxo
          refine s_cast (pc := 32) dX2_fitting_32 q1287 zcs_FloatingDock_Stretch ?_
          refine s_ast (pc := 35) (L2 := [(1, va_rf a1), (2, va_rf a2), (3, va_rf a3)]) [0, 1, 2] dX2_fitting_35 (by decide) rfl rfl (zcB (j := 2) rfl (zcat_rf a3) rfl) ?_
          refine s_aload_n (pc := 37) 1 dX2_fitting_37 rfl rfl ?_
          refine s_alen (pc := 38) dX2_fitting_38 zarrs_ok (fun x31 => ?_)
          refine s_iconst (pc := 39) (v := 1) dX2_fitting_39 (by decide) ?_
          refine s_isub (pc := 40) dX2_fitting_40 ?_
          refine s_nm (pc := 41) Value.int (fun x32 => ?_)
          refine s_ist (pc := 41) (L2 := [(4, va_rf r23), (1, va_rf a1), (2, va_rf a2), (3, va_rf a3)]) [0, 1, 2, 3] dX2_fitting_41 (by decide) rfl rfl (zcB (j := 0) rfl (zcat_rf r23) rfl) ?_
          exact s_sub (pc := 43) [2, 3, 4, 1, 0] rfl (w_X2_fitting_43 (f_X2_fitting_17 n) ih zfuel a1 a2 a3 r23 x32 h24)
        refine zS_ite (fun ht => ?_) (fun _ => zS_none)
        refine s_callF (pc := 27) (np := 0) (as := []) (rest := []) dX2_fitting_27 ht (q := (RJ22, TJ22, 5)) rfl (c_J22_next (by decide) a3 h10) ⟨_, _, _, q832⟩ rfl rfl q670 (by decide +kernel) q830 q828 rfl (by decide) (zkR (fun r23 h24 => ?_)) zxo
        refine s_cast (pc := 32) dX2_fitting_32 q1287 zcs_FloatingDock_Stretch ?_
        refine s_ast (pc := 35) (L2 := [(1, va_rf a1), (2, va_rf a2), (3, va_rf a3)]) [0, 1, 2] dX2_fitting_35 (by decide) rfl rfl (zcB (j := 2) rfl (zcat_rf a3) rfl) ?_
        refine s_aload_n (pc := 37) 1 dX2_fitting_37 rfl rfl ?_
        refine s_alen (pc := 38) dX2_fitting_38 zarrs_ok (fun x33 => ?_)
        refine s_iconst (pc := 39) (v := 1) dX2_fitting_39 (by decide) ?_
        refine s_isub (pc := 40) dX2_fitting_40 ?_
        refine s_nm (pc := 41) Value.int (fun x34 => ?_)
        refine s_ist (pc := 41) (L2 := [(4, va_rf r23), (1, va_rf a1), (2, va_rf a2), (3, va_rf a3)]) [0, 1, 2, 3] dX2_fitting_41 (by decide) rfl rfl (zcB (j := 0) rfl (zcat_rf r23) rfl) ?_
        exact s_sub (pc := 43) [2, 3, 4, 1, 0] rfl (w_X2_fitting_43 (f_X2_fitting_17 n) ih zfuel a1 a2 a3 r23 x34 h24)
    refine zS_ite (fun ht => ?_) (fun _ => ?_)
    · refine s_callF (pc := 18) (np := 0) (as := []) (rest := []) dX2_fitting_18 ht (q := (RJ17, TJ17, 5)) rfl (c_J16_hasNext (by decide) a3 h) ⟨_, _, _, q659⟩ rfl rfl q629 (by decide +kernel) q657 q655 rfl (by decide) (zkI (fun x9 h10 => ?_)) zxo
      refine s_if_eq (pc := 23) (tgt := 116) dX2_fitting_23 (by decide) (fun _ => ?_) (fun _ => ?_)
      · refine s_aload_n (pc := 116) 1 dX2_fitting_116 rfl rfl ?_
        exact s_aret (pc := 117) dX2_fitting_117 rfl (Or.inr ⟨_, rfl⟩)
      · refine s_aload_n (pc := 26) 2 dX2_fitting_26 rfl rfl ?_
        refine zS_ite (fun ht => ?_) (fun _ => ?_)
        · refine s_callF (pc := 27) (np := 0) (as := []) (rest := []) dX2_fitting_27 ht (q := (RX9, TX9, 2)) rfl (c_X9_next (by decide) a3 h10) ⟨_, _, _, q677⟩ rfl rfl q670 (by decide +kernel) q675 q673 rfl (by decide) (zkR (fun r35 h36 => ?_)) zxo
          refine s_cast (pc := 32) dX2_fitting_32 q1287 zcs_FloatingDock_Stretch ?_
          refine s_ast (pc := 35) (L2 := [(1, va_rf a1), (2, va_rf a2), (3, va_rf a3)]) [0, 1, 2] dX2_fitting_35 (by decide) rfl rfl (zcB (j := 2) rfl (zcat_rf a3) rfl) ?_
          refine s_aload_n (pc := 37) 1 dX2_fitting_37 rfl rfl ?_
          refine s_alen (pc := 38) dX2_fitting_38 zarrs_ok (fun x37 => ?_)
          refine s_iconst (pc := 39) (v := 1) dX2_fitting_39 (by decide) ?_
          refine s_isub (pc := 40) dX2_fitting_40 ?_
          refine s_nm (pc := 41) Value.int (fun x38 => ?_)
          refine s_ist (pc := 41) (L2 := [(4, va_rf r35), (1, va_rf a1), (2, va_rf a2), (3, va_rf a3)]) [0, 1, 2, 3] dX2_fitting_41 (by decide) rfl rfl (zcB (j := 0) rfl (zcat_rf r35) rfl) ?_
          exact s_sub (pc := 43) [2, 3, 4, 1, 0] rfl (w_X2_fitting_43 (f_X2_fitting_17 n) ih zfuel a1 a2 a3 r35 x38 h36)
        refine zS_ite (fun ht => ?_) (fun _ => ?_)
        · refine s_callF (pc := 27) (np := 0) (as := []) (rest := []) dX2_fitting_27 ht (q := (RJ15, TJ15, 4)) rfl (c_J15_next (by decide) a3 h10) ⟨_, _, _, q788⟩ rfl rfl q670 (by decide +kernel) q786 q784 rfl (by decide) (zkR (fun r35 h36 => ?_)) zxo
          refine s_cast (pc := 32) dX2_fitting_32 q1287 zcs_FloatingDock_Stretch ?_
          refine s_ast (pc := 35) (L2 := [(1, va_rf a1), (2, va_rf a2), (3, va_rf a3)]) [0, 1, 2] dX2_fitting_35 (by decide) rfl rfl (zcB (j := 2) rfl (zcat_rf a3) rfl) ?_
          refine s_aload_n (pc := 37) 1 dX2_fitting_37 rfl rfl ?_
          refine s_alen (pc := 38) dX2_fitting_38 zarrs_ok (fun x39 => ?_)
          refine s_iconst (pc := 39) (v := 1) dX2_fitting_39 (by decide) ?_
          refine s_isub (pc := 40) dX2_fitting_40 ?_
          refine s_nm (pc := 41) Value.int (fun x40 => ?_)
          refine s_ist (pc := 41) (L2 := [(4, va_rf r35), (1, va_rf a1), (2, va_rf a2), (3, va_rf a3)]) [0, 1, 2, 3] dX2_fitting_41 (by decide) rfl rfl (zcB (j := 0) rfl (zcat_rf r35) rfl) ?_
          exact s_sub (pc := 43) [2, 3, 4, 1, 0] rfl (w_X2_fitting_43 (f_X2_fitting_17 n) ih zfuel a1 a2 a3 r35 x40 h36)
        refine zS_ite (fun ht => ?_) (fun _ => ?_)
        · refine s_callF (pc := 27) (np := 0) (as := []) (rest := []) dX2_fitting_27 ht (q := (RJ17, TJ17, 5)) rfl (c_J17_next (by decide) a3 h10) ⟨_, _, _, q799⟩ rfl rfl q670 (by decide +kernel) q797 q795 rfl (by decide) (zkR (fun r35 h36 => ?_)) zxo
          refine s_cast (pc := 32) dX2_fitting_32 q1287 zcs_FloatingDock_Stretch ?_
          refine s_ast (pc := 35) (L2 := [(1, va_rf a1), (2, va_rf a2), (3, va_rf a3)]) [0, 1, 2] dX2_fitting_35 (by decide) rfl rfl (zcB (j := 2) rfl (zcat_rf a3) rfl) ?_
          refine s_aload_n (pc := 37) 1 dX2_fitting_37 rfl rfl ?_
          refine s_alen (pc := 38) dX2_fitting_38 zarrs_ok (fun x41 => ?_)
          refine s_iconst (pc := 39) (v := 1) dX2_fitting_39 (by decide) ?_
          refine s_isub (pc := 40) dX2_fitting_40 ?_
          refine s_nm (pc := 41) Value.int (fun x42 => ?_)
          refine s_ist (pc := 41) (L2 := [(4, va_rf r35), (1, va_rf a1), (2, va_rf a2), (3, va_rf a3)]) [0, 1, 2, 3] dX2_fitting_41 (by decide) rfl rfl (zcB (j := 0) rfl (zcat_rf r35) rfl) ?_
          exact s_sub (pc := 43) [2, 3, 4, 1, 0] rfl (w_X2_fitting_43 (f_X2_fitting_17 n) ih zfuel a1 a2 a3 r35 x42 h36)
        refine zS_ite (fun ht => ?_) (fun _ => ?_)
        · refine s_callF (pc := 27) (np := 0) (as := []) (rest := []) dX2_fitting_27 ht (q := (RJ21, TJ21, 5)) rfl (c_J21_next (by decide) a3 h10) ⟨_, _, _, q812⟩ rfl rfl q670 (by decide +kernel) q810 q808 rfl (by decide) (zkR (fun r35 h36 => ?_)) zxo
          refine s_cast (pc := 32) dX2_fitting_32 q1287 zcs_FloatingDock_Stretch ?_
          refine s_ast (pc := 35) (L2 := [(1, va_rf a1), (2, va_rf a2), (3, va_rf a3)]) [0, 1, 2] dX2_fitting_35 (by decide) rfl rfl (zcB (j := 2) rfl (zcat_rf a3) rfl) ?_
          refine s_aload_n (pc := 37) 1 dX2_fitting_37 rfl rfl ?_
          refine s_alen (pc := 38) dX2_fitting_38 zarrs_ok (fun x43 => ?_)
          refine s_iconst (pc := 39) (v := 1) dX2_fitting_39 (by decide) ?_
          refine s_isub (pc := 40) dX2_fitting_40 ?_
          refine s_nm (pc := 41) Value.int (fun x44 => ?_)
          refine s_ist (pc := 41) (L2 := [(4, va_rf r35), (1, va_rf a1), (2, va_rf a2), (3, va_rf a3)]) [0, 1, 2, 3] dX2_fitting_41 (by decide) rfl rfl (zcB (j := 0) rfl (zcat_rf r35) rfl) ?_
          exact s_sub (pc := 43) [2, 3, 4, 1, 0] rfl (w_X2_fitting_43 (f_X2_fitting_17 n) ih zfuel a1 a2 a3 r35 x44 h36)
        refine zS_ite (fun ht => ?_) (fun _ => zS_none)
        refine s_callF (pc := 27) (np := 0) (as := []) (rest := []) dX2_fitting_27 ht (q := (RJ22, TJ22, 5)) rfl (c_J22_next (by decide) a3 h10) ⟨_, _, _, q832⟩ rfl rfl q670 (by decide +kernel) q830 q828 rfl (by decide) (zkR (fun r35 h36 => ?_)) zxo
        refine s_cast (pc := 32) dX2_fitting_32 q1287 zcs_FloatingDock_Stretch ?_
        refine s_ast (pc := 35) (L2 := [(1, va_rf a1), (2, va_rf a2), (3, va_rf a3)]) [0, 1, 2] dX2_fitting_35 (by decide) rfl rfl (zcB (j := 2) rfl (zcat_rf a3) rfl) ?_
        refine s_aload_n (pc := 37) 1 dX2_fitting_37 rfl rfl ?_
        refine s_alen (pc := 38) dX2_fitting_38 zarrs_ok (fun x45 => ?_)
        refine s_iconst (pc := 39) (v := 1) dX2_fitting_39 (by decide) ?_
        refine s_isub (pc := 40) dX2_fitting_40 ?_
        refine s_nm (pc := 41) Value.int (fun x46 => ?_)
        refine s_ist (pc := 41) (L2 := [(4, va_rf r35), (1, va_rf a1), (2, va_rf a2), (3, va_rf a3)]) [0, 1, 2, 3] dX2_fitting_41 (by decide) rfl rfl (zcB (j := 0) rfl (zcat_rf r35) rfl) ?_
        exact s_sub (pc := 43) [2, 3, 4, 1, 0] rfl (w_X2_fitting_43 (f_X2_fitting_17 n) ih zfuel a1 a2 a3 r35 x46 h36)
    refine zS_ite (fun ht => ?_) (fun _ => ?_)
    · refine s_callF (pc := 18) (np := 0) (as := []) (rest := []) dX2_fitting_18 ht (q := (RJ21, TJ21, 5)) rfl (c_J20_hasNext (by decide) a3 h) ⟨_, _, _, q665⟩ rfl rfl q629 (by decide +kernel) q663 q661 rfl (by decide) (zkI (fun x9 h10 => ?_)) zxo
      refine s_if_eq (pc := 23) (tgt := 116) dX2_fitting_23 (by decide) (fun _ => ?_) (fun _ => ?_)
      · refine s_aload_n (pc := 116) 1 dX2_fitting_116 rfl rfl ?_
        exact s_aret (pc := 117) dX2_fitting_117 rfl (Or.inr ⟨_, rfl⟩)
      · refine s_aload_n (pc := 26) 2 dX2_fitting_26 rfl rfl ?_
        refine zS_ite (fun ht => ?_) (fun _ => ?_)
        · refine s_callF (pc := 27) (np := 0) (as := []) (rest := []) dX2_fitting_27 ht (q := (RX9, TX9, 2)) rfl (c_X9_next (by decide) a3 h10) ⟨_, _, _, q677⟩ rfl rfl q670 (by decide +kernel) q675 q673 rfl (by decide) (zkR (fun r47 h48 => ?_)) zxo
          refine s_cast (pc := 32) dX2_fitting_32 q1287 zcs_FloatingDock_Stretch ?_
          refine s_ast (pc := 35) (L2 := [(1, va_rf a1), (2, va_rf a2), (3, va_rf a3)]) [0, 1, 2] dX2_fitting_35 (by decide) rfl rfl (zcB (j := 2) rfl (zcat_rf a3) rfl) ?_
          refine s_aload_n (pc := 37) 1 dX2_fitting_37 rfl rfl ?_
          refine s_alen (pc := 38) dX2_fitting_38 zarrs_ok (fun x49 => ?_)
          refine s_iconst (pc := 39) (v := 1) dX2_fitting_39 (by decide) ?_
          refine s_isub (pc := 40) dX2_fitting_40 ?_
          refine s_nm (pc := 41) Value.int (fun x50 => ?_)
          refine s_ist (pc := 41) (L2 := [(4, va_rf r47), (1, va_rf a1), (2, va_rf a2), (3, va_rf a3)]) [0, 1, 2, 3] dX2_fitting_41 (by decide) rfl rfl (zcB (j := 0) rfl (zcat_rf r47) rfl) ?_
          exact s_sub (pc := 43) [2, 3, 4, 1, 0] rfl (w_X2_fitting_43 (f_X2_fitting_17 n) ih zfuel a1 a2 a3 r47 x50 h48)
        refine zS_ite (fun ht => ?_) (fun _ => ?_)
        · refine s_callF (pc := 27) (np := 0) (as := []) (rest := []) dX2_fitting_27 ht (q := (RJ15, TJ15, 4)) rfl (c_J15_next (by decide) a3 h10) ⟨_, _, _, q788⟩ rfl rfl q670 (by decide +kernel) q786 q784 rfl (by decide) (zkR (fun r47 h48 => ?_)) zxo
          refine s_cast (pc := 32) dX2_fitting_32 q1287 zcs_FloatingDock_Stretch ?_
          refine s_ast (pc := 35) (L2 := [(1, va_rf a1), (2, va_rf a2), (3, va_rf a3)]) [0, 1, 2] dX2_fitting_35 (by decide) rfl rfl (zcB (j := 2) rfl (zcat_rf a3) rfl) ?_
          refine s_aload_n (pc := 37) 1 dX2_fitting_37 rfl rfl ?_
          refine s_alen (pc := 38) dX2_fitting_38 zarrs_ok (fun x51 => ?_)
          refine s_iconst (pc := 39) (v := 1) dX2_fitting_39 (by decide) ?_
          refine s_isub (pc := 40) dX2_fitting_40 ?_
          refine s_nm (pc := 41) Value.int (fun x52 => ?_)
          refine s_ist (pc := 41) (L2 := [(4, va_rf r47), (1, va_rf a1), (2, va_rf a2), (3, va_rf a3)]) [0, 1, 2, 3] dX2_fitting_41 (by decide) rfl rfl (zcB (j := 0) rfl (zcat_rf r47) rfl) ?_
          exact s_sub (pc := 43) [2, 3, 4, 1, 0] rfl (w_X2_fitting_43 (f_X2_fitting_17 n) ih zfuel a1 a2 a3 r47 x52 h48)
        refine zS_ite (fun ht => ?_) (fun _ => ?_)
        · refine s_callF (pc := 27) (np := 0) (as := []) (rest := []) dX2_fitting_27 ht (q := (RJ17, TJ17, 5)) rfl (c_J17_next (by decide) a3 h10) ⟨_, _, _, q799⟩ rfl rfl q670 (by decide +kernel) q797 q795 rfl (by decide) (zkR (fun r47 h48 => ?_)) zxo
          refine s_cast (pc := 32) dX2_fitting_32 q1287 zcs_FloatingDock_Stretch ?_
          refine s_ast (pc := 35) (L2 := [(1, va_rf a1), (2, va_rf a2), (3, va_rf a3)]) [0, 1, 2] dX2_fitting_35 (by decide) rfl rfl (zcB (j := 2) rfl (zcat_rf a3) rfl) ?_
          refine s_aload_n (pc := 37) 1 dX2_fitting_37 rfl rfl ?_
          refine s_alen (pc := 38) dX2_fitting_38 zarrs_ok (fun x53 => ?_)
          refine s_iconst (pc := 39) (v := 1) dX2_fitting_39 (by decide) ?_
          refine s_isub (pc := 40) dX2_fitting_40 ?_
          refine s_nm (pc := 41) Value.int (fun x54 => ?_)
          refine s_ist (pc := 41) (L2 := [(4, va_rf r47), (1, va_rf a1), (2, va_rf a2), (3, va_rf a3)]) [0, 1, 2, 3] dX2_fitting_41 (by decide) rfl rfl (zcB (j := 0) rfl (zcat_rf r47) rfl) ?_
          exact s_sub (pc := 43) [2, 3, 4, 1, 0] rfl (w_X2_fitting_43 (f_X2_fitting_17 n) ih zfuel a1 a2 a3 r47 x54 h48)
        refine zS_ite (fun ht => ?_) (fun _ => ?_)
        · refine s_callF (pc := 27) (np := 0) (as := []) (rest := []) dX2_fitting_27 ht (q := (RJ21, TJ21, 5)) rfl (c_J21_next (by decide) a3 h10) ⟨_, _, _, q812⟩ rfl rfl q670 (by decide +kernel) q810 q808 rfl (by decide) (zkR (fun r47 h48 => ?_)) zxo
          refine s_cast (pc := 32) dX2_fitting_32 q1287 zcs_FloatingDock_Stretch ?_
          refine s_ast (pc := 35) (L2 := [(1, va_rf a1), (2, va_rf a2), (3, va_rf a3)]) [0, 1, 2] dX2_fitting_35 (by decide) rfl rfl (zcB (j := 2) rfl (zcat_rf a3) rfl) ?_
          refine s_aload_n (pc := 37) 1 dX2_fitting_37 rfl rfl ?_
          refine s_alen (pc := 38) dX2_fitting_38 zarrs_ok (fun x55 => ?_)
          refine s_iconst (pc := 39) (v := 1) dX2_fitting_39 (by decide) ?_
          refine s_isub (pc := 40) dX2_fitting_40 ?_
          refine s_nm (pc := 41) Value.int (fun x56 => ?_)
          refine s_ist (pc := 41) (L2 := [(4, va_rf r47), (1, va_rf a1), (2, va_rf a2), (3, va_rf a3)]) [0, 1, 2, 3] dX2_fitting_41 (by decide) rfl rfl (zcB (j := 0) rfl (zcat_rf r47) rfl) ?_
          exact s_sub (pc := 43) [2, 3, 4, 1, 0] rfl (w_X2_fitting_43 (f_X2_fitting_17 n) ih zfuel a1 a2 a3 r47 x56 h48)
        refine zS_ite (fun ht => ?_) (fun _ => zS_none)
        refine s_callF (pc := 27) (np := 0) (as := []) (rest := []) dX2_fitting_27 ht (q := (RJ22, TJ22, 5)) rfl (c_J22_next (by decide) a3 h10) ⟨_, _, _, q832⟩ rfl rfl q670 (by decide +kernel) q830 q828 rfl (by decide) (zkR (fun r47 h48 => ?_)) zxo
        refine s_cast (pc := 32) dX2_fitting_32 q1287 zcs_FloatingDock_Stretch ?_
        refine s_ast (pc := 35) (L2 := [(1, va_rf a1), (2, va_rf a2), (3, va_rf a3)]) [0, 1, 2] dX2_fitting_35 (by decide) rfl rfl (zcB (j := 2) rfl (zcat_rf a3) rfl) ?_
        refine s_aload_n (pc := 37) 1 dX2_fitting_37 rfl rfl ?_
        refine s_alen (pc := 38) dX2_fitting_38 zarrs_ok (fun x57 => ?_)
        refine s_iconst (pc := 39) (v := 1) dX2_fitting_39 (by decide) ?_
        refine s_isub (pc := 40) dX2_fitting_40 ?_
        refine s_nm (pc := 41) Value.int (fun x58 => ?_)
        refine s_ist (pc := 41) (L2 := [(4, va_rf r47), (1, va_rf a1), (2, va_rf a2), (3, va_rf a3)]) [0, 1, 2, 3] dX2_fitting_41 (by decide) rfl rfl (zcB (j := 0) rfl (zcat_rf r47) rfl) ?_
        exact s_sub (pc := 43) [2, 3, 4, 1, 0] rfl (w_X2_fitting_43 (f_X2_fitting_17 n) ih zfuel a1 a2 a3 r47 x58 h48)
    refine zS_ite (fun ht => ?_) (fun _ => zS_none)
    refine s_callF (pc := 18) (np := 0) (as := []) (rest := []) dX2_fitting_18 ht (q := (RJ22, TJ22, 5)) rfl (c_J20_hasNext (by decide) a3 h) ⟨_, _, _, q665⟩ rfl rfl q629 (by decide +kernel) q663 q667 rfl (by decide) (zkI (fun x9 h10 => ?_)) zxo
    refine s_if_eq (pc := 23) (tgt := 116) dX2_fitting_23 (by decide) (fun _ => ?_) (fun _ => ?_)
    · refine s_aload_n (pc := 116) 1 dX2_fitting_116 rfl rfl ?_
      exact s_aret (pc := 117) dX2_fitting_117 rfl (Or.inr ⟨_, rfl⟩)
    · refine s_aload_n (pc := 26) 2 dX2_fitting_26 rfl rfl ?_
      refine zS_ite (fun ht => ?_) (fun _ => ?_)
      · refine s_callF (pc := 27) (np := 0) (as := []) (rest := []) dX2_fitting_27 ht (q := (RX9, TX9, 2)) rfl (c_X9_next (by decide) a3 h10) ⟨_, _, _, q677⟩ rfl rfl q670 (by decide +kernel) q675 q673 rfl (by decide) (zkR (fun r59 h60 => ?_)) zxo
        refine s_cast (pc := 32) dX2_fitting_32 q1287 zcs_FloatingDock_Stretch ?_
        refine s_ast (pc := 35) (L2 := [(1, va_rf a1), (2, va_rf a2), (3, va_rf a3)]) [0, 1, 2] dX2_fitting_35 (by decide) rfl rfl (zcB (j := 2) rfl (zcat_rf a3) rfl) ?_
        refine s_aload_n (pc := 37) 1 dX2_fitting_37 rfl rfl ?_
        refine s_alen (pc := 38) dX2_fitting_38 zarrs_ok (fun x61 => ?_)
        refine s_iconst (pc := 39) (v := 1) dX2_fitting_39 (by decide) ?_
        refine s_isub (pc := 40) dX2_fitting_40 ?_
        refine s_nm (pc := 41) Value.int (fun x62 => ?_)
        refine s_ist (pc := 41) (L2 := [(4, va_rf r59), (1, va_rf a1), (2, va_rf a2), (3, va_rf a3)]) [0, 1, 2, 3] dX2_fitting_41 (by decide) rfl rfl (zcB (j := 0) rfl (zcat_rf r59) rfl) ?_
        exact s_sub (pc := 43) [2, 3, 4, 1, 0] rfl (w_X2_fitting_43 (f_X2_fitting_17 n) ih zfuel a1 a2 a3 r59 x62 h60)
      refine zS_ite (fun ht => ?_) (fun _ => ?_)
      · refine s_callF (pc := 27) (np := 0) (as := []) (rest := []) dX2_fitting_27 ht (q := (RJ15, TJ15, 4)) rfl (c_J15_next (by decide) a3 h10) ⟨_, _, _, q788⟩ rfl rfl q670 (by decide +kernel) q786 q784 rfl (by decide) (zkR (fun r59 h60 => ?_)) zxo
        refine s_cast (pc := 32) dX2_fitting_32 q1287 zcs_FloatingDock_Stretch ?_
        refine s_ast (pc := 35) (L2 := [(1, va_rf a1), (2, va_rf a2), (3, va_rf a3)]) [0, 1, 2] dX2_fitting_35 (by decide) rfl rfl (zcB (j := 2) rfl (zcat_rf a3) rfl) ?_
        refine s_aload_n (pc := 37) 1 dX2_fitting_37 rfl rfl ?_
        refine s_alen (pc := 38) dX2_fitting_38 zarrs_ok (fun x63 => ?_)
        refine s_iconst (pc := 39) (v := 1) dX2_fitting_39 (by decide) ?_
        refine s_isub (pc := 40) dX2_fitting_40 ?_
        refine s_nm (pc := 41) Value.int (fun x64 => ?_)
        refine s_ist (pc := 41) (L2 := [(4, va_rf r59), (1, va_rf a1), (2, va_rf a2), (3, va_rf a3)]) [0, 1, 2, 3] dX2_fitting_41 (by decide) rfl rfl (zcB (j := 0) rfl (zcat_rf r59) rfl) ?_
        exact s_sub (pc := 43) [2, 3, 4, 1, 0] rfl (w_X2_fitting_43 (f_X2_fitting_17 n) ih zfuel a1 a2 a3 r59 x64 h60)
      refine zS_ite (fun ht => ?_) (fun _ => ?_)
      · refine s_callF (pc := 27) (np := 0) (as := []) (rest := []) dX2_fitting_27 ht (q := (RJ17, TJ17, 5)) rfl (c_J17_next (by decide) a3 h10) ⟨_, _, _, q799⟩ rfl rfl q670 (by decide +kernel) q797 q795 rfl (by decide) (zkR (fun r59 h60 => ?_)) zxo
        refine s_cast (pc := 32) dX2_fitting_32 q1287 zcs_FloatingDock_Stretch ?_
        refine s_ast (pc := 35) (L2 := [(1, va_rf a1), (2, va_rf a2), (3, va_rf a3)]) [0, 1, 2] dX2_fitting_35 (by decide) rfl rfl (zcB (j := 2) rfl (zcat_rf a3) rfl) ?_
        refine s_aload_n (pc := 37) 1 dX2_fitting_37 rfl rfl ?_
        refine s_alen (pc := 38) dX2_fitting_38 zarrs_ok (fun x65 => ?_)
        refine s_iconst (pc := 39) (v := 1) dX2_fitting_39 (by decide) ?_
        refine s_isub (pc := 40) dX2_fitting_40 ?_
        refine s_nm (pc := 41) Value.int (fun x66 => ?_)
        refine s_ist (pc := 41) (L2 := [(4, va_rf r59), (1, va_rf a1), (2, va_rf a2), (3, va_rf a3)]) [0, 1, 2, 3] dX2_fitting_41 (by decide) rfl rfl (zcB (j := 0) rfl (zcat_rf r59) rfl) ?_
        exact s_sub (pc := 43) [2, 3, 4, 1, 0] rfl (w_X2_fitting_43 (f_X2_fitting_17 n) ih zfuel a1 a2 a3 r59 x66 h60)
      refine zS_ite (fun ht => ?_) (fun _ => ?_)
      · refine s_callF (pc := 27) (np := 0) (as := []) (rest := []) dX2_fitting_27 ht (q := (RJ21, TJ21, 5)) rfl (c_J21_next (by decide) a3 h10) ⟨_, _, _, q812⟩ rfl rfl q670 (by decide +kernel) q810 q808 rfl (by decide) (zkR (fun r59 h60 => ?_)) zxo
        refine s_cast (pc := 32) dX2_fitting_32 q1287 zcs_FloatingDock_Stretch ?_
        refine s_ast (pc := 35) (L2 := [(1, va_rf a1), (2, va_rf a2), (3, va_rf a3)]) [0, 1, 2] dX2_fitting_35 (by decide) rfl rfl (zcB (j := 2) rfl (zcat_rf a3) rfl) ?_
        refine s_aload_n (pc := 37) 1 dX2_fitting_37 rfl rfl ?_
        refine s_alen (pc := 38) dX2_fitting_38 zarrs_ok (fun x67 => ?_)
        refine s_iconst (pc := 39) (v := 1) dX2_fitting_39 (by decide) ?_
        refine s_isub (pc := 40) dX2_fitting_40 ?_
        refine s_nm (pc := 41) Value.int (fun x68 => ?_)
        refine s_ist (pc := 41) (L2 := [(4, va_rf r59), (1, va_rf a1), (2, va_rf a2), (3, va_rf a3)]) [0, 1, 2, 3] dX2_fitting_41 (by decide) rfl rfl (zcB (j := 0) rfl (zcat_rf r59) rfl) ?_
        exact s_sub (pc := 43) [2, 3, 4, 1, 0] rfl (w_X2_fitting_43 (f_X2_fitting_17 n) ih zfuel a1 a2 a3 r59 x68 h60)
      refine zS_ite (fun ht => ?_) (fun _ => zS_none)
      refine s_callF (pc := 27) (np := 0) (as := []) (rest := []) dX2_fitting_27 ht (q := (RJ22, TJ22, 5)) rfl (c_J22_next (by decide) a3 h10) ⟨_, _, _, q832⟩ rfl rfl q670 (by decide +kernel) q830 q828 rfl (by decide) (zkR (fun r59 h60 => ?_)) zxo
      refine s_cast (pc := 32) dX2_fitting_32 q1287 zcs_FloatingDock_Stretch ?_
      refine s_ast (pc := 35) (L2 := [(1, va_rf a1), (2, va_rf a2), (3, va_rf a3)]) [0, 1, 2] dX2_fitting_35 (by decide) rfl rfl (zcB (j := 2) rfl (zcat_rf a3) rfl) ?_
      refine s_aload_n (pc := 37) 1 dX2_fitting_37 rfl rfl ?_
      refine s_alen (pc := 38) dX2_fitting_38 zarrs_ok (fun x69 => ?_)
      refine s_iconst (pc := 39) (v := 1) dX2_fitting_39 (by decide) ?_
      refine s_isub (pc := 40) dX2_fitting_40 ?_
      refine s_nm (pc := 41) Value.int (fun x70 => ?_)
      refine s_ist (pc := 41) (L2 := [(4, va_rf r59), (1, va_rf a1), (2, va_rf a2), (3, va_rf a3)]) [0, 1, 2, 3] dX2_fitting_41 (by decide) rfl rfl (zcB (j := 0) rfl (zcat_rf r59) rfl) ?_
      exact s_sub (pc := 43) [2, 3, 4, 1, 0] rfl (w_X2_fitting_43 (f_X2_fitting_17 n) ih zfuel a1 a2 a3 r59 x70 h60)
theorem w_X2_fitting (v0 : Option Nat) (v1 : Option Nat) (h : zH) : zS D z yX2_fitting cX2_fitting 7 (some (.array (.boolean))) [] 12 h 0 [(0, va_rf v0), (1, va_rf v1)] [] (f_X2_fitting v0 v1 h) := by
  unfold f_X2_fitting
  refine s_aload_n (pc := 0) 1 dX2_fitting_0 rfl rfl ?_
  refine s_alen (pc := 1) dX2_fitting_1 zarrs_ok (fun x1 => ?_)
  refine s_newa (pc := 2) (ty := .boolean) dX2_fitting_2 rfl ⟨rfl, by decide⟩ q1417 rfl rfl (fun r2 h3 => ?_)
  refine s_ast_n (pc := 4) (L2 := [(0, va_rf v0), (1, va_rf v1)]) [0, 1] dX2_fitting_4 rfl (by decide) rfl rfl (zcB (j := 1) rfl (zcat_rf v1) rfl) ?_
  refine s_aload_n (pc := 5) 0 dX2_fitting_5 rfl rfl ?_
  refine s_iconst (pc := 6) (v := 0) dX2_fitting_6 (by decide) ?_
  refine s_iconst (pc := 7) (v := 1) dX2_fitting_7 (by decide) ?_
  refine s_zast (pc := 8) dX2_fitting_8 (ztc rfl zt0) (fun h4 => ?_)
  refine s_aload_n (pc := 9) 1 dX2_fitting_9 rfl rfl ?_
  refine zS_ite (fun ht => ?_) (fun _ => zS_none)
  refine s_callV (pc := 10) (np := 0) (as := []) (rest := []) dX2_fitting_10 ht (q := (RX2, TX2, 10)) rfl (c_X2_gaps (by decide) v0 h4) rfl rfl q1142 q1143 q1144 rfl (by decide) (zkR (fun r5 h6 => ?_)) zxo
  refine zS_ite (fun ht => ?_) (fun _ => zS_none)
  refine s_callV (pc := 13) (np := 0) (as := []) (rest := []) dX2_fitting_13 ht (q := (RJ37, TJ37, 3)) rfl (c_J37_iterator (by decide) r5 h6) rfl rfl q1286 q474 q3762 rfl (by decide) (zkR (fun r7 h8 => ?_)) zxo
  refine s_ast_n (pc := 16) (L2 := [(2, va_rf r2), (1, va_rf v1)]) [0, 2] dX2_fitting_16 rfl (by decide) rfl rfl (zcB (j := 0) rfl (zcat_rf r2) rfl) ?_
  exact s_sub (pc := 17) [2, 1, 0] rfl (w_X2_fitting_17 zfuel v1 r2 r7 h8)
theorem c_X2_fitting {d0 : Nat} (hd0 : 12 < d0) (v0 : Option Nat) (v1 : Option Nat) (h : zH) : zCal D z d0 h yX2_fitting [va_rf v0, va_rf v1] (f_X2_fitting v0 v1 h) :=
  ⟨cX2_fitting, 7, (some (.array (.boolean))), [], 12, (show lv_args 0 [va_rf v0, va_rf v1] = [(0, va_rf v0), (1, va_rf v1)] by simp [lv_args, zcat_rf, zcat_i, zcat_l, zcat_f, zcat_d]) ▸ w_X2_fitting v0 v1 h, (plainFor_of_name (by decide)), by simp [lg_sl, zcat_rf, zcat_i, zcat_l, zcat_f, zcat_d], q1373, q96, hd0, by decide, by decide⟩
theorem w_J24_bitCount (v0 : Int32) (h : zH) : zS D z yJ24_bitCount cJ24_bitCount 1 (some .int) [] 1 h 0 [(0, .int v0)] [] (f_J24_bitCount v0 h) := by
  unfold f_J24_bitCount
  refine s_iload_n (pc := 0) 0 dJ24_bitCount_0 rfl rfl ?_
  refine s_iload_n (pc := 1) 0 dJ24_bitCount_1 rfl rfl ?_
  refine s_iconst (pc := 2) (v := 1) dJ24_bitCount_2 (by decide) ?_
  refine s_iushr (pc := 3) dJ24_bitCount_3 ?_
  refine s_ldcw (pc := 4) (v := 1431655765) dJ24_bitCount_4 q1377 ?_
  refine s_iand (pc := 7) dJ24_bitCount_7 ?_
  refine s_isub (pc := 8) dJ24_bitCount_8 ?_
  refine s_nm (pc := 9) Value.int (fun x1 => ?_)
  refine s_ist_n (pc := 9) (L2 := []) [] dJ24_bitCount_9 rfl (by decide) rfl rfl (zcA rfl) ?_
  refine s_iload_n (pc := 10) 0 dJ24_bitCount_10 rfl rfl ?_
  refine s_ldcw (pc := 11) (v := 858993459) dJ24_bitCount_11 q1378 ?_
  refine s_iand (pc := 14) dJ24_bitCount_14 ?_
  refine s_iload_n (pc := 15) 0 dJ24_bitCount_15 rfl rfl ?_
  refine s_iconst (pc := 16) (v := 2) dJ24_bitCount_16 (by decide) ?_
  refine s_iushr (pc := 17) dJ24_bitCount_17 ?_
  refine s_ldcw (pc := 18) (v := 858993459) dJ24_bitCount_18 q1378 ?_
  refine s_iand (pc := 21) dJ24_bitCount_21 ?_
  refine s_iadd (pc := 22) dJ24_bitCount_22 ?_
  refine s_nm (pc := 23) Value.int (fun x2 => ?_)
  refine s_ist_n (pc := 23) (L2 := []) [] dJ24_bitCount_23 rfl (by decide) rfl rfl (zcA rfl) ?_
  refine s_iload_n (pc := 24) 0 dJ24_bitCount_24 rfl rfl ?_
  refine s_iload_n (pc := 25) 0 dJ24_bitCount_25 rfl rfl ?_
  refine s_iconst (pc := 26) (v := 4) dJ24_bitCount_26 (by decide) ?_
  refine s_iushr (pc := 27) dJ24_bitCount_27 ?_
  refine s_iadd (pc := 28) dJ24_bitCount_28 ?_
  refine s_ldcw (pc := 29) (v := 252645135) dJ24_bitCount_29 q1379 ?_
  refine s_iand (pc := 32) dJ24_bitCount_32 ?_
  refine s_nm (pc := 33) Value.int (fun x3 => ?_)
  refine s_ist_n (pc := 33) (L2 := []) [] dJ24_bitCount_33 rfl (by decide) rfl rfl (zcA rfl) ?_
  refine s_iload_n (pc := 34) 0 dJ24_bitCount_34 rfl rfl ?_
  refine s_iload_n (pc := 35) 0 dJ24_bitCount_35 rfl rfl ?_
  refine s_bipush (pc := 36) (v := 8) dJ24_bitCount_36 (by decide) ?_
  refine s_iushr (pc := 38) dJ24_bitCount_38 ?_
  refine s_iadd (pc := 39) dJ24_bitCount_39 ?_
  refine s_nm (pc := 40) Value.int (fun x4 => ?_)
  refine s_ist_n (pc := 40) (L2 := []) [] dJ24_bitCount_40 rfl (by decide) rfl rfl (zcA rfl) ?_
  refine s_iload_n (pc := 41) 0 dJ24_bitCount_41 rfl rfl ?_
  refine s_iload_n (pc := 42) 0 dJ24_bitCount_42 rfl rfl ?_
  refine s_bipush (pc := 43) (v := 16) dJ24_bitCount_43 (by decide) ?_
  refine s_iushr (pc := 45) dJ24_bitCount_45 ?_
  refine s_iadd (pc := 46) dJ24_bitCount_46 ?_
  refine s_nm (pc := 47) Value.int (fun x5 => ?_)
  refine s_ist_n (pc := 47) (L2 := []) [] dJ24_bitCount_47 rfl (by decide) rfl rfl (zcA rfl) ?_
  refine s_iload_n (pc := 48) 0 dJ24_bitCount_48 rfl rfl ?_
  refine s_bipush (pc := 49) (v := 63) dJ24_bitCount_49 (by decide) ?_
  refine s_iand (pc := 51) dJ24_bitCount_51 ?_
  exact s_iret (pc := 52) dJ24_bitCount_52 rfl
theorem c_J24_bitCount {d0 : Nat} (hd0 : 1 < d0) (v0 : Int32) (h : zH) : zCal D z d0 h yJ24_bitCount [.int v0] (f_J24_bitCount v0 h) :=
  ⟨cJ24_bitCount, 1, (some .int), [], 1, (show lv_args 0 [.int v0] = [(0, .int v0)] by simp [lv_args, zcat_rf, zcat_i, zcat_l, zcat_f, zcat_d]) ▸ w_J24_bitCount v0 h, (plainFor_of_name (by decide)), by simp [lg_sl, zcat_rf, zcat_i, zcat_l, zcat_f, zcat_d], q1376, q121, hd0, by decide, by decide⟩
theorem w_X2_mostByTable_41 (K17 : Option Nat → Int32 → Int32 → zH → zO) (hK17 : ∀ (a1 : Option Nat) (a2 : Int32) (a3 : Int32) (h : zH), zS D z yX2_mostByTable cX2_mostByTable 4 (some .int) [] 13 h 17 [(1, va_rf a1), (2, .int a2), (3, .int a3)] [] (K17 a1 a2 a3 h)) (a1 : Option Nat) (a3 : Int32) (s0 : Int32) (h : zH) : zS D z yX2_mostByTable cX2_mostByTable 4 (some .int) [] 13 h 41 [(1, va_rf a1), (3, .int a3)] [.int s0] (f_X2_mostByTable_41 K17 a1 a3 s0 h) := by
  unfold f_X2_mostByTable_41
  refine s_ist_n (pc := 41) (L2 := [(1, va_rf a1), (3, .int a3)]) [0, 1] dX2_mostByTable_41 rfl (by decide) rfl rfl (zcB (j := 0) rfl (zcat_rf a1) rfl) ?_
  refine s_inc (pc := 42) (v := 1) (L2 := [(2, .int s0), (1, va_rf a1)]) 2 [0, 1] dX2_mostByTable_42 rfl (by decide) (by decide) rfl rfl (zcB (j := 0) rfl rfl rfl) (fun x13 => ?_)
  refine s_goto (pc := 45) (tgt := 17) dX2_mostByTable_45 (by decide) ?_
  exact s_sub (pc := 17) [2, 1, 0] rfl (hK17 a1 s0 x13 h)
theorem w_X2_mostByTable_17 : ∀ (n : Nat) (a1 : Option Nat) (a2 : Int32) (a3 : Int32) (h : zH), zS D z yX2_mostByTable cX2_mostByTable 4 (some .int) [] 13 h 17 [(1, va_rf a1), (2, .int a2), (3, .int a3)] [] (f_X2_mostByTable_17 n a1 a2 a3 h) := by
  intro n
  induction n with
  | zero => intros; exact zS_none
  | succ n ih =>
    intro a1 a2 a3 h
    rw [f_X2_mostByTable_17.eq_2]
    refine s_iload_n (pc := 17) 2 dX2_mostByTable_17 rfl rfl ?_
    refine s_aload_n (pc := 18) 0 dX2_mostByTable_18 rfl rfl ?_
    refine s_alen (pc := 19) dX2_mostByTable_19 zarrs_ok (fun x7 => ?_)
    refine s_icmp_ge (pc := 20) (tgt := 48) dX2_mostByTable_20 (by decide) (fun _ => ?_) (fun _ => ?_)
    · refine s_iload_n (pc := 48) 1 dX2_mostByTable_48 rfl rfl ?_
      exact s_iret (pc := 49) dX2_mostByTable_49 rfl
    · refine s_aload_n (pc := 23) 0 dX2_mostByTable_23 rfl rfl ?_
      refine s_iload_n (pc := 24) 2 dX2_mostByTable_24 rfl rfl ?_
      refine s_zald (pc := 25) dX2_mostByTable_25 (ztc rfl zt0) (fun x8 => ?_)
      refine s_if_eq (pc := 26) (tgt := 40) dX2_mostByTable_26 (by decide) (fun _ => ?_) (fun _ => ?_)
      · refine s_iload_n (pc := 40) 1 dX2_mostByTable_40 rfl rfl ?_
        exact s_sub (pc := 41) [0, 2] rfl (w_X2_mostByTable_41 (f_X2_mostByTable_17 n) ih a1 a3 a2 h)
      · refine s_iload_n (pc := 29) 1 dX2_mostByTable_29 rfl rfl ?_
        refine s_iload_n (pc := 30) 2 dX2_mostByTable_30 rfl rfl ?_
        refine s_callSS (pc := 31) (np := 1) (as := [.int a3]) (rest := [.int a2]) dX2_mostByTable_31 (c_J24_bitCount (by decide) a3 h) rfl rfl q1374 q1375 rfl (by simp [zcat_rf, zcat_i, zcat_l, zcat_f, zcat_d]) (zkI (fun x9 h10 => ?_)) zxo
        refine s_callSS (pc := 34) (np := 2) (as := [.int a2, .int x9]) (rest := []) dX2_mostByTable_34 (c_J11_max (by decide) a2 x9 h10) rfl rfl q1380 q881 rfl (by decide) (zkI (fun x11 h12 => ?_)) zxo
        refine s_goto (pc := 37) (tgt := 41) dX2_mostByTable_37 (by decide) ?_
        exact s_sub (pc := 41) [0, 2] rfl (w_X2_mostByTable_41 (f_X2_mostByTable_17 n) ih a1 a3 x11 h12)
theorem w_X2_mostByTable (v0 : Option Nat) (h : zH) : zS D z yX2_mostByTable cX2_mostByTable 4 (some .int) [] 13 h 0 [(0, va_rf v0)] [] (f_X2_mostByTable v0 h) := by
  unfold f_X2_mostByTable
  refine s_aload_n (pc := 0) 0 dX2_mostByTable_0 rfl rfl ?_
  refine s_aload_n (pc := 1) 0 dX2_mostByTable_1 rfl rfl ?_
  refine s_aload_n (pc := 2) 0 dX2_mostByTable_2 rfl rfl ?_
  refine zS_ite (fun ht => ?_) (fun _ => zS_none)
  refine s_callV (pc := 3) (np := 0) (as := []) (rest := [va_rf v0, va_rf v0]) dX2_mostByTable_3 ht (q := (RX2, TX2, 10)) rfl (c_X2_waiting (by decide) v0 h) rfl rfl q1364 q1326 qs10 rfl (by simp [zcat_rf, zcat_i, zcat_l, zcat_f, zcat_d]) (zkR (fun r1 h2 => ?_)) zxo
  refine zS_ite (fun ht => ?_) (fun _ => zS_none)
  refine s_callV (pc := 6) (np := 1) (as := [va_rf r1]) (rest := [va_rf v0]) dX2_mostByTable_6 ht (q := (RX2, TX2, 10)) rfl (c_X2_lengths (by decide) v0 r1 h2) rfl rfl q1365 q1367 qs11 rfl (by simp [zcat_rf, zcat_i, zcat_l, zcat_f, zcat_d]) (zkR (fun r3 h4 => ?_)) zxo
  refine zS_ite (fun ht => ?_) (fun _ => zS_none)
  refine s_callV (pc := 9) (np := 1) (as := [va_rf r3]) (rest := []) dX2_mostByTable_9 ht (q := (RX2, TX2, 10)) rfl (c_X2_fitting (by decide) v0 r3 h4) rfl rfl q1370 q1372 qs12 rfl (by decide) (zkR (fun r5 h6 => ?_)) zxo
  refine s_ast_n (pc := 12) (L2 := []) [] dX2_mostByTable_12 rfl (by decide) rfl rfl (zcA rfl) ?_
  refine s_iconst (pc := 13) (v := 0) dX2_mostByTable_13 (by decide) ?_
  refine s_ist_n (pc := 14) (L2 := [(1, va_rf r5)]) [0] dX2_mostByTable_14 rfl (by decide) rfl rfl (zcB (j := 0) rfl (zcat_rf r5) rfl) ?_
  refine s_iconst (pc := 15) (v := 0) dX2_mostByTable_15 (by decide) ?_
  refine s_ist_n (pc := 16) (L2 := [(2, .int 0), (1, va_rf r5)]) [0, 1] dX2_mostByTable_16 rfl (by decide) rfl rfl (zcB (j := 0) rfl rfl rfl) ?_
  exact s_sub (pc := 17) [2, 1, 0] rfl (w_X2_mostByTable_17 zfuel r5 0 0 h6)
theorem c_X2_mostByTable {d0 : Nat} (hd0 : 13 < d0) (v0 : Option Nat) (h : zH) : zCal D z d0 h yX2_mostByTable [va_rf v0] (f_X2_mostByTable v0 h) :=
  ⟨cX2_mostByTable, 4, (some .int), [], 13, (show lv_args 0 [va_rf v0] = [(0, va_rf v0)] by simp [lv_args, zcat_rf, zcat_i, zcat_l, zcat_f, zcat_d]) ▸ w_X2_mostByTable v0 h, (plainFor_of_name (by decide)), by simp [lg_sl, zcat_rf, zcat_i, zcat_l, zcat_f, zcat_d], q1363, q96, hd0, by decide, by decide⟩
theorem w_X1_lambda_new_6 (v0 : Option Nat) (h : zH) : zS D z yX1_lambda_new_6 cX1_lambda_new_6 1 (some .int) [] 14 h 0 [(0, va_rf v0)] [] (f_X1_lambda_new_6 v0 h) := by
  unfold f_X1_lambda_new_6
  refine s_aload_n (pc := 0) 0 dX1_lambda_new_6_0 rfl rfl ?_
  refine zS_ite (fun ht => ?_) (fun _ => zS_none)
  refine s_callV (pc := 1) (np := 0) (as := []) (rest := []) dX1_lambda_new_6_1 ht (q := (RX2, TX2, 10)) rfl (c_X2_mostByTable (by decide) v0 h) rfl rfl q1360 q1361 q1362 rfl (by decide) (zkI (fun x1 h2 => ?_)) zxo
  exact s_iret (pc := 4) dX1_lambda_new_6_4 rfl
theorem c_X1_lambda_new_6 {d0 : Nat} (hd0 : 14 < d0) (v0 : Option Nat) (h : zH) : zCal D z d0 h yX1_lambda_new_6 [va_rf v0] (f_X1_lambda_new_6 v0 h) :=
  ⟨cX1_lambda_new_6, 1, (some .int), [], 14, (show lv_args 0 [va_rf v0] = [(0, va_rf v0)] by simp [lv_args, zcat_rf, zcat_i, zcat_l, zcat_f, zcat_d]) ▸ w_X1_lambda_new_6 v0 h, (plainFor_of_name (by decide)), by simp [lg_sl, zcat_rf, zcat_i, zcat_l, zcat_f, zcat_d], q1359, q95, hd0, by decide, by decide⟩
theorem w_X1_shipCount (v0 : Option Nat) (h : zH) : zS D z yX1_shipCount cX1_shipCount 1 (some .int) [] 2 h 0 [(0, va_rf v0)] [] (f_X1_shipCount v0 h) := by
  unfold f_X1_shipCount
  refine s_aload_n (pc := 0) 0 dX1_shipCount_0 rfl rfl ?_
  refine s_gR (pc := 1) dX1_shipCount_1 gf_X1_30 (fun r1 => ?_)
  refine s_gR (pc := 4) dX1_shipCount_4 gf_X1_151 (fun r2 => ?_)
  refine zS_ite (fun ht => ?_) (fun _ => zS_none)
  refine s_callVU (pc := 7) (np := 0) (as := []) (rest := []) (owner := "java/util/HashMap") dX1_shipCount_7 ht (q := (RJ2, TJ2, 12)) rfl (c_J1_size (by decide) r2 h) ⟨_, _, _, q1427⟩ rfl rfl q1422 q1423 (Or.inl ⟨_, _, _, q1426, q1427⟩) (by decide) q1426 q1425 rfl (by decide) (zkI (fun x3 h4 => ?_)) zxo
  exact s_iret (pc := 10) dX1_shipCount_10 rfl
theorem c_X1_shipCount {d0 : Nat} (hd0 : 2 < d0) (v0 : Option Nat) (h : zH) : zCal D z d0 h yX1_shipCount [va_rf v0] (f_X1_shipCount v0 h) :=
  ⟨cX1_shipCount, 1, (some .int), [], 2, (show lv_args 0 [va_rf v0] = [(0, va_rf v0)] by simp [lv_args, zcat_rf, zcat_i, zcat_l, zcat_f, zcat_d]) ▸ w_X1_shipCount v0 h, (plainFor_of_name (by decide)), by simp [lg_sl, zcat_rf, zcat_i, zcat_l, zcat_f, zcat_d], q1421, q95, hd0, by decide, by decide⟩
theorem w_X1_isGateOpen (v0 : Option Nat) (h : zH) : zS D z yX1_isGateOpen cX1_isGateOpen 1 (some .boolean) [] 1 h 0 [(0, va_rf v0)] [] (f_X1_isGateOpen v0 h) := by
  unfold f_X1_isGateOpen
  refine s_aload_n (pc := 0) 0 dX1_isGateOpen_0 rfl rfl ?_
  refine s_gR (pc := 1) dX1_isGateOpen_1 gf_X1_30 (fun r1 => ?_)
  refine s_gI (pc := 4) dX1_isGateOpen_4 gf_X1_198 (fun x2 => ?_)
  exact s_nret (pc := 7) dX1_isGateOpen_7 rfl
theorem c_X1_isGateOpen {d0 : Nat} (hd0 : 1 < d0) (v0 : Option Nat) (h : zH) : zCal D z d0 h yX1_isGateOpen [va_rf v0] (f_X1_isGateOpen v0 h) :=
  ⟨cX1_isGateOpen, 1, (some .boolean), [], 1, (show lv_args 0 [va_rf v0] = [(0, va_rf v0)] by simp [lv_args, zcat_rf, zcat_i, zcat_l, zcat_f, zcat_d]) ▸ w_X1_isGateOpen v0 h, (plainFor_of_name (by decide)), by simp [lg_sl, zcat_rf, zcat_i, zcat_l, zcat_f, zcat_d], q1431, q95, hd0, by decide, by decide⟩
theorem w_X1_level (v0 : Option Nat) (h : zH) : zS D z yX1_level cX1_level 1 (some .int) [] 1 h 0 [(0, va_rf v0)] [] (f_X1_level v0 h) := by
  unfold f_X1_level
  refine s_aload_n (pc := 0) 0 dX1_level_0 rfl rfl ?_
  refine s_gR (pc := 1) dX1_level_1 gf_X1_30 (fun r1 => ?_)
  refine s_gI (pc := 4) dX1_level_4 gf_X1_184 (fun x2 => ?_)
  exact s_iret (pc := 7) dX1_level_7 rfl
theorem c_X1_level {d0 : Nat} (hd0 : 1 < d0) (v0 : Option Nat) (h : zH) : zCal D z d0 h yX1_level [va_rf v0] (f_X1_level v0 h) :=
  ⟨cX1_level, 1, (some .int), [], 1, (show lv_args 0 [va_rf v0] = [(0, va_rf v0)] by simp [lv_args, zcat_rf, zcat_i, zcat_l, zcat_f, zcat_d]) ▸ w_X1_level v0 h, (plainFor_of_name (by decide)), by simp [lg_sl, zcat_rf, zcat_i, zcat_l, zcat_f, zcat_d], q1435, q95, hd0, by decide, by decide⟩
theorem w_X1_hour (v0 : Option Nat) (h : zH) : zS D z yX1_hour cX1_hour 1 (some .int) [] 1 h 0 [(0, va_rf v0)] [] (f_X1_hour v0 h) := by
  unfold f_X1_hour
  refine s_aload_n (pc := 0) 0 dX1_hour_0 rfl rfl ?_
  refine s_gR (pc := 1) dX1_hour_1 gf_X1_30 (fun r1 => ?_)
  refine s_gI (pc := 4) dX1_hour_4 gf_X1_215 (fun x2 => ?_)
  exact s_iret (pc := 7) dX1_hour_7 rfl
theorem c_X1_hour {d0 : Nat} (hd0 : 1 < d0) (v0 : Option Nat) (h : zH) : zCal D z d0 h yX1_hour [va_rf v0] (f_X1_hour v0 h) :=
  ⟨cX1_hour, 1, (some .int), [], 1, (show lv_args 0 [va_rf v0] = [(0, va_rf v0)] by simp [lv_args, zcat_rf, zcat_i, zcat_l, zcat_f, zcat_d]) ▸ w_X1_hour v0 h, (plainFor_of_name (by decide)), by simp [lg_sl, zcat_rf, zcat_i, zcat_l, zcat_f, zcat_d], q1439, q95, hd0, by decide, by decide⟩
theorem w_J35_bitCount (v0 : Int64) (h : zH) : zS D z yJ35_bitCount cJ35_bitCount 2 (some .int) [] 1 h 0 [(0, .long v0)] [] (f_J35_bitCount v0 h) := by
  unfold f_J35_bitCount
  refine s_lload_n (pc := 0) 0 dJ35_bitCount_0 rfl rfl ?_
  refine s_lload_n (pc := 1) 0 dJ35_bitCount_1 rfl rfl ?_
  refine s_iconst (pc := 2) (v := 1) dJ35_bitCount_2 (by decide) ?_
  refine s_lushr (pc := 3) dJ35_bitCount_3 ?_
  refine s_ldc2 (pc := 4) (v := 6148914691236517205) dJ35_bitCount_4 q1455 ?_
  refine s_land (pc := 7) dJ35_bitCount_7 ?_
  refine s_lsub (pc := 8) dJ35_bitCount_8 ?_
  refine s_nm (pc := 9) Value.long (fun x1 => ?_)
  refine s_lst_n (pc := 9) (L2 := []) [] dJ35_bitCount_9 rfl (by decide) rfl rfl (zcA rfl) ?_
  refine s_lload_n (pc := 10) 0 dJ35_bitCount_10 rfl rfl ?_
  refine s_ldc2 (pc := 11) (v := 3689348814741910323) dJ35_bitCount_11 q1456 ?_
  refine s_land (pc := 14) dJ35_bitCount_14 ?_
  refine s_lload_n (pc := 15) 0 dJ35_bitCount_15 rfl rfl ?_
  refine s_iconst (pc := 16) (v := 2) dJ35_bitCount_16 (by decide) ?_
  refine s_lushr (pc := 17) dJ35_bitCount_17 ?_
  refine s_ldc2 (pc := 18) (v := 3689348814741910323) dJ35_bitCount_18 q1456 ?_
  refine s_land (pc := 21) dJ35_bitCount_21 ?_
  refine s_ladd (pc := 22) dJ35_bitCount_22 ?_
  refine s_nm (pc := 23) Value.long (fun x2 => ?_)
  refine s_lst_n (pc := 23) (L2 := []) [] dJ35_bitCount_23 rfl (by decide) rfl rfl (zcA rfl) ?_
  refine s_lload_n (pc := 24) 0 dJ35_bitCount_24 rfl rfl ?_
  refine s_lload_n (pc := 25) 0 dJ35_bitCount_25 rfl rfl ?_
  refine s_iconst (pc := 26) (v := 4) dJ35_bitCount_26 (by decide) ?_
  refine s_lushr (pc := 27) dJ35_bitCount_27 ?_
  refine s_ladd (pc := 28) dJ35_bitCount_28 ?_
  refine s_ldc2 (pc := 29) (v := 1085102592571150095) dJ35_bitCount_29 q1457 ?_
  refine s_land (pc := 32) dJ35_bitCount_32 ?_
  refine s_nm (pc := 33) Value.long (fun x3 => ?_)
  refine s_lst_n (pc := 33) (L2 := []) [] dJ35_bitCount_33 rfl (by decide) rfl rfl (zcA rfl) ?_
  refine s_lload_n (pc := 34) 0 dJ35_bitCount_34 rfl rfl ?_
  refine s_lload_n (pc := 35) 0 dJ35_bitCount_35 rfl rfl ?_
  refine s_bipush (pc := 36) (v := 8) dJ35_bitCount_36 (by decide) ?_
  refine s_lushr (pc := 38) dJ35_bitCount_38 ?_
  refine s_ladd (pc := 39) dJ35_bitCount_39 ?_
  refine s_nm (pc := 40) Value.long (fun x4 => ?_)
  refine s_lst_n (pc := 40) (L2 := []) [] dJ35_bitCount_40 rfl (by decide) rfl rfl (zcA rfl) ?_
  refine s_lload_n (pc := 41) 0 dJ35_bitCount_41 rfl rfl ?_
  refine s_lload_n (pc := 42) 0 dJ35_bitCount_42 rfl rfl ?_
  refine s_bipush (pc := 43) (v := 16) dJ35_bitCount_43 (by decide) ?_
  refine s_lushr (pc := 45) dJ35_bitCount_45 ?_
  refine s_ladd (pc := 46) dJ35_bitCount_46 ?_
  refine s_nm (pc := 47) Value.long (fun x5 => ?_)
  refine s_lst_n (pc := 47) (L2 := []) [] dJ35_bitCount_47 rfl (by decide) rfl rfl (zcA rfl) ?_
  refine s_lload_n (pc := 48) 0 dJ35_bitCount_48 rfl rfl ?_
  refine s_lload_n (pc := 49) 0 dJ35_bitCount_49 rfl rfl ?_
  refine s_bipush (pc := 50) (v := 32) dJ35_bitCount_50 (by decide) ?_
  refine s_lushr (pc := 52) dJ35_bitCount_52 ?_
  refine s_ladd (pc := 53) dJ35_bitCount_53 ?_
  refine s_nm (pc := 54) Value.long (fun x6 => ?_)
  refine s_lst_n (pc := 54) (L2 := []) [] dJ35_bitCount_54 rfl (by decide) rfl rfl (zcA rfl) ?_
  refine s_lload_n (pc := 55) 0 dJ35_bitCount_55 rfl rfl ?_
  refine s_l2i (pc := 56) dJ35_bitCount_56 ?_
  refine s_bipush (pc := 57) (v := 127) dJ35_bitCount_57 (by decide) ?_
  refine s_iand (pc := 59) dJ35_bitCount_59 ?_
  exact s_iret (pc := 60) dJ35_bitCount_60 rfl
theorem c_J35_bitCount {d0 : Nat} (hd0 : 1 < d0) (v0 : Int64) (h : zH) : zCal D z d0 h yJ35_bitCount [.long v0] (f_J35_bitCount v0 h) :=
  ⟨cJ35_bitCount, 2, (some .int), [], 1, (show lv_args 0 [.long v0] = [(0, .long v0)] by simp [lv_args, zcat_rf, zcat_i, zcat_l, zcat_f, zcat_d]) ▸ w_J35_bitCount v0 h, (plainFor_of_name (by decide)), by simp [lg_sl, zcat_rf, zcat_i, zcat_l, zcat_f, zcat_d], q1454, q134, hd0, by decide, by decide⟩
theorem w_J12_cardinality_4 : ∀ (n : Nat) (a0 : Option Nat) (a1 : Int32) (a2 : Int32) (h : zH), zS D z yJ12_cardinality cJ12_cardinality 3 (some .int) [] 2 h 4 [(0, va_rf a0), (1, .int a1), (2, .int a2)] [] (f_J12_cardinality_4 n a0 a1 a2 h) := by
  intro n
  induction n with
  | zero => intros; exact zS_none
  | succ n ih =>
    intro a0 a1 a2 h
    rw [f_J12_cardinality_4.eq_2]
    refine s_iload_n (pc := 4) 2 dJ12_cardinality_4 rfl rfl ?_
    refine s_aload_n (pc := 5) 0 dJ12_cardinality_5 rfl rfl ?_
    refine s_gI (pc := 6) dJ12_cardinality_6 gf_J12_7 (fun x1 => ?_)
    refine s_icmp_ge (pc := 9) (tgt := 30) dJ12_cardinality_9 (by decide) (fun _ => ?_) (fun _ => ?_)
    · refine s_iload_n (pc := 30) 1 dJ12_cardinality_30 rfl rfl ?_
      exact s_iret (pc := 31) dJ12_cardinality_31 rfl
    · refine s_iload_n (pc := 12) 1 dJ12_cardinality_12 rfl rfl ?_
      refine s_aload_n (pc := 13) 0 dJ12_cardinality_13 rfl rfl ?_
      refine s_gR (pc := 14) dJ12_cardinality_14 gf_J12_11 (fun r2 => ?_)
      refine s_iload_n (pc := 17) 2 dJ12_cardinality_17 rfl rfl ?_
      refine s_lald (pc := 18) dJ12_cardinality_18 (ztc rfl zt0) (fun x3 => ?_)
      refine s_callSS (pc := 19) (np := 1) (as := [.long x3]) (rest := [.int a1]) dJ12_cardinality_19 (c_J35_bitCount (by decide) x3 h) rfl rfl q1452 q1453 rfl (by simp [zcat_rf, zcat_i, zcat_l, zcat_f, zcat_d]) (zkI (fun x4 h5 => ?_)) zxo
      refine s_iadd (pc := 22) dJ12_cardinality_22 ?_
      refine s_nm (pc := 23) Value.int (fun x6 => ?_)
      refine s_ist_n (pc := 23) (L2 := [(0, va_rf a0), (2, .int a2)]) [0, 2] dJ12_cardinality_23 rfl (by decide) rfl rfl (zcB (j := 0) rfl (zcat_rf a0) rfl) ?_
      refine s_inc (pc := 24) (v := 1) (L2 := [(1, .int x6), (0, va_rf a0)]) 2 [0, 1] dJ12_cardinality_24 rfl (by decide) (by decide) rfl rfl (zcB (j := 0) rfl rfl rfl) (fun x7 => ?_)
      refine s_goto (pc := 27) (tgt := 4) dJ12_cardinality_27 (by decide) ?_
      exact s_sub (pc := 4) [2, 1, 0] rfl (ih a0 x6 x7 h5)
theorem w_J12_cardinality (v0 : Option Nat) (h : zH) : zS D z yJ12_cardinality cJ12_cardinality 3 (some .int) [] 2 h 0 [(0, va_rf v0)] [] (f_J12_cardinality v0 h) := by
  unfold f_J12_cardinality
  refine s_iconst (pc := 0) (v := 0) dJ12_cardinality_0 (by decide) ?_
  refine s_ist_n (pc := 1) (L2 := [(0, va_rf v0)]) [0] dJ12_cardinality_1 rfl (by decide) rfl rfl (zcB (j := 0) rfl (zcat_rf v0) rfl) ?_
  refine s_iconst (pc := 2) (v := 0) dJ12_cardinality_2 (by decide) ?_
  refine s_ist_n (pc := 3) (L2 := [(1, .int 0), (0, va_rf v0)]) [0, 1] dJ12_cardinality_3 rfl (by decide) rfl rfl (zcB (j := 0) rfl rfl rfl) ?_
  exact s_sub (pc := 4) [2, 1, 0] rfl (w_J12_cardinality_4 zfuel v0 0 0 h)
theorem c_J12_cardinality {d0 : Nat} (hd0 : 2 < d0) (v0 : Option Nat) (h : zH) : zCal D z d0 h yJ12_cardinality [va_rf v0] (f_J12_cardinality v0 h) :=
  ⟨cJ12_cardinality, 3, (some .int), [], 2, (show lv_args 0 [va_rf v0] = [(0, va_rf v0)] by simp [lv_args, zcat_rf, zcat_i, zcat_l, zcat_f, zcat_d]) ▸ w_J12_cardinality v0 h, (plainFor_of_name (by decide)), by simp [lg_sl, zcat_rf, zcat_i, zcat_l, zcat_f, zcat_d], q1451, q109, hd0, by decide, by decide⟩
theorem w_X2_freeMetres (v0 : Option Nat) (h : zH) : zS D z yX2_freeMetres cX2_freeMetres 1 (some .int) [] 11 h 0 [(0, va_rf v0)] [] (f_X2_freeMetres v0 h) := by
  unfold f_X2_freeMetres
  refine s_bipush (pc := 0) (v := 60) dX2_freeMetres_0 (by decide) ?_
  refine s_aload_n (pc := 2) 0 dX2_freeMetres_2 rfl rfl ?_
  refine zS_ite (fun ht => ?_) (fun _ => zS_none)
  refine s_callV (pc := 3) (np := 0) (as := []) (rest := [.int 60]) dX2_freeMetres_3 ht (q := (RX2, TX2, 10)) rfl (c_X2_taken (by decide) v0 h) rfl rfl q385 q386 q387 rfl (by simp [zcat_rf, zcat_i, zcat_l, zcat_f, zcat_d]) (zkR (fun r1 h2 => ?_)) zxo
  refine zS_ite (fun ht => ?_) (fun _ => zS_none)
  refine s_callV (pc := 6) (np := 0) (as := []) (rest := [.int 60]) dX2_freeMetres_6 ht (q := (RJ12, TJ12, 3)) rfl (c_J12_cardinality (by decide) r1 h2) rfl rfl q1448 q1449 q1450 rfl (by simp [zcat_rf, zcat_i, zcat_l, zcat_f, zcat_d]) (zkI (fun x3 h4 => ?_)) zxo
  refine s_isub (pc := 9) dX2_freeMetres_9 ?_
  exact s_iret (pc := 10) dX2_freeMetres_10 rfl
theorem c_X2_freeMetres {d0 : Nat} (hd0 : 11 < d0) (v0 : Option Nat) (h : zH) : zCal D z d0 h yX2_freeMetres [va_rf v0] (f_X2_freeMetres v0 h) :=
  ⟨cX2_freeMetres, 1, (some .int), [], 11, (show lv_args 0 [va_rf v0] = [(0, va_rf v0)] by simp [lv_args, zcat_rf, zcat_i, zcat_l, zcat_f, zcat_d]) ▸ w_X2_freeMetres v0 h, (plainFor_of_name (by decide)), by simp [lg_sl, zcat_rf, zcat_i, zcat_l, zcat_f, zcat_d], q1447, q96, hd0, by decide, by decide⟩
theorem w_X1_freeMetres (v0 : Option Nat) (h : zH) : zS D z yX1_freeMetres cX1_freeMetres 1 (some .int) [] 12 h 0 [(0, va_rf v0)] [] (f_X1_freeMetres v0 h) := by
  unfold f_X1_freeMetres
  refine s_aload_n (pc := 0) 0 dX1_freeMetres_0 rfl rfl ?_
  refine s_gR (pc := 1) dX1_freeMetres_1 gf_X1_30 (fun r1 => ?_)
  refine zS_ite (fun ht => ?_) (fun _ => zS_none)
  refine s_callV (pc := 4) (np := 0) (as := []) (rest := []) dX1_freeMetres_4 ht (q := (RX2, TX2, 10)) rfl (c_X2_freeMetres (by decide) r1 h) rfl rfl q1444 q1445 q1446 rfl (by decide) (zkI (fun x2 h3 => ?_)) zxo
  exact s_iret (pc := 7) dX1_freeMetres_7 rfl
theorem c_X1_freeMetres {d0 : Nat} (hd0 : 12 < d0) (v0 : Option Nat) (h : zH) : zCal D z d0 h yX1_freeMetres [va_rf v0] (f_X1_freeMetres v0 h) :=
  ⟨cX1_freeMetres, 1, (some .int), [], 12, (show lv_args 0 [va_rf v0] = [(0, va_rf v0)] by simp [lv_args, zcat_rf, zcat_i, zcat_l, zcat_f, zcat_d]) ▸ w_X1_freeMetres v0 h, (plainFor_of_name (by decide)), by simp [lg_sl, zcat_rf, zcat_i, zcat_l, zcat_f, zcat_d], q1443, q95, hd0, by decide, by decide⟩
theorem c_pk_most {d0 : Nat} (hd0 : 18 < d0) (v0 : Option Nat) (v1 : Option Nat) (h : zH) : zLC D z d0 h v0 [va_rf v1] ⟨"FloatingDock$Packer", "most", "(LFloatingDock$Yard;)I"⟩ (f_pk_most v0 v1 h) :=
  zlamif (fun ht => zlv0_C ht (Or.inl rfl) (fun a fr  ha hm => Or.inr ⟨305, a, fr, [], zSh siteWord_1_6, ⟨#[0x2b, 0xb8, 0x00, 0x11, 0xac]⟩, 2, [], [true], 17, true, yX1_lambda_new_5, f_X1_lambda_new_5 v1 h, ha, hm, rfl, rfl, by decide +kernel, by decide +kernel, zk_5, zc_5, by decide +kernel, by decide +kernel, c_X1_lambda_new_5 (Nat.lt_of_le_of_lt (by decide) hd0) v1 h, rfl, rfl, rfl, rfl, (zKdR v1 zKd0), rfl, q1312⟩)) <|
  zlamif (fun ht => zlv0_C ht (Or.inl rfl) (fun a fr  ha hm => Or.inr ⟨306, a, fr, [], zSh siteWord_1_7, ⟨#[0x2b, 0xb8, 0x00, 0x11, 0xac]⟩, 2, [], [true], 17, true, yX1_lambda_new_6, f_X1_lambda_new_6 v1 h, ha, hm, rfl, rfl, by decide +kernel, by decide +kernel, zk_6, zc_6, by decide +kernel, by decide +kernel, c_X1_lambda_new_6 (Nat.lt_of_le_of_lt (by decide) hd0) v1 h, rfl, rfl, rfl, rfl, (zKdR v1 zKd0), rfl, q1358⟩)) <|
  Or.inl rfl
theorem w_X1_mostFitting (v0 : Option Nat) (h : zH) : zS D z yX1_mostFitting cX1_mostFitting 1 (some .int) [] 20 h 0 [(0, va_rf v0)] [] (f_X1_mostFitting v0 h) := by
  unfold f_X1_mostFitting
  refine s_aload_n (pc := 0) 0 dX1_mostFitting_0 rfl rfl ?_
  refine s_gR (pc := 1) dX1_mostFitting_1 gf_X1_23 (fun r1 => ?_)
  refine s_iconst (pc := 4) (v := 0) dX1_mostFitting_4 (by decide) ?_
  refine s_aald (pc := 5) dX1_mostFitting_5 zrefs_ok (fun r2 => ?_)
  refine s_aload_n (pc := 6) 0 dX1_mostFitting_6 rfl rfl ?_
  refine s_gR (pc := 7) dX1_mostFitting_7 gf_X1_30 (fun r3 => ?_)
  refine s_callL (pc := 10) (np := 1) (as := [va_rf r3]) (rest := []) (d' := 19) dX1_mostFitting_10 (by decide) (c_pk_most (by decide) r2 r3 h) rfl rfl q1463 rfl (by decide) (zkI (fun x4 h5 => ?_)) zxo
  exact s_iret (pc := 15) dX1_mostFitting_15 rfl
theorem c_X1_mostFitting {d0 : Nat} (hd0 : 20 < d0) (v0 : Option Nat) (h : zH) : zCal D z d0 h yX1_mostFitting [va_rf v0] (f_X1_mostFitting v0 h) :=
  ⟨cX1_mostFitting, 1, (some .int), [], 20, (show lv_args 0 [va_rf v0] = [(0, va_rf v0)] by simp [lv_args, zcat_rf, zcat_i, zcat_l, zcat_f, zcat_d]) ▸ w_X1_mostFitting v0 h, (plainFor_of_name (by decide)), by simp [lg_sl, zcat_rf, zcat_i, zcat_l, zcat_f, zcat_d], q1461, q95, hd0, by decide, by decide⟩
theorem w_X1_mostFittingByTable (v0 : Option Nat) (h : zH) : zS D z yX1_mostFittingByTable cX1_mostFittingByTable 1 (some .int) [] 20 h 0 [(0, va_rf v0)] [] (f_X1_mostFittingByTable v0 h) := by
  unfold f_X1_mostFittingByTable
  refine s_aload_n (pc := 0) 0 dX1_mostFittingByTable_0 rfl rfl ?_
  refine s_gR (pc := 1) dX1_mostFittingByTable_1 gf_X1_23 (fun r1 => ?_)
  refine s_iconst (pc := 4) (v := 1) dX1_mostFittingByTable_4 (by decide) ?_
  refine s_aald (pc := 5) dX1_mostFittingByTable_5 zrefs_ok (fun r2 => ?_)
  refine s_aload_n (pc := 6) 0 dX1_mostFittingByTable_6 rfl rfl ?_
  refine s_gR (pc := 7) dX1_mostFittingByTable_7 gf_X1_30 (fun r3 => ?_)
  refine s_callL (pc := 10) (np := 1) (as := [va_rf r3]) (rest := []) (d' := 19) dX1_mostFittingByTable_10 (by decide) (c_pk_most (by decide) r2 r3 h) rfl rfl q1463 rfl (by decide) (zkI (fun x4 h5 => ?_)) zxo
  exact s_iret (pc := 15) dX1_mostFittingByTable_15 rfl
theorem c_X1_mostFittingByTable {d0 : Nat} (hd0 : 20 < d0) (v0 : Option Nat) (h : zH) : zCal D z d0 h yX1_mostFittingByTable [va_rf v0] (f_X1_mostFittingByTable v0 h) :=
  ⟨cX1_mostFittingByTable, 1, (some .int), [], 20, (show lv_args 0 [va_rf v0] = [(0, va_rf v0)] by simp [lv_args, zcat_rf, zcat_i, zcat_l, zcat_f, zcat_d]) ▸ w_X1_mostFittingByTable v0 h, (plainFor_of_name (by decide)), by simp [lg_sl, zcat_rf, zcat_i, zcat_l, zcat_f, zcat_d], q1469, q95, hd0, by decide, by decide⟩
theorem w_X2_mostMetres_46 (K20 : Option Nat → Option Nat → Int32 → Int32 → zH → zO) (hK20 : ∀ (a1 : Option Nat) (a2 : Option Nat) (a3 : Int32) (a4 : Int32) (h : zH), zS D z yX2_mostMetres cX2_mostMetres 5 (some .int) [] 13 h 20 [(1, va_rf a1), (2, va_rf a2), (3, .int a3), (4, .int a4)] [] (K20 a1 a2 a3 a4 h)) (a1 : Option Nat) (a2 : Option Nat) (a4 : Int32) (s0 : Int32) (h : zH) : zS D z yX2_mostMetres cX2_mostMetres 5 (some .int) [] 13 h 46 [(1, va_rf a1), (2, va_rf a2), (4, .int a4)] [.int s0] (f_X2_mostMetres_46 K20 a1 a2 a4 s0 h) := by
  unfold f_X2_mostMetres_46
  refine s_ist_n (pc := 46) (L2 := [(1, va_rf a1), (2, va_rf a2), (4, .int a4)]) [0, 1, 2] dX2_mostMetres_46 rfl (by decide) rfl rfl (zcB (j := 1) rfl (zcat_rf a2) rfl) ?_
  refine s_inc (pc := 47) (v := 1) (L2 := [(3, .int s0), (1, va_rf a1), (2, va_rf a2)]) 3 [0, 1, 2] dX2_mostMetres_47 rfl (by decide) (by decide) rfl rfl (zcB (j := 0) rfl rfl rfl) (fun x12 => ?_)
  refine s_goto (pc := 50) (tgt := 20) dX2_mostMetres_50 (by decide) ?_
  exact s_sub (pc := 20) [2, 3, 1, 0] rfl (hK20 a1 a2 s0 x12 h)
theorem w_X2_mostMetres_20 : ∀ (n : Nat) (a1 : Option Nat) (a2 : Option Nat) (a3 : Int32) (a4 : Int32) (h : zH), zS D z yX2_mostMetres cX2_mostMetres 5 (some .int) [] 13 h 20 [(1, va_rf a1), (2, va_rf a2), (3, .int a3), (4, .int a4)] [] (f_X2_mostMetres_20 n a1 a2 a3 a4 h) := by
  intro n
  induction n with
  | zero => intros; exact zS_none
  | succ n ih =>
    intro a1 a2 a3 a4 h
    rw [f_X2_mostMetres_20.eq_2]
    refine s_iload (pc := 20) 3 dX2_mostMetres_20 rfl ?_
    refine s_aload_n (pc := 22) 1 dX2_mostMetres_22 rfl rfl ?_
    refine s_alen (pc := 23) dX2_mostMetres_23 zarrs_ok (fun x7 => ?_)
    refine s_icmp_ge (pc := 24) (tgt := 53) dX2_mostMetres_24 (by decide) (fun _ => ?_) (fun _ => ?_)
    · refine s_iload_n (pc := 53) 2 dX2_mostMetres_53 rfl rfl ?_
      exact s_iret (pc := 54) dX2_mostMetres_54 rfl
    · refine s_aload_n (pc := 27) 1 dX2_mostMetres_27 rfl rfl ?_
      refine s_iload (pc := 28) 3 dX2_mostMetres_28 rfl ?_
      refine s_zald (pc := 30) dX2_mostMetres_30 (ztc rfl zt0) (fun x8 => ?_)
      refine s_if_eq (pc := 31) (tgt := 45) dX2_mostMetres_31 (by decide) (fun _ => ?_) (fun _ => ?_)
      · refine s_iload_n (pc := 45) 2 dX2_mostMetres_45 rfl rfl ?_
        exact s_sub (pc := 46) [0, 1, 3] rfl (w_X2_mostMetres_46 (f_X2_mostMetres_20 n) ih a1 a2 a4 a3 h)
      · refine s_iload_n (pc := 34) 2 dX2_mostMetres_34 rfl rfl ?_
        refine s_aload_n (pc := 35) 0 dX2_mostMetres_35 rfl rfl ?_
        refine s_iload (pc := 36) 3 dX2_mostMetres_36 rfl ?_
        refine s_iald (pc := 38) dX2_mostMetres_38 (ztc rfl zt0) (fun x9 => ?_)
        refine s_callSS (pc := 39) (np := 2) (as := [.int a3, .int x9]) (rest := []) dX2_mostMetres_39 (c_J11_max (by decide) a3 x9 h) rfl rfl q1380 q881 rfl (by decide) (zkI (fun x10 h11 => ?_)) zxo
        refine s_goto (pc := 42) (tgt := 46) dX2_mostMetres_42 (by decide) ?_
        exact s_sub (pc := 46) [0, 1, 3] rfl (w_X2_mostMetres_46 (f_X2_mostMetres_20 n) ih a1 a2 a4 x10 h11)
theorem w_X2_mostMetres (v0 : Option Nat) (h : zH) : zS D z yX2_mostMetres cX2_mostMetres 5 (some .int) [] 13 h 0 [(0, va_rf v0)] [] (f_X2_mostMetres v0 h) := by
  unfold f_X2_mostMetres
  refine s_aload_n (pc := 0) 0 dX2_mostMetres_0 rfl rfl ?_
  refine s_aload_n (pc := 1) 0 dX2_mostMetres_1 rfl rfl ?_
  refine zS_ite (fun ht => ?_) (fun _ => zS_none)
  refine s_callV (pc := 2) (np := 0) (as := []) (rest := [va_rf v0]) dX2_mostMetres_2 ht (q := (RX2, TX2, 10)) rfl (c_X2_waiting (by decide) v0 h) rfl rfl q1364 q1326 qs10 rfl (by simp [zcat_rf, zcat_i, zcat_l, zcat_f, zcat_d]) (zkR (fun r1 h2 => ?_)) zxo
  refine zS_ite (fun ht => ?_) (fun _ => zS_none)
  refine s_callV (pc := 5) (np := 1) (as := [va_rf r1]) (rest := []) dX2_mostMetres_5 ht (q := (RX2, TX2, 10)) rfl (c_X2_lengths (by decide) v0 r1 h2) rfl rfl q1365 q1367 qs11 rfl (by decide) (zkR (fun r3 h4 => ?_)) zxo
  refine s_ast_n (pc := 8) (L2 := [(0, va_rf v0)]) [0] dX2_mostMetres_8 rfl (by decide) rfl rfl (zcB (j := 0) rfl (zcat_rf v0) rfl) ?_
  refine s_aload_n (pc := 9) 1 dX2_mostMetres_9 rfl rfl ?_
  refine s_aload_n (pc := 10) 0 dX2_mostMetres_10 rfl rfl ?_
  refine zS_ite (fun ht => ?_) (fun _ => zS_none)
  refine s_callV (pc := 11) (np := 1) (as := [va_rf r3]) (rest := []) dX2_mostMetres_11 ht (q := (RX2, TX2, 10)) rfl (c_X2_fitting (by decide) v0 r3 h4) rfl rfl q1370 q1372 qs12 rfl (by decide) (zkR (fun r5 h6 => ?_)) zxo
  refine s_ast_n (pc := 14) (L2 := [(1, va_rf r3)]) [0] dX2_mostMetres_14 rfl (by decide) rfl rfl (zcB (j := 0) rfl (zcat_rf r3) rfl) ?_
  refine s_iconst (pc := 15) (v := 0) dX2_mostMetres_15 (by decide) ?_
  refine s_ist_n (pc := 16) (L2 := [(2, va_rf r5), (1, va_rf r3)]) [0, 1] dX2_mostMetres_16 rfl (by decide) rfl rfl (zcB (j := 0) rfl (zcat_rf r5) rfl) ?_
  refine s_iconst (pc := 17) (v := 0) dX2_mostMetres_17 (by decide) ?_
  refine s_ist (pc := 18) (L2 := [(3, .int 0), (2, va_rf r5), (1, va_rf r3)]) [0, 1, 2] dX2_mostMetres_18 (by decide) rfl rfl (zcB (j := 0) rfl rfl rfl) ?_
  exact s_sub (pc := 20) [3, 2, 1, 0] rfl (w_X2_mostMetres_20 zfuel r3 r5 0 0 h6)
theorem c_X2_mostMetres {d0 : Nat} (hd0 : 13 < d0) (v0 : Option Nat) (h : zH) : zCal D z d0 h yX2_mostMetres [va_rf v0] (f_X2_mostMetres v0 h) :=
  ⟨cX2_mostMetres, 5, (some .int), [], 13, (show lv_args 0 [va_rf v0] = [(0, va_rf v0)] by simp [lv_args, zcat_rf, zcat_i, zcat_l, zcat_f, zcat_d]) ▸ w_X2_mostMetres v0 h, (plainFor_of_name (by decide)), by simp [lg_sl, zcat_rf, zcat_i, zcat_l, zcat_f, zcat_d], q1477, q96, hd0, by decide, by decide⟩
theorem w_X1_mostFittingMetres (v0 : Option Nat) (h : zH) : zS D z yX1_mostFittingMetres cX1_mostFittingMetres 1 (some .int) [] 14 h 0 [(0, va_rf v0)] [] (f_X1_mostFittingMetres v0 h) := by
  unfold f_X1_mostFittingMetres
  refine s_aload_n (pc := 0) 0 dX1_mostFittingMetres_0 rfl rfl ?_
  refine s_gR (pc := 1) dX1_mostFittingMetres_1 gf_X1_30 (fun r1 => ?_)
  refine zS_ite (fun ht => ?_) (fun _ => zS_none)
  refine s_callV (pc := 4) (np := 0) (as := []) (rest := []) dX1_mostFittingMetres_4 ht (q := (RX2, TX2, 10)) rfl (c_X2_mostMetres (by decide) r1 h) rfl rfl q1474 q1475 q1476 rfl (by decide) (zkI (fun x2 h3 => ?_)) zxo
  exact s_iret (pc := 7) dX1_mostFittingMetres_7 rfl
theorem c_X1_mostFittingMetres {d0 : Nat} (hd0 : 14 < d0) (v0 : Option Nat) (h : zH) : zCal D z d0 h yX1_mostFittingMetres [va_rf v0] (f_X1_mostFittingMetres v0 h) :=
  ⟨cX1_mostFittingMetres, 1, (some .int), [], 14, (show lv_args 0 [va_rf v0] = [(0, va_rf v0)] by simp [lv_args, zcat_rf, zcat_i, zcat_l, zcat_f, zcat_d]) ▸ w_X1_mostFittingMetres v0 h, (plainFor_of_name (by decide)), by simp [lg_sl, zcat_rf, zcat_i, zcat_l, zcat_f, zcat_d], q1473, q95, hd0, by decide, by decide⟩
theorem w_X2_bills_15 : ∀ (n : Nat) (a1 : Int32) (a2 : Option Nat) (h : zH), zS D z yX2_bills cX2_bills 4 (some .int) [] 10 h 15 [(1, .int a1), (2, va_rf a2)] [] (f_X2_bills_15 n a1 a2 h) := by
  intro n
  induction n with
  | zero => intros; exact zS_none
  | succ n ih =>
    intro a1 a2 h
    rw [f_X2_bills_15.eq_2]
    refine s_aload_n (pc := 15) 1 dX2_bills_15 rfl rfl ?_
    refine zS_ite (fun ht => ?_) (fun _ => ?_)
    · refine s_callF (pc := 16) (np := 0) (as := []) (rest := []) dX2_bills_16 ht (q := (RX9, TX9, 2)) rfl (c_X9_hasNext (by decide) a2 h) ⟨_, _, _, q637⟩ rfl rfl q629 (by decide +kernel) q635 q633 rfl (by decide) (zkI (fun x6 h7 => ?_)) zxo
      refine s_if_eq (pc := 21) (tgt := 44) dX2_bills_21 (by decide) (fun _ => ?_) (fun _ => ?_)
      · refine s_iload_n (pc := 44) 0 dX2_bills_44 rfl rfl ?_
        exact s_iret (pc := 45) dX2_bills_45 rfl
      · refine s_aload_n (pc := 24) 1 dX2_bills_24 rfl rfl ?_
        refine zS_ite (fun ht => ?_) (fun _ => ?_)
        · refine s_callF (pc := 25) (np := 0) (as := []) (rest := []) dX2_bills_25 ht (q := (RX9, TX9, 2)) rfl (c_X9_next (by decide) a2 h7) ⟨_, _, _, q677⟩ rfl rfl q670 (by decide +kernel) q675 q673 rfl (by decide) (zkR (fun r8 h9 => ?_)) zxo
          refine s_cast (pc := 30) dX2_bills_30 q836 zcs_FloatingDock_Ship ?_
          refine s_ast_n (pc := 33) (L2 := [(1, .int a1), (2, va_rf a2)]) [0, 1] dX2_bills_33 rfl (by decide) rfl rfl (zcB (j := 1) rfl (zcat_rf a2) rfl) ?_
          refine s_iload_n (pc := 34) 1 dX2_bills_34 rfl rfl ?_
          refine s_aload_n (pc := 35) 0 dX2_bills_35 rfl rfl ?_
          refine s_gI (pc := 36) dX2_bills_36 gf_X2_170 (fun x10 => ?_)
          refine s_iadd (pc := 39) dX2_bills_39 ?_
          refine s_nm (pc := 40) Value.int (fun x11 => ?_)
          refine s_ist_n (pc := 40) (L2 := [(2, va_rf a2)]) [2] dX2_bills_40 rfl (by decide) rfl rfl (zcA rfl) ?_
          refine s_goto (pc := 41) (tgt := 15) dX2_bills_41 (by decide) ?_
          exact s_sub (pc := 15) [0, 1] rfl (ih x11 a2 h9)
        refine zS_ite (fun ht => ?_) (fun _ => ?_)
        · refine s_callF (pc := 25) (np := 0) (as := []) (rest := []) dX2_bills_25 ht (q := (RJ15, TJ15, 4)) rfl (c_J15_next (by decide) a2 h7) ⟨_, _, _, q788⟩ rfl rfl q670 (by decide +kernel) q786 q784 rfl (by decide) (zkR (fun r8 h9 => ?_)) zxo
          refine s_cast (pc := 30) dX2_bills_30 q836 zcs_FloatingDock_Ship ?_
          refine s_ast_n (pc := 33) (L2 := [(1, .int a1), (2, va_rf a2)]) [0, 1] dX2_bills_33 rfl (by decide) rfl rfl (zcB (j := 1) rfl (zcat_rf a2) rfl) ?_
          refine s_iload_n (pc := 34) 1 dX2_bills_34 rfl rfl ?_
          refine s_aload_n (pc := 35) 0 dX2_bills_35 rfl rfl ?_
          refine s_gI (pc := 36) dX2_bills_36 gf_X2_170 (fun x12 => ?_)
          refine s_iadd (pc := 39) dX2_bills_39 ?_
          refine s_nm (pc := 40) Value.int (fun x13 => ?_)
          refine s_ist_n (pc := 40) (L2 := [(2, va_rf a2)]) [2] dX2_bills_40 rfl (by decide) rfl rfl (zcA rfl) ?_
          refine s_goto (pc := 41) (tgt := 15) dX2_bills_41 (by decide) ?_
          exact s_sub (pc := 15) [0, 1] rfl (ih x13 a2 h9)
        refine zS_ite (fun ht => ?_) (fun _ => ?_)
        · refine s_callF (pc := 25) (np := 0) (as := []) (rest := []) dX2_bills_25 ht (q := (RJ17, TJ17, 5)) rfl (c_J17_next (by decide) a2 h7) ⟨_, _, _, q799⟩ rfl rfl q670 (by decide +kernel) q797 q795 rfl (by decide) (zkR (fun r8 h9 => ?_)) zxo
          refine s_cast (pc := 30) dX2_bills_30 q836 zcs_FloatingDock_Ship ?_
          refine s_ast_n (pc := 33) (L2 := [(1, .int a1), (2, va_rf a2)]) [0, 1] dX2_bills_33 rfl (by decide) rfl rfl (zcB (j := 1) rfl (zcat_rf a2) rfl) ?_
          refine s_iload_n (pc := 34) 1 dX2_bills_34 rfl rfl ?_
          refine s_aload_n (pc := 35) 0 dX2_bills_35 rfl rfl ?_
          refine s_gI (pc := 36) dX2_bills_36 gf_X2_170 (fun x14 => ?_)
          refine s_iadd (pc := 39) dX2_bills_39 ?_
          refine s_nm (pc := 40) Value.int (fun x15 => ?_)
          refine s_ist_n (pc := 40) (L2 := [(2, va_rf a2)]) [2] dX2_bills_40 rfl (by decide) rfl rfl (zcA rfl) ?_
          refine s_goto (pc := 41) (tgt := 15) dX2_bills_41 (by decide) ?_
          exact s_sub (pc := 15) [0, 1] rfl (ih x15 a2 h9)
        refine zS_ite (fun ht => ?_) (fun _ => ?_)
        · refine s_callF (pc := 25) (np := 0) (as := []) (rest := []) dX2_bills_25 ht (q := (RJ21, TJ21, 5)) rfl (c_J21_next (by decide) a2 h7) ⟨_, _, _, q812⟩ rfl rfl q670 (by decide +kernel) q810 q808 rfl (by decide) (zkR (fun r8 h9 => ?_)) zxo
          refine s_cast (pc := 30) dX2_bills_30 q836 zcs_FloatingDock_Ship ?_
          refine s_ast_n (pc := 33) (L2 := [(1, .int a1), (2, va_rf a2)]) [0, 1] dX2_bills_33 rfl (by decide) rfl rfl (zcB (j := 1) rfl (zcat_rf a2) rfl) ?_
          refine s_iload_n (pc := 34) 1 dX2_bills_34 rfl rfl ?_
          refine s_aload_n (pc := 35) 0 dX2_bills_35 rfl rfl ?_
          refine s_gI (pc := 36) dX2_bills_36 gf_X2_170 (fun x16 => ?_)
          refine s_iadd (pc := 39) dX2_bills_39 ?_
          refine s_nm (pc := 40) Value.int (fun x17 => ?_)
          refine s_ist_n (pc := 40) (L2 := [(2, va_rf a2)]) [2] dX2_bills_40 rfl (by decide) rfl rfl (zcA rfl) ?_
          refine s_goto (pc := 41) (tgt := 15) dX2_bills_41 (by decide) ?_
          exact s_sub (pc := 15) [0, 1] rfl (ih x17 a2 h9)
        refine zS_ite (fun ht => ?_) (fun _ => zS_none)
        refine s_callF (pc := 25) (np := 0) (as := []) (rest := []) dX2_bills_25 ht (q := (RJ22, TJ22, 5)) rfl (c_J22_next (by decide) a2 h7) ⟨_, _, _, q832⟩ rfl rfl q670 (by decide +kernel) q830 q828 rfl (by decide) (zkR (fun r8 h9 => ?_)) zxo
        refine s_cast (pc := 30) dX2_bills_30 q836 zcs_FloatingDock_Ship ?_
        refine s_ast_n (pc := 33) (L2 := [(1, .int a1), (2, va_rf a2)]) [0, 1] dX2_bills_33 rfl (by decide) rfl rfl (zcB (j := 1) rfl (zcat_rf a2) rfl) ?_
        refine s_iload_n (pc := 34) 1 dX2_bills_34 rfl rfl ?_
        refine s_aload_n (pc := 35) 0 dX2_bills_35 rfl rfl ?_
        refine s_gI (pc := 36) dX2_bills_36 gf_X2_170 (fun x18 => ?_)
        refine s_iadd (pc := 39) dX2_bills_39 ?_
        refine s_nm (pc := 40) Value.int (fun x19 => ?_)
        refine s_ist_n (pc := 40) (L2 := [(2, va_rf a2)]) [2] dX2_bills_40 rfl (by decide) rfl rfl (zcA rfl) ?_
        refine s_goto (pc := 41) (tgt := 15) dX2_bills_41 (by decide) ?_
        exact s_sub (pc := 15) [0, 1] rfl (ih x19 a2 h9)
    refine zS_ite (fun ht => ?_) (fun _ => ?_)
    · refine s_callF (pc := 16) (np := 0) (as := []) (rest := []) dX2_bills_16 ht (q := (RJ15, TJ15, 4)) rfl (c_J15_hasNext (by decide) a2 h) ⟨_, _, _, q653⟩ rfl rfl q629 (by decide +kernel) q651 q649 rfl (by decide) (zkI (fun x6 h7 => ?_)) zxo
      refine s_if_eq (pc := 21) (tgt := 44) dX2_bills_21 (by decide) (fun _ => ?_) (fun _ => ?_)
      · refine s_iload_n (pc := 44) 0 dX2_bills_44 rfl rfl ?_
        exact s_iret (pc := 45) dX2_bills_45 rfl
      · refine s_aload_n (pc := 24) 1 dX2_bills_24 rfl rfl ?_
        refine zS_ite (fun ht => ?_) (fun _ => ?_)
        · refine s_callF (pc := 25) (np := 0) (as := []) (rest := []) dX2_bills_25 ht (q := (RX9, TX9, 2)) rfl (c_X9_next (by decide) a2 h7) ⟨_, _, _, q677⟩ rfl rfl q670 (by decide +kernel) q675 q673 rfl (by decide) (zkR (fun r20 h21 => ?_)) zxo
          refine s_cast (pc := 30) dX2_bills_30 q836 zcs_FloatingDock_Ship ?_
          refine s_ast_n (pc := 33) (L2 := [(1, .int a1), (2, va_rf a2)]) [0, 1] dX2_bills_33 rfl (by decide) rfl rfl (zcB (j := 1) rfl (zcat_rf a2) rfl) ?_
          refine s_iload_n (pc := 34) 1 dX2_bills_34 rfl rfl ?_
          refine s_aload_n (pc := 35) 0 dX2_bills_35 rfl rfl ?_
          refine s_gI (pc := 36) dX2_bills_36 gf_X2_170 (fun x22 => ?_)
          refine s_iadd (pc := 39) dX2_bills_39 ?_
          refine s_nm (pc := 40) Value.int (fun x23 => ?_)
          refine s_ist_n (pc := 40) (L2 := [(2, va_rf a2)]) [2] dX2_bills_40 rfl (by decide) rfl rfl (zcA rfl) ?_
          refine s_goto (pc := 41) (tgt := 15) dX2_bills_41 (by decide) ?_
          exact s_sub (pc := 15) [0, 1] rfl (ih x23 a2 h21)
        refine zS_ite (fun ht => ?_) (fun _ => ?_)
        · refine s_callF (pc := 25) (np := 0) (as := []) (rest := []) dX2_bills_25 ht (q := (RJ15, TJ15, 4)) rfl (c_J15_next (by decide) a2 h7) ⟨_, _, _, q788⟩ rfl rfl q670 (by decide +kernel) q786 q784 rfl (by decide) (zkR (fun r20 h21 => ?_)) zxo
          refine s_cast (pc := 30) dX2_bills_30 q836 zcs_FloatingDock_Ship ?_
          refine s_ast_n (pc := 33) (L2 := [(1, .int a1), (2, va_rf a2)]) [0, 1] dX2_bills_33 rfl (by decide) rfl rfl (zcB (j := 1) rfl (zcat_rf a2) rfl) ?_
          refine s_iload_n (pc := 34) 1 dX2_bills_34 rfl rfl ?_
          refine s_aload_n (pc := 35) 0 dX2_bills_35 rfl rfl ?_
          refine s_gI (pc := 36) dX2_bills_36 gf_X2_170 (fun x24 => ?_)
          refine s_iadd (pc := 39) dX2_bills_39 ?_
          refine s_nm (pc := 40) Value.int (fun x25 => ?_)
          refine s_ist_n (pc := 40) (L2 := [(2, va_rf a2)]) [2] dX2_bills_40 rfl (by decide) rfl rfl (zcA rfl) ?_
          refine s_goto (pc := 41) (tgt := 15) dX2_bills_41 (by decide) ?_
          exact s_sub (pc := 15) [0, 1] rfl (ih x25 a2 h21)
        refine zS_ite (fun ht => ?_) (fun _ => ?_)
        · refine s_callF (pc := 25) (np := 0) (as := []) (rest := []) dX2_bills_25 ht (q := (RJ17, TJ17, 5)) rfl (c_J17_next (by decide) a2 h7) ⟨_, _, _, q799⟩ rfl rfl q670 (by decide +kernel) q797 q795 rfl (by decide) (zkR (fun r20 h21 => ?_)) zxo
          refine s_cast (pc := 30) dX2_bills_30 q836 zcs_FloatingDock_Ship ?_
          refine s_ast_n (pc := 33) (L2 := [(1, .int a1), (2, va_rf a2)]) [0, 1] dX2_bills_33 rfl (by decide) rfl rfl (zcB (j := 1) rfl (zcat_rf a2) rfl) ?_
          refine s_iload_n (pc := 34) 1 dX2_bills_34 rfl rfl ?_
          refine s_aload_n (pc := 35) 0 dX2_bills_35 rfl rfl ?_
          refine s_gI (pc := 36) dX2_bills_36 gf_X2_170 (fun x26 => ?_)
          refine s_iadd (pc := 39) dX2_bills_39 ?_
          refine s_nm (pc := 40) Value.int (fun x27 => ?_)
          refine s_ist_n (pc := 40) (L2 := [(2, va_rf a2)]) [2] dX2_bills_40 rfl (by decide) rfl rfl (zcA rfl) ?_
          refine s_goto (pc := 41) (tgt := 15) dX2_bills_41 (by decide) ?_
          exact s_sub (pc := 15) [0, 1] rfl (ih x27 a2 h21)
        refine zS_ite (fun ht => ?_) (fun _ => ?_)
        · refine s_callF (pc := 25) (np := 0) (as := []) (rest := []) dX2_bills_25 ht (q := (RJ21, TJ21, 5)) rfl (c_J21_next (by decide) a2 h7) ⟨_, _, _, q812⟩ rfl rfl q670 (by decide +kernel) q810 q808 rfl (by decide) (zkR (fun r20 h21 => ?_)) zxo
          refine s_cast (pc := 30) dX2_bills_30 q836 zcs_FloatingDock_Ship ?_
          refine s_ast_n (pc := 33) (L2 := [(1, .int a1), (2, va_rf a2)]) [0, 1] dX2_bills_33 rfl (by decide) rfl rfl (zcB (j := 1) rfl (zcat_rf a2) rfl) ?_
          refine s_iload_n (pc := 34) 1 dX2_bills_34 rfl rfl ?_
          refine s_aload_n (pc := 35) 0 dX2_bills_35 rfl rfl ?_
          refine s_gI (pc := 36) dX2_bills_36 gf_X2_170 (fun x28 => ?_)
          refine s_iadd (pc := 39) dX2_bills_39 ?_
          refine s_nm (pc := 40) Value.int (fun x29 => ?_)
          refine s_ist_n (pc := 40) (L2 := [(2, va_rf a2)]) [2] dX2_bills_40 rfl (by decide) rfl rfl (zcA rfl) ?_
          refine s_goto (pc := 41) (tgt := 15) dX2_bills_41 (by decide) ?_
          exact s_sub (pc := 15) [0, 1] rfl (ih x29 a2 h21)
        refine zS_ite (fun ht => ?_) (fun _ => zS_none)
        refine s_callF (pc := 25) (np := 0) (as := []) (rest := []) dX2_bills_25 ht (q := (RJ22, TJ22, 5)) rfl (c_J22_next (by decide) a2 h7) ⟨_, _, _, q832⟩ rfl rfl q670 (by decide +kernel) q830 q828 rfl (by decide) (zkR (fun r20 h21 => ?_)) zxo
        refine s_cast (pc := 30) dX2_bills_30 q836 zcs_FloatingDock_Ship ?_
        refine s_ast_n (pc := 33) (L2 := [(1, .int a1), (2, va_rf a2)]) [0, 1] dX2_bills_33 rfl (by decide) rfl rfl (zcB (j := 1) rfl (zcat_rf a2) rfl) ?_
        refine s_iload_n (pc := 34) 1 dX2_bills_34 rfl rfl ?_
        refine s_aload_n (pc := 35) 0 dX2_bills_35 rfl rfl ?_
        refine s_gI (pc := 36) dX2_bills_36 gf_X2_170 (fun x30 => ?_)
        refine s_iadd (pc := 39) dX2_bills_39 ?_
        refine s_nm (pc := 40) Value.int (fun x31 => ?_)
        refine s_ist_n (pc := 40) (L2 := [(2, va_rf a2)]) [2] dX2_bills_40 rfl (by decide) rfl rfl (zcA rfl) ?_
        refine s_goto (pc := 41) (tgt := 15) dX2_bills_41 (by decide) ?_
        exact s_sub (pc := 15) [0, 1] rfl (ih x31 a2 h21)
    refine zS_ite (fun ht => ?_) (fun _ => ?_)
    · refine s_callF (pc := 16) (np := 0) (as := []) (rest := []) dX2_bills_16 ht (q := (RJ17, TJ17, 5)) rfl (c_J16_hasNext (by decide) a2 h) ⟨_, _, _, q659⟩ rfl rfl q629 (by decide +kernel) q657 q655 rfl (by decide) (zkI (fun x6 h7 => ?_)) zxo
      refine s_if_eq (pc := 21) (tgt := 44) dX2_bills_21 (by decide) (fun _ => ?_) (fun _ => ?_)
      · refine s_iload_n (pc := 44) 0 dX2_bills_44 rfl rfl ?_
        exact s_iret (pc := 45) dX2_bills_45 rfl
      · refine s_aload_n (pc := 24) 1 dX2_bills_24 rfl rfl ?_
        refine zS_ite (fun ht => ?_) (fun _ => ?_)
        · refine s_callF (pc := 25) (np := 0) (as := []) (rest := []) dX2_bills_25 ht (q := (RX9, TX9, 2)) rfl (c_X9_next (by decide) a2 h7) ⟨_, _, _, q677⟩ rfl rfl q670 (by decide +kernel) q675 q673 rfl (by decide) (zkR (fun r32 h33 => ?_)) zxo
          refine s_cast (pc := 30) dX2_bills_30 q836 zcs_FloatingDock_Ship ?_
          refine s_ast_n (pc := 33) (L2 := [(1, .int a1), (2, va_rf a2)]) [0, 1] dX2_bills_33 rfl (by decide) rfl rfl (zcB (j := 1) rfl (zcat_rf a2) rfl) ?_
          refine s_iload_n (pc := 34) 1 dX2_bills_34 rfl rfl ?_
          refine s_aload_n (pc := 35) 0 dX2_bills_35 rfl rfl ?_
          refine s_gI (pc := 36) dX2_bills_36 gf_X2_170 (fun x34 => ?_)
          refine s_iadd (pc := 39) dX2_bills_39 ?_
          refine s_nm (pc := 40) Value.int (fun x35 => ?_)
          refine s_ist_n (pc := 40) (L2 := [(2, va_rf a2)]) [2] dX2_bills_40 rfl (by decide) rfl rfl (zcA rfl) ?_
          refine s_goto (pc := 41) (tgt := 15) dX2_bills_41 (by decide) ?_
          exact s_sub (pc := 15) [0, 1] rfl (ih x35 a2 h33)
        refine zS_ite (fun ht => ?_) (fun _ => ?_)
        · refine s_callF (pc := 25) (np := 0) (as := []) (rest := []) dX2_bills_25 ht (q := (RJ15, TJ15, 4)) rfl (c_J15_next (by decide) a2 h7) ⟨_, _, _, q788⟩ rfl rfl q670 (by decide +kernel) q786 q784 rfl (by decide) (zkR (fun r32 h33 => ?_)) zxo
          refine s_cast (pc := 30) dX2_bills_30 q836 zcs_FloatingDock_Ship ?_
          refine s_ast_n (pc := 33) (L2 := [(1, .int a1), (2, va_rf a2)]) [0, 1] dX2_bills_33 rfl (by decide) rfl rfl (zcB (j := 1) rfl (zcat_rf a2) rfl) ?_
          refine s_iload_n (pc := 34) 1 dX2_bills_34 rfl rfl ?_
          refine s_aload_n (pc := 35) 0 dX2_bills_35 rfl rfl ?_
          refine s_gI (pc := 36) dX2_bills_36 gf_X2_170 (fun x36 => ?_)
          refine s_iadd (pc := 39) dX2_bills_39 ?_
          refine s_nm (pc := 40) Value.int (fun x37 => ?_)
          refine s_ist_n (pc := 40) (L2 := [(2, va_rf a2)]) [2] dX2_bills_40 rfl (by decide) rfl rfl (zcA rfl) ?_
          refine s_goto (pc := 41) (tgt := 15) dX2_bills_41 (by decide) ?_
          exact s_sub (pc := 15) [0, 1] rfl (ih x37 a2 h33)
        refine zS_ite (fun ht => ?_) (fun _ => ?_)
        · refine s_callF (pc := 25) (np := 0) (as := []) (rest := []) dX2_bills_25 ht (q := (RJ17, TJ17, 5)) rfl (c_J17_next (by decide) a2 h7) ⟨_, _, _, q799⟩ rfl rfl q670 (by decide +kernel) q797 q795 rfl (by decide) (zkR (fun r32 h33 => ?_)) zxo
          refine s_cast (pc := 30) dX2_bills_30 q836 zcs_FloatingDock_Ship ?_
          refine s_ast_n (pc := 33) (L2 := [(1, .int a1), (2, va_rf a2)]) [0, 1] dX2_bills_33 rfl (by decide) rfl rfl (zcB (j := 1) rfl (zcat_rf a2) rfl) ?_
          refine s_iload_n (pc := 34) 1 dX2_bills_34 rfl rfl ?_
          refine s_aload_n (pc := 35) 0 dX2_bills_35 rfl rfl ?_
          refine s_gI (pc := 36) dX2_bills_36 gf_X2_170 (fun x38 => ?_)
          refine s_iadd (pc := 39) dX2_bills_39 ?_
          refine s_nm (pc := 40) Value.int (fun x39 => ?_)
          refine s_ist_n (pc := 40) (L2 := [(2, va_rf a2)]) [2] dX2_bills_40 rfl (by decide) rfl rfl (zcA rfl) ?_
          refine s_goto (pc := 41) (tgt := 15) dX2_bills_41 (by decide) ?_
          exact s_sub (pc := 15) [0, 1] rfl (ih x39 a2 h33)
        refine zS_ite (fun ht => ?_) (fun _ => ?_)
        · refine s_callF (pc := 25) (np := 0) (as := []) (rest := []) dX2_bills_25 ht (q := (RJ21, TJ21, 5)) rfl (c_J21_next (by decide) a2 h7) ⟨_, _, _, q812⟩ rfl rfl q670 (by decide +kernel) q810 q808 rfl (by decide) (zkR (fun r32 h33 => ?_)) zxo
          refine s_cast (pc := 30) dX2_bills_30 q836 zcs_FloatingDock_Ship ?_
          refine s_ast_n (pc := 33) (L2 := [(1, .int a1), (2, va_rf a2)]) [0, 1] dX2_bills_33 rfl (by decide) rfl rfl (zcB (j := 1) rfl (zcat_rf a2) rfl) ?_
          refine s_iload_n (pc := 34) 1 dX2_bills_34 rfl rfl ?_
          refine s_aload_n (pc := 35) 0 dX2_bills_35 rfl rfl ?_
          refine s_gI (pc := 36) dX2_bills_36 gf_X2_170 (fun x40 => ?_)
          refine s_iadd (pc := 39) dX2_bills_39 ?_
          refine s_nm (pc := 40) Value.int (fun x41 => ?_)
          refine s_ist_n (pc := 40) (L2 := [(2, va_rf a2)]) [2] dX2_bills_40 rfl (by decide) rfl rfl (zcA rfl) ?_
          refine s_goto (pc := 41) (tgt := 15) dX2_bills_41 (by decide) ?_
          exact s_sub (pc := 15) [0, 1] rfl (ih x41 a2 h33)
        refine zS_ite (fun ht => ?_) (fun _ => zS_none)
        refine s_callF (pc := 25) (np := 0) (as := []) (rest := []) dX2_bills_25 ht (q := (RJ22, TJ22, 5)) rfl (c_J22_next (by decide) a2 h7) ⟨_, _, _, q832⟩ rfl rfl q670 (by decide +kernel) q830 q828 rfl (by decide) (zkR (fun r32 h33 => ?_)) zxo
        refine s_cast (pc := 30) dX2_bills_30 q836 zcs_FloatingDock_Ship ?_
        refine s_ast_n (pc := 33) (L2 := [(1, .int a1), (2, va_rf a2)]) [0, 1] dX2_bills_33 rfl (by decide) rfl rfl (zcB (j := 1) rfl (zcat_rf a2) rfl) ?_
        refine s_iload_n (pc := 34) 1 dX2_bills_34 rfl rfl ?_
        refine s_aload_n (pc := 35) 0 dX2_bills_35 rfl rfl ?_
        refine s_gI (pc := 36) dX2_bills_36 gf_X2_170 (fun x42 => ?_)
        refine s_iadd (pc := 39) dX2_bills_39 ?_
        refine s_nm (pc := 40) Value.int (fun x43 => ?_)
        refine s_ist_n (pc := 40) (L2 := [(2, va_rf a2)]) [2] dX2_bills_40 rfl (by decide) rfl rfl (zcA rfl) ?_
        refine s_goto (pc := 41) (tgt := 15) dX2_bills_41 (by decide) ?_
        exact s_sub (pc := 15) [0, 1] rfl (ih x43 a2 h33)
    refine zS_ite (fun ht => ?_) (fun _ => ?_)
    · refine s_callF (pc := 16) (np := 0) (as := []) (rest := []) dX2_bills_16 ht (q := (RJ21, TJ21, 5)) rfl (c_J20_hasNext (by decide) a2 h) ⟨_, _, _, q665⟩ rfl rfl q629 (by decide +kernel) q663 q661 rfl (by decide) (zkI (fun x6 h7 => ?_)) zxo
      refine s_if_eq (pc := 21) (tgt := 44) dX2_bills_21 (by decide) (fun _ => ?_) (fun _ => ?_)
      · refine s_iload_n (pc := 44) 0 dX2_bills_44 rfl rfl ?_
        exact s_iret (pc := 45) dX2_bills_45 rfl
      · refine s_aload_n (pc := 24) 1 dX2_bills_24 rfl rfl ?_
        refine zS_ite (fun ht => ?_) (fun _ => ?_)
        · refine s_callF (pc := 25) (np := 0) (as := []) (rest := []) dX2_bills_25 ht (q := (RX9, TX9, 2)) rfl (c_X9_next (by decide) a2 h7) ⟨_, _, _, q677⟩ rfl rfl q670 (by decide +kernel) q675 q673 rfl (by decide) (zkR (fun r44 h45 => ?_)) zxo
          refine s_cast (pc := 30) dX2_bills_30 q836 zcs_FloatingDock_Ship ?_
          refine s_ast_n (pc := 33) (L2 := [(1, .int a1), (2, va_rf a2)]) [0, 1] dX2_bills_33 rfl (by decide) rfl rfl (zcB (j := 1) rfl (zcat_rf a2) rfl) ?_
          refine s_iload_n (pc := 34) 1 dX2_bills_34 rfl rfl ?_
          refine s_aload_n (pc := 35) 0 dX2_bills_35 rfl rfl ?_
          refine s_gI (pc := 36) dX2_bills_36 gf_X2_170 (fun x46 => ?_)
          refine s_iadd (pc := 39) dX2_bills_39 ?_
          refine s_nm (pc := 40) Value.int (fun x47 => ?_)
          refine s_ist_n (pc := 40) (L2 := [(2, va_rf a2)]) [2] dX2_bills_40 rfl (by decide) rfl rfl (zcA rfl) ?_
          refine s_goto (pc := 41) (tgt := 15) dX2_bills_41 (by decide) ?_
          exact s_sub (pc := 15) [0, 1] rfl (ih x47 a2 h45)
        refine zS_ite (fun ht => ?_) (fun _ => ?_)
        · refine s_callF (pc := 25) (np := 0) (as := []) (rest := []) dX2_bills_25 ht (q := (RJ15, TJ15, 4)) rfl (c_J15_next (by decide) a2 h7) ⟨_, _, _, q788⟩ rfl rfl q670 (by decide +kernel) q786 q784 rfl (by decide) (zkR (fun r44 h45 => ?_)) zxo
          refine s_cast (pc := 30) dX2_bills_30 q836 zcs_FloatingDock_Ship ?_
          refine s_ast_n (pc := 33) (L2 := [(1, .int a1), (2, va_rf a2)]) [0, 1] dX2_bills_33 rfl (by decide) rfl rfl (zcB (j := 1) rfl (zcat_rf a2) rfl) ?_
          refine s_iload_n (pc := 34) 1 dX2_bills_34 rfl rfl ?_
          refine s_aload_n (pc := 35) 0 dX2_bills_35 rfl rfl ?_
          refine s_gI (pc := 36) dX2_bills_36 gf_X2_170 (fun x48 => ?_)
          refine s_iadd (pc := 39) dX2_bills_39 ?_
          refine s_nm (pc := 40) Value.int (fun x49 => ?_)
          refine s_ist_n (pc := 40) (L2 := [(2, va_rf a2)]) [2] dX2_bills_40 rfl (by decide) rfl rfl (zcA rfl) ?_
          refine s_goto (pc := 41) (tgt := 15) dX2_bills_41 (by decide) ?_
          exact s_sub (pc := 15) [0, 1] rfl (ih x49 a2 h45)
        refine zS_ite (fun ht => ?_) (fun _ => ?_)
        · refine s_callF (pc := 25) (np := 0) (as := []) (rest := []) dX2_bills_25 ht (q := (RJ17, TJ17, 5)) rfl (c_J17_next (by decide) a2 h7) ⟨_, _, _, q799⟩ rfl rfl q670 (by decide +kernel) q797 q795 rfl (by decide) (zkR (fun r44 h45 => ?_)) zxo
          refine s_cast (pc := 30) dX2_bills_30 q836 zcs_FloatingDock_Ship ?_
          refine s_ast_n (pc := 33) (L2 := [(1, .int a1), (2, va_rf a2)]) [0, 1] dX2_bills_33 rfl (by decide) rfl rfl (zcB (j := 1) rfl (zcat_rf a2) rfl) ?_
          refine s_iload_n (pc := 34) 1 dX2_bills_34 rfl rfl ?_
          refine s_aload_n (pc := 35) 0 dX2_bills_35 rfl rfl ?_
          refine s_gI (pc := 36) dX2_bills_36 gf_X2_170 (fun x50 => ?_)
          refine s_iadd (pc := 39) dX2_bills_39 ?_
          refine s_nm (pc := 40) Value.int (fun x51 => ?_)
          refine s_ist_n (pc := 40) (L2 := [(2, va_rf a2)]) [2] dX2_bills_40 rfl (by decide) rfl rfl (zcA rfl) ?_
          refine s_goto (pc := 41) (tgt := 15) dX2_bills_41 (by decide) ?_
          exact s_sub (pc := 15) [0, 1] rfl (ih x51 a2 h45)
        refine zS_ite (fun ht => ?_) (fun _ => ?_)
        · refine s_callF (pc := 25) (np := 0) (as := []) (rest := []) dX2_bills_25 ht (q := (RJ21, TJ21, 5)) rfl (c_J21_next (by decide) a2 h7) ⟨_, _, _, q812⟩ rfl rfl q670 (by decide +kernel) q810 q808 rfl (by decide) (zkR (fun r44 h45 => ?_)) zxo
          refine s_cast (pc := 30) dX2_bills_30 q836 zcs_FloatingDock_Ship ?_
          refine s_ast_n (pc := 33) (L2 := [(1, .int a1), (2, va_rf a2)]) [0, 1] dX2_bills_33 rfl (by decide) rfl rfl (zcB (j := 1) rfl (zcat_rf a2) rfl) ?_
          refine s_iload_n (pc := 34) 1 dX2_bills_34 rfl rfl ?_
          refine s_aload_n (pc := 35) 0 dX2_bills_35 rfl rfl ?_
          refine s_gI (pc := 36) dX2_bills_36 gf_X2_170 (fun x52 => ?_)
          refine s_iadd (pc := 39) dX2_bills_39 ?_
          refine s_nm (pc := 40) Value.int (fun x53 => ?_)
          refine s_ist_n (pc := 40) (L2 := [(2, va_rf a2)]) [2] dX2_bills_40 rfl (by decide) rfl rfl (zcA rfl) ?_
          refine s_goto (pc := 41) (tgt := 15) dX2_bills_41 (by decide) ?_
          exact s_sub (pc := 15) [0, 1] rfl (ih x53 a2 h45)
        refine zS_ite (fun ht => ?_) (fun _ => zS_none)
        refine s_callF (pc := 25) (np := 0) (as := []) (rest := []) dX2_bills_25 ht (q := (RJ22, TJ22, 5)) rfl (c_J22_next (by decide) a2 h7) ⟨_, _, _, q832⟩ rfl rfl q670 (by decide +kernel) q830 q828 rfl (by decide) (zkR (fun r44 h45 => ?_)) zxo
        refine s_cast (pc := 30) dX2_bills_30 q836 zcs_FloatingDock_Ship ?_
        refine s_ast_n (pc := 33) (L2 := [(1, .int a1), (2, va_rf a2)]) [0, 1] dX2_bills_33 rfl (by decide) rfl rfl (zcB (j := 1) rfl (zcat_rf a2) rfl) ?_
        refine s_iload_n (pc := 34) 1 dX2_bills_34 rfl rfl ?_
        refine s_aload_n (pc := 35) 0 dX2_bills_35 rfl rfl ?_
        refine s_gI (pc := 36) dX2_bills_36 gf_X2_170 (fun x54 => ?_)
        refine s_iadd (pc := 39) dX2_bills_39 ?_
        refine s_nm (pc := 40) Value.int (fun x55 => ?_)
        refine s_ist_n (pc := 40) (L2 := [(2, va_rf a2)]) [2] dX2_bills_40 rfl (by decide) rfl rfl (zcA rfl) ?_
        refine s_goto (pc := 41) (tgt := 15) dX2_bills_41 (by decide) ?_
        exact s_sub (pc := 15) [0, 1] rfl (ih x55 a2 h45)
    refine zS_ite (fun ht => ?_) (fun _ => zS_none)
    refine s_callF (pc := 16) (np := 0) (as := []) (rest := []) dX2_bills_16 ht (q := (RJ22, TJ22, 5)) rfl (c_J20_hasNext (by decide) a2 h) ⟨_, _, _, q665⟩ rfl rfl q629 (by decide +kernel) q663 q667 rfl (by decide) (zkI (fun x6 h7 => ?_)) zxo
    refine s_if_eq (pc := 21) (tgt := 44) dX2_bills_21 (by decide) (fun _ => ?_) (fun _ => ?_)
    · refine s_iload_n (pc := 44) 0 dX2_bills_44 rfl rfl ?_
      exact s_iret (pc := 45) dX2_bills_45 rfl
    · refine s_aload_n (pc := 24) 1 dX2_bills_24 rfl rfl ?_
      refine zS_ite (fun ht => ?_) (fun _ => ?_)
      · refine s_callF (pc := 25) (np := 0) (as := []) (rest := []) dX2_bills_25 ht (q := (RX9, TX9, 2)) rfl (c_X9_next (by decide) a2 h7) ⟨_, _, _, q677⟩ rfl rfl q670 (by decide +kernel) q675 q673 rfl (by decide) (zkR (fun r56 h57 => ?_)) zxo
        refine s_cast (pc := 30) dX2_bills_30 q836 zcs_FloatingDock_Ship ?_
        refine s_ast_n (pc := 33) (L2 := [(1, .int a1), (2, va_rf a2)]) [0, 1] dX2_bills_33 rfl (by decide) rfl rfl (zcB (j := 1) rfl (zcat_rf a2) rfl) ?_
        refine s_iload_n (pc := 34) 1 dX2_bills_34 rfl rfl ?_
        refine s_aload_n (pc := 35) 0 dX2_bills_35 rfl rfl ?_
        refine s_gI (pc := 36) dX2_bills_36 gf_X2_170 (fun x58 => ?_)
        refine s_iadd (pc := 39) dX2_bills_39 ?_
        refine s_nm (pc := 40) Value.int (fun x59 => ?_)
        refine s_ist_n (pc := 40) (L2 := [(2, va_rf a2)]) [2] dX2_bills_40 rfl (by decide) rfl rfl (zcA rfl) ?_
        refine s_goto (pc := 41) (tgt := 15) dX2_bills_41 (by decide) ?_
        exact s_sub (pc := 15) [0, 1] rfl (ih x59 a2 h57)
      refine zS_ite (fun ht => ?_) (fun _ => ?_)
      · refine s_callF (pc := 25) (np := 0) (as := []) (rest := []) dX2_bills_25 ht (q := (RJ15, TJ15, 4)) rfl (c_J15_next (by decide) a2 h7) ⟨_, _, _, q788⟩ rfl rfl q670 (by decide +kernel) q786 q784 rfl (by decide) (zkR (fun r56 h57 => ?_)) zxo
        refine s_cast (pc := 30) dX2_bills_30 q836 zcs_FloatingDock_Ship ?_
        refine s_ast_n (pc := 33) (L2 := [(1, .int a1), (2, va_rf a2)]) [0, 1] dX2_bills_33 rfl (by decide) rfl rfl (zcB (j := 1) rfl (zcat_rf a2) rfl) ?_
        refine s_iload_n (pc := 34) 1 dX2_bills_34 rfl rfl ?_
        refine s_aload_n (pc := 35) 0 dX2_bills_35 rfl rfl ?_
        refine s_gI (pc := 36) dX2_bills_36 gf_X2_170 (fun x60 => ?_)
        refine s_iadd (pc := 39) dX2_bills_39 ?_
        refine s_nm (pc := 40) Value.int (fun x61 => ?_)
        refine s_ist_n (pc := 40) (L2 := [(2, va_rf a2)]) [2] dX2_bills_40 rfl (by decide) rfl rfl (zcA rfl) ?_
        refine s_goto (pc := 41) (tgt := 15) dX2_bills_41 (by decide) ?_
        exact s_sub (pc := 15) [0, 1] rfl (ih x61 a2 h57)
      refine zS_ite (fun ht => ?_) (fun _ => ?_)
      · refine s_callF (pc := 25) (np := 0) (as := []) (rest := []) dX2_bills_25 ht (q := (RJ17, TJ17, 5)) rfl (c_J17_next (by decide) a2 h7) ⟨_, _, _, q799⟩ rfl rfl q670 (by decide +kernel) q797 q795 rfl (by decide) (zkR (fun r56 h57 => ?_)) zxo
        refine s_cast (pc := 30) dX2_bills_30 q836 zcs_FloatingDock_Ship ?_
        refine s_ast_n (pc := 33) (L2 := [(1, .int a1), (2, va_rf a2)]) [0, 1] dX2_bills_33 rfl (by decide) rfl rfl (zcB (j := 1) rfl (zcat_rf a2) rfl) ?_
        refine s_iload_n (pc := 34) 1 dX2_bills_34 rfl rfl ?_
        refine s_aload_n (pc := 35) 0 dX2_bills_35 rfl rfl ?_
        refine s_gI (pc := 36) dX2_bills_36 gf_X2_170 (fun x62 => ?_)
        refine s_iadd (pc := 39) dX2_bills_39 ?_
        refine s_nm (pc := 40) Value.int (fun x63 => ?_)
        refine s_ist_n (pc := 40) (L2 := [(2, va_rf a2)]) [2] dX2_bills_40 rfl (by decide) rfl rfl (zcA rfl) ?_
        refine s_goto (pc := 41) (tgt := 15) dX2_bills_41 (by decide) ?_
        exact s_sub (pc := 15) [0, 1] rfl (ih x63 a2 h57)
      refine zS_ite (fun ht => ?_) (fun _ => ?_)
      · refine s_callF (pc := 25) (np := 0) (as := []) (rest := []) dX2_bills_25 ht (q := (RJ21, TJ21, 5)) rfl (c_J21_next (by decide) a2 h7) ⟨_, _, _, q812⟩ rfl rfl q670 (by decide +kernel) q810 q808 rfl (by decide) (zkR (fun r56 h57 => ?_)) zxo
        refine s_cast (pc := 30) dX2_bills_30 q836 zcs_FloatingDock_Ship ?_
        refine s_ast_n (pc := 33) (L2 := [(1, .int a1), (2, va_rf a2)]) [0, 1] dX2_bills_33 rfl (by decide) rfl rfl (zcB (j := 1) rfl (zcat_rf a2) rfl) ?_
        refine s_iload_n (pc := 34) 1 dX2_bills_34 rfl rfl ?_
        refine s_aload_n (pc := 35) 0 dX2_bills_35 rfl rfl ?_
        refine s_gI (pc := 36) dX2_bills_36 gf_X2_170 (fun x64 => ?_)
        refine s_iadd (pc := 39) dX2_bills_39 ?_
        refine s_nm (pc := 40) Value.int (fun x65 => ?_)
        refine s_ist_n (pc := 40) (L2 := [(2, va_rf a2)]) [2] dX2_bills_40 rfl (by decide) rfl rfl (zcA rfl) ?_
        refine s_goto (pc := 41) (tgt := 15) dX2_bills_41 (by decide) ?_
        exact s_sub (pc := 15) [0, 1] rfl (ih x65 a2 h57)
      refine zS_ite (fun ht => ?_) (fun _ => zS_none)
      refine s_callF (pc := 25) (np := 0) (as := []) (rest := []) dX2_bills_25 ht (q := (RJ22, TJ22, 5)) rfl (c_J22_next (by decide) a2 h7) ⟨_, _, _, q832⟩ rfl rfl q670 (by decide +kernel) q830 q828 rfl (by decide) (zkR (fun r56 h57 => ?_)) zxo
      refine s_cast (pc := 30) dX2_bills_30 q836 zcs_FloatingDock_Ship ?_
      refine s_ast_n (pc := 33) (L2 := [(1, .int a1), (2, va_rf a2)]) [0, 1] dX2_bills_33 rfl (by decide) rfl rfl (zcB (j := 1) rfl (zcat_rf a2) rfl) ?_
      refine s_iload_n (pc := 34) 1 dX2_bills_34 rfl rfl ?_
      refine s_aload_n (pc := 35) 0 dX2_bills_35 rfl rfl ?_
      refine s_gI (pc := 36) dX2_bills_36 gf_X2_170 (fun x66 => ?_)
      refine s_iadd (pc := 39) dX2_bills_39 ?_
      refine s_nm (pc := 40) Value.int (fun x67 => ?_)
      refine s_ist_n (pc := 40) (L2 := [(2, va_rf a2)]) [2] dX2_bills_40 rfl (by decide) rfl rfl (zcA rfl) ?_
      refine s_goto (pc := 41) (tgt := 15) dX2_bills_41 (by decide) ?_
      exact s_sub (pc := 15) [0, 1] rfl (ih x67 a2 h57)
theorem w_X2_bills (v0 : Option Nat) (h : zH) : zS D z yX2_bills cX2_bills 4 (some .int) [] 10 h 0 [(0, va_rf v0)] [] (f_X2_bills v0 h) := by
  unfold f_X2_bills
  refine s_iconst (pc := 0) (v := 0) dX2_bills_0 (by decide) ?_
  refine s_ist_n (pc := 1) (L2 := [(0, va_rf v0)]) [0] dX2_bills_1 rfl (by decide) rfl rfl (zcB (j := 0) rfl (zcat_rf v0) rfl) ?_
  refine s_aload_n (pc := 2) 1 dX2_bills_2 rfl rfl ?_
  refine s_gR (pc := 3) dX2_bills_3 gf_X2_12 (fun r1 => ?_)
  refine zS_ite (fun ht => ?_) (fun _ => zS_none)
  refine s_callV (pc := 6) (np := 0) (as := []) (rest := []) dX2_bills_6 ht (q := (RJ2, TJ2, 12)) rfl (c_J2_values (by decide) r1 h) rfl rfl q413 q414 q415 rfl (by decide) (zkR (fun r2 h3 => ?_)) zxo
  refine zS_ite (fun ht => ?_) (fun _ => zS_none)
  refine s_callF (pc := 9) (np := 0) (as := []) (rest := []) dX2_bills_9 ht (q := (RJ13, TJ13, 2)) rfl (c_J13_iterator (by decide) r2 h3) ⟨_, _, _, q615⟩ rfl rfl q436 (by decide +kernel) q613 q611 rfl (by decide) (zkR (fun r4 h5 => ?_)) zxo
  refine s_ast_n (pc := 14) (L2 := [(1, .int 0)]) [0] dX2_bills_14 rfl (by decide) rfl rfl (zcB (j := 0) rfl rfl rfl) ?_
  exact s_sub (pc := 15) [1, 0] rfl (w_X2_bills_15 zfuel 0 r4 h5)
theorem c_X2_bills {d0 : Nat} (hd0 : 10 < d0) (v0 : Option Nat) (h : zH) : zCal D z d0 h yX2_bills [va_rf v0] (f_X2_bills v0 h) :=
  ⟨cX2_bills, 4, (some .int), [], 10, (show lv_args 0 [va_rf v0] = [(0, va_rf v0)] by simp [lv_args, zcat_rf, zcat_i, zcat_l, zcat_f, zcat_d]) ▸ w_X2_bills v0 h, (plainFor_of_name (by decide)), by simp [lg_sl, zcat_rf, zcat_i, zcat_l, zcat_f, zcat_d], q1485, q96, hd0, by decide, by decide⟩
theorem w_X1_billTotal (v0 : Option Nat) (h : zH) : zS D z yX1_billTotal cX1_billTotal 1 (some .int) [] 11 h 0 [(0, va_rf v0)] [] (f_X1_billTotal v0 h) := by
  unfold f_X1_billTotal
  refine s_aload_n (pc := 0) 0 dX1_billTotal_0 rfl rfl ?_
  refine s_gR (pc := 1) dX1_billTotal_1 gf_X1_30 (fun r1 => ?_)
  refine zS_ite (fun ht => ?_) (fun _ => zS_none)
  refine s_callV (pc := 4) (np := 0) (as := []) (rest := []) dX1_billTotal_4 ht (q := (RX2, TX2, 10)) rfl (c_X2_bills (by decide) r1 h) rfl rfl q1482 q1483 q1484 rfl (by decide) (zkI (fun x2 h3 => ?_)) zxo
  exact s_iret (pc := 7) dX1_billTotal_7 rfl
theorem c_X1_billTotal {d0 : Nat} (hd0 : 11 < d0) (v0 : Option Nat) (h : zH) : zCal D z d0 h yX1_billTotal [va_rf v0] (f_X1_billTotal v0 h) :=
  ⟨cX1_billTotal, 1, (some .int), [], 11, (show lv_args 0 [va_rf v0] = [(0, va_rf v0)] by simp [lv_args, zcat_rf, zcat_i, zcat_l, zcat_f, zcat_d]) ▸ w_X1_billTotal v0 h, (plainFor_of_name (by decide)), by simp [lg_sl, zcat_rf, zcat_i, zcat_l, zcat_f, zcat_d], q1481, q95, hd0, by decide, by decide⟩
theorem w_X1_billTotalByAccount (v0 : Option Nat) (h : zH) : zS D z yX1_billTotalByAccount cX1_billTotalByAccount 1 (some .int) [] 1 h 0 [(0, va_rf v0)] [] (f_X1_billTotalByAccount v0 h) := by
  unfold f_X1_billTotalByAccount
  refine s_aload_n (pc := 0) 0 dX1_billTotalByAccount_0 rfl rfl ?_
  refine s_gR (pc := 1) dX1_billTotalByAccount_1 gf_X1_30 (fun r1 => ?_)
  refine s_gI (pc := 4) dX1_billTotalByAccount_4 gf_X1_267 (fun x2 => ?_)
  refine s_aload_n (pc := 7) 0 dX1_billTotalByAccount_7 rfl rfl ?_
  refine s_gR (pc := 8) dX1_billTotalByAccount_8 gf_X1_30 (fun r3 => ?_)
  refine s_gI (pc := 11) dX1_billTotalByAccount_11 gf_X1_270 (fun x4 => ?_)
  refine s_isub (pc := 14) dX1_billTotalByAccount_14 ?_
  exact s_iret (pc := 15) dX1_billTotalByAccount_15 rfl
theorem c_X1_billTotalByAccount {d0 : Nat} (hd0 : 1 < d0) (v0 : Option Nat) (h : zH) : zCal D z d0 h yX1_billTotalByAccount [va_rf v0] (f_X1_billTotalByAccount v0 h) :=
  ⟨cX1_billTotalByAccount, 1, (some .int), [], 1, (show lv_args 0 [va_rf v0] = [(0, va_rf v0)] by simp [lv_args, zcat_rf, zcat_i, zcat_l, zcat_f, zcat_d]) ▸ w_X1_billTotalByAccount v0 h, (plainFor_of_name (by decide)), by simp [lg_sl, zcat_rf, zcat_i, zcat_l, zcat_f, zcat_d], q1489, q95, hd0, by decide, by decide⟩
theorem w_X1_paidTotal (v0 : Option Nat) (h : zH) : zS D z yX1_paidTotal cX1_paidTotal 1 (some .int) [] 1 h 0 [(0, va_rf v0)] [] (f_X1_paidTotal v0 h) := by
  unfold f_X1_paidTotal
  refine s_aload_n (pc := 0) 0 dX1_paidTotal_0 rfl rfl ?_
  refine s_gR (pc := 1) dX1_paidTotal_1 gf_X1_30 (fun r1 => ?_)
  refine s_gI (pc := 4) dX1_paidTotal_4 gf_X1_270 (fun x2 => ?_)
  exact s_iret (pc := 7) dX1_paidTotal_7 rfl
theorem c_X1_paidTotal {d0 : Nat} (hd0 : 1 < d0) (v0 : Option Nat) (h : zH) : zCal D z d0 h yX1_paidTotal [va_rf v0] (f_X1_paidTotal v0 h) :=
  ⟨cX1_paidTotal, 1, (some .int), [], 1, (show lv_args 0 [va_rf v0] = [(0, va_rf v0)] by simp [lv_args, zcat_rf, zcat_i, zcat_l, zcat_f, zcat_d]) ▸ w_X1_paidTotal v0 h, (plainFor_of_name (by decide)), by simp [lg_sl, zcat_rf, zcat_i, zcat_l, zcat_f, zcat_d], q1493, q95, hd0, by decide, by decide⟩
theorem w_X2_describe_61 (K10 : Option Nat → Option Nat → Int32 → zH → zO) (hK10 : ∀ (a0 : Option Nat) (a1 : Option Nat) (a2 : Int32) (h : zH), zS D z yX2_describe cX2_describe 4 (some (.object "java/lang/String")) [] 11 h 10 [(0, va_rf a0), (1, va_rf a1), (2, .int a2)] [] (K10 a0 a1 a2 h)) (a0 : Option Nat) (a1 : Option Nat) (a2 : Int32) (h : zH) : zS D z yX2_describe cX2_describe 4 (some (.object "java/lang/String")) [] 11 h 61 [(0, va_rf a0), (1, va_rf a1), (2, .int a2)] [] (f_X2_describe_61 K10 a0 a1 a2 h) := by
  unfold f_X2_describe_61
  refine s_inc (pc := 61) (v := 1) (L2 := [(0, va_rf a0), (1, va_rf a1)]) 2 [0, 1] dX2_describe_61 rfl (by decide) (by decide) rfl rfl (zcB (j := 1) rfl (zcat_rf a1) rfl) (fun x11 => ?_)
  refine s_goto (pc := 64) (tgt := 10) dX2_describe_64 (by decide) ?_
  exact s_sub (pc := 10) [1, 2, 0] rfl (hK10 a0 a1 x11 h)
theorem w_X2_describe_57 (K10 : Option Nat → Option Nat → Int32 → zH → zO) (hK10 : ∀ (a0 : Option Nat) (a1 : Option Nat) (a2 : Int32) (h : zH), zS D z yX2_describe cX2_describe 4 (some (.object "java/lang/String")) [] 11 h 10 [(0, va_rf a0), (1, va_rf a1), (2, .int a2)] [] (K10 a0 a1 a2 h)) (a0 : Option Nat) (a1 : Option Nat) (a2 : Int32) (s0 : Int32) (s1 : Option Nat) (h : zH) : zS D z yX2_describe cX2_describe 4 (some (.object "java/lang/String")) [] 11 h 57 [(0, va_rf a0), (1, va_rf a1), (2, .int a2)] [.int s0, va_rf s1] (f_X2_describe_57 K10 a0 a1 a2 s0 s1 h) := by
  unfold f_X2_describe_57
  refine zS_ite (fun ht => ?_) (fun _ => zS_none)
  refine s_callV (pc := 57) (np := 1) (as := [.int s0]) (rest := []) dX2_describe_57 ht (q := (RJ8, TJ8, 4)) rfl (c_J8_append_3 (by decide) s1 s0 h) rfl rfl q1906 q1907 q1908 rfl (by decide) (zkR (fun r12 h13 => ?_)) zxo
  refine s_pop (pc := 60) dX2_describe_60 (zcat_rf _) ?_
  exact s_sub (pc := 61) [0, 1, 2] rfl (w_X2_describe_61 K10 hK10 a0 a1 a2 h13)
theorem w_X2_describe_67 (a1 : Option Nat) (h : zH) : zS D z yX2_describe cX2_describe 4 (some (.object "java/lang/String")) [] 11 h 67 [(1, va_rf a1)] [] (f_X2_describe_67 a1 h) := by
  unfold f_X2_describe_67
  refine s_aload_n (pc := 67) 0 dX2_describe_67 rfl rfl ?_
  refine zS_ite (fun ht => ?_) (fun _ => zS_none)
  refine s_callV (pc := 68) (np := 0) (as := []) (rest := []) dX2_describe_68 ht (q := (RJ8, TJ8, 4)) rfl (c_J8_toString (by decide) a1 h) rfl rfl q1926 q1002 q1003 rfl (by decide) (zkR (fun r14 h15 => ?_)) zxo
  exact s_aret (pc := 71) dX2_describe_71 rfl (Or.inl ⟨_, rfl⟩)
theorem w_X2_describe_10 : ∀ (n : Nat) (a0 : Option Nat) (a1 : Option Nat) (a2 : Int32) (h : zH), zS D z yX2_describe cX2_describe 4 (some (.object "java/lang/String")) [] 11 h 10 [(0, va_rf a0), (1, va_rf a1), (2, .int a2)] [] (f_X2_describe_10 n a0 a1 a2 h) := by
  intro n
  induction n with
  | zero => intros; exact zS_none
  | succ n ih =>
    intro a0 a1 a2 h
    rw [f_X2_describe_10.eq_2]
    refine s_iload_n (pc := 10) 2 dX2_describe_10 rfl rfl ?_
    refine s_bipush (pc := 11) (v := 60) dX2_describe_11 (by decide) ?_
    refine s_icmp_ge (pc := 13) (tgt := 67) dX2_describe_13 (by decide) (fun _ => ?_) (fun _ => ?_)
    · exact s_sub (pc := 67) [1] rfl (w_X2_describe_67 a1 h)
    · refine s_aload_n (pc := 16) 0 dX2_describe_16 rfl rfl ?_
      refine s_iload_n (pc := 17) 2 dX2_describe_17 rfl rfl ?_
      refine zS_ite (fun ht => ?_) (fun _ => zS_none)
      refine s_callV (pc := 18) (np := 1) (as := [.int a2]) (rest := []) dX2_describe_18 ht (q := (RX2, TX2, 10)) rfl (c_X2_shipAtPosition (by decide) a0 a2 h) rfl rfl q1504 q1505 q1506 rfl (by decide) (zkR (fun r4 h5 => ?_)) zxo
      refine s_ast_n (pc := 21) (L2 := [(0, va_rf a0), (1, va_rf a1), (2, .int a2)]) [0, 1, 2] dX2_describe_21 rfl (by decide) rfl rfl (zcB (j := 2) rfl rfl rfl) ?_
      refine s_aload_n (pc := 22) 0 dX2_describe_22 rfl rfl ?_
      refine s_ifnull (pc := 23) (tgt := 41) dX2_describe_23 (by decide) (fun _ => ?_) (fun _ => ?_)
      · refine s_aload_n (pc := 41) 2 dX2_describe_41 rfl rfl ?_
        refine s_aload_n (pc := 42) 1 dX2_describe_42 rfl rfl ?_
        refine s_iload_n (pc := 43) 3 dX2_describe_43 rfl rfl ?_
        refine zS_ite (fun ht => ?_) (fun _ => zS_none)
        refine s_callV (pc := 44) (np := 1) (as := [.int a2]) (rest := [va_rf a1]) dX2_describe_44 ht (q := (RX2, TX2, 10)) rfl (c_X2_hasBlock (by decide) a0 a2 h5) rfl rfl q1521 q1522 q1523 rfl (by simp [zcat_rf, zcat_i, zcat_l, zcat_f, zcat_d]) (zkI (fun x6 h7 => ?_)) zxo
        refine s_if_eq (pc := 47) (tgt := 55) dX2_describe_47 (by decide) (fun _ => ?_) (fun _ => ?_)
        · refine s_bipush (pc := 55) (v := 46) dX2_describe_55 (by decide) ?_
          exact s_sub (pc := 57) [1, 2, 3] rfl (w_X2_describe_57 (f_X2_describe_10 n) ih a0 a1 a2 46 a1 h7)
        · refine s_bipush (pc := 50) (v := 94) dX2_describe_50 (by decide) ?_
          refine s_goto (pc := 52) (tgt := 57) dX2_describe_52 (by decide) ?_
          exact s_sub (pc := 57) [1, 2, 3] rfl (w_X2_describe_57 (f_X2_describe_10 n) ih a0 a1 a2 94 a1 h7)
      · refine s_aload_n (pc := 26) 2 dX2_describe_26 rfl rfl ?_
        refine s_aload_n (pc := 27) 0 dX2_describe_27 rfl rfl ?_
        refine s_gI (pc := 28) dX2_describe_28 gf_X2_58 (fun x8 => ?_)
        refine s_bipush (pc := 31) (v := 10) dX2_describe_31 (by decide) ?_
        refine s_irem (pc := 33) dX2_describe_33 (fun _ => ?_)
        refine zS_ite (fun ht => ?_) (fun _ => zS_none)
        refine s_callV (pc := 34) (np := 1) (as := [.int (x8 - x8 / 10 * 10)]) (rest := []) dX2_describe_34 ht (q := (RJ8, TJ8, 4)) rfl (c_J8_append_2 (by decide) a1 (x8 - x8 / 10 * 10) h5) rfl rfl q1520 q977 q978 rfl (by decide) (zkR (fun r9 h10 => ?_)) zxo
        refine s_pop (pc := 37) dX2_describe_37 (zcat_rf _) ?_
        refine s_goto (pc := 38) (tgt := 61) dX2_describe_38 (by decide) ?_
        exact s_sub (pc := 61) [1, 2, 3] rfl (w_X2_describe_61 (f_X2_describe_10 n) ih a0 a1 a2 h10)
theorem w_X2_describe (v0 : Option Nat) (h : zH) : zS D z yX2_describe cX2_describe 4 (some (.object "java/lang/String")) [] 11 h 0 [(0, va_rf v0)] [] (f_X2_describe v0 h) := by
  unfold f_X2_describe
  refine s_new (pc := 0) dX2_describe_0 nf_X2_357 (fun r1 h2 => ?_)
  refine s_dup (pc := 3) dX2_describe_3 (zcat_rf _) ?_
  refine zS_ite (fun hr => ?_) (fun _ => zS_none)
  refine s_callC (pc := 4) (np := 0) (as := []) (rest := [va_rf r1]) dX2_describe_4 hr (c_J8_init (by decide) r1 h2) ⟨_, _, q328⟩ rfl rfl rfl q1503 q327 rfl (by simp [zcat_rf, zcat_i, zcat_l, zcat_f, zcat_d]) (zkV (fun h3 => ?_)) zxo
  refine s_ast_n (pc := 7) (L2 := [(0, va_rf v0)]) [0] dX2_describe_7 rfl (by decide) rfl rfl (zcB (j := 0) rfl (zcat_rf v0) rfl) ?_
  refine s_iconst (pc := 8) (v := 0) dX2_describe_8 (by decide) ?_
  refine s_ist_n (pc := 9) (L2 := [(1, va_rf r1), (0, va_rf v0)]) [0, 1] dX2_describe_9 rfl (by decide) rfl rfl (zcB (j := 0) rfl (zcat_rf r1) rfl) ?_
  exact s_sub (pc := 10) [2, 1, 0] rfl (w_X2_describe_10 zfuel v0 r1 0 h3)
theorem c_X2_describe {d0 : Nat} (hd0 : 11 < d0) (v0 : Option Nat) (h : zH) : zCal D z d0 h yX2_describe [va_rf v0] (f_X2_describe v0 h) :=
  ⟨cX2_describe, 4, (some (.object "java/lang/String")), [], 11, (show lv_args 0 [va_rf v0] = [(0, va_rf v0)] by simp [lv_args, zcat_rf, zcat_i, zcat_l, zcat_f, zcat_d]) ▸ w_X2_describe v0 h, (plainFor_of_name (by decide)), by simp [lg_sl, zcat_rf, zcat_i, zcat_l, zcat_f, zcat_d], q1501, q96, hd0, by decide, by decide⟩
theorem w_X1_describeDock (v0 : Option Nat) (h : zH) : zS D z yX1_describeDock cX1_describeDock 1 (some .int) [] 12 h 0 [(0, va_rf v0)] [] (f_X1_describeDock v0 h) := by
  unfold f_X1_describeDock
  refine s_aload_n (pc := 0) 0 dX1_describeDock_0 rfl rfl ?_
  refine s_aload_n (pc := 1) 0 dX1_describeDock_1 rfl rfl ?_
  refine s_gR (pc := 2) dX1_describeDock_2 gf_X1_30 (fun r1 => ?_)
  refine zS_ite (fun ht => ?_) (fun _ => zS_none)
  refine s_callV (pc := 5) (np := 0) (as := []) (rest := [va_rf v0]) dX1_describeDock_5 ht (q := (RX2, TX2, 10)) rfl (c_X2_describe (by decide) r1 h) rfl rfl q1498 q1499 q1500 rfl (by simp [zcat_rf, zcat_i, zcat_l, zcat_f, zcat_d]) (zkR (fun r2 h3 => ?_)) zxo
  refine s_putR (pc := 8) dX1_describeDock_8 pf_X1_50 (fun h4 => ?_)
  refine s_aload_n (pc := 11) 0 dX1_describeDock_11 rfl rfl ?_
  refine s_gR (pc := 12) dX1_describeDock_12 gf_X1_50 (fun r5 => ?_)
  refine zS_ite (fun ht => ?_) (fun _ => zS_none)
  refine s_callV (pc := 15) (np := 0) (as := []) (rest := []) dX1_describeDock_15 ht (q := (RJ9, TJ9, 4)) rfl (c_J9_length (by decide) r5 h4) rfl rfl q1927 q934 q935 rfl (by decide) (zkI (fun x6 h7 => ?_)) zxo
  exact s_iret (pc := 18) dX1_describeDock_18 rfl
theorem c_X1_describeDock {d0 : Nat} (hd0 : 12 < d0) (v0 : Option Nat) (h : zH) : zCal D z d0 h yX1_describeDock [va_rf v0] (f_X1_describeDock v0 h) :=
  ⟨cX1_describeDock, 1, (some .int), [], 12, (show lv_args 0 [va_rf v0] = [(0, va_rf v0)] by simp [lv_args, zcat_rf, zcat_i, zcat_l, zcat_f, zcat_d]) ▸ w_X1_describeDock v0 h, (plainFor_of_name (by decide)), by simp [lg_sl, zcat_rf, zcat_i, zcat_l, zcat_f, zcat_d], q1497, q95, hd0, by decide, by decide⟩
theorem w_X1_takenShare (v0 : Option Nat) (h : zH) : zS D z yX1_takenShare cX1_takenShare 1 (some .float) [] 12 h 0 [(0, va_rf v0)] [] (f_X1_takenShare v0 h) := by
  unfold f_X1_takenShare
  refine s_bipush (pc := 0) (v := 60) dX1_takenShare_0 (by decide) ?_
  refine s_aload_n (pc := 2) 0 dX1_takenShare_2 rfl rfl ?_
  refine s_gR (pc := 3) dX1_takenShare_3 gf_X1_30 (fun r1 => ?_)
  refine zS_ite (fun ht => ?_) (fun _ => zS_none)
  refine s_callV (pc := 6) (np := 0) (as := []) (rest := [.int 60]) dX1_takenShare_6 ht (q := (RX2, TX2, 10)) rfl (c_X2_freeMetres (by decide) r1 h) rfl rfl q1444 q1445 q1446 rfl (by simp [zcat_rf, zcat_i, zcat_l, zcat_f, zcat_d]) (zkI (fun x2 h3 => ?_)) zxo
  refine s_isub (pc := 9) dX1_takenShare_9 ?_
  refine s_i2f (pc := 10) dX1_takenShare_10 ?_
  refine s_ldcwf (pc := 11) (v := 1114636288) dX1_takenShare_11 q1932 ?_
  refine s_fdiv (pc := 14) dX1_takenShare_14 (fun _ => ?_)
  exact s_fret (pc := 15) dX1_takenShare_15 rfl
theorem c_X1_takenShare {d0 : Nat} (hd0 : 12 < d0) (v0 : Option Nat) (h : zH) : zCal D z d0 h yX1_takenShare [va_rf v0] (f_X1_takenShare v0 h) :=
  ⟨cX1_takenShare, 1, (some .float), [], 12, (show lv_args 0 [va_rf v0] = [(0, va_rf v0)] by simp [lv_args, zcat_rf, zcat_i, zcat_l, zcat_f, zcat_d]) ▸ w_X1_takenShare v0 h, (plainFor_of_name (by decide)), by simp [lg_sl, zcat_rf, zcat_i, zcat_l, zcat_f, zcat_d], q1931, q95, hd0, by decide, by decide⟩
end WW8
