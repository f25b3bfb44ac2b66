set_option maxRecDepth 100000
theorem nf_X2_13 : zFn RX2 13 1 [.null, .null, .int 0, .int 0, .int 0, .int 0, .int 0, .int 0, .int 0, .int 0] := ⟨_, tyX2, rfl, q2707, q173, q96, in_X2, tyX2_ok, rfl⟩
theorem xf_X2_263_265 : zFx RX2 263 265 33 := ⟨RJ39, ["java/lang/RuntimeException", "java/lang/Exception"], TJ39, rfl, by decide +kernel, by decide +kernel, q2720, q141, by decide, lw_in _ [123, 729, 738, 749, 752, 754, 730, 731, 164, 165, 732, 737, 750, 767, 719, 768, 721, 769, 723, 733, 735, 725, 2301, 2302, 2303, 759, 759, 760, 761, 762, 762, 763, 764, 730, 2721, 2292, 2294, 745, 2295, 2296, 2297, 2298, 728, 727, 2299] (by decide +kernel) (by decide +kernel), zin_tbl _ [710, 712, 714, 2293] (by decide +kernel) (by decide +kernel), List.all_eq_true.mp (by decide +kernel)⟩
theorem pf_X9_1 : zFp RX9 1 [8] 1 "<init>" (.object "FloatingDock$Stretch") := ⟨_, _, _, .inl q1966, by decide +kernel, ztc ⟨_, tyX9, rfl, by decide, rfl, rfl, .inl rfl, in_X9, tyX9_ok, nmX9, .inr ⟨rfl, rfl, rfl, q1966⟩⟩ (zt0)⟩
theorem gf_X9_13 : zFg RX9 13 [2] 0 := ⟨_, _, _, .inr ⟨_, q1294⟩, ztc ⟨_, rfl, by decide, rfl, rfl, .inl rfl, in_X3⟩ (zt0)⟩
theorem nf_X3_26 : zFn RX3 26 8 [.int 0, .null] := ⟨_, tyX9, rfl, q1959, q1960, q152, in_X9, tyX9_ok, rfl⟩
theorem gf_X1_243 : zFg RX1 243 [5] 0 := ⟨_, _, _, .inr ⟨_, q2006⟩, ztc ⟨_, rfl, by decide, rfl, rfl, .inl rfl, in_X6⟩ (zt0)⟩
theorem pf_J7_15 {nm : String} : zFp RJ7 15 [16] 0 nm (.array (.byte)) := ⟨_, _, _, .inl q342, by decide +kernel, ztc ⟨_, tyJ8, rfl, by decide, rfl, rfl, .inl rfl, in_J8, tyJ8_ok, nmJ8, .inl rfl⟩ (zt0)⟩
theorem pf_J7_22 {nm : String} : zFp RJ7 22 [16] 1 nm (.byte) := ⟨_, _, _, .inl q343, by decide +kernel, ztc ⟨_, tyJ8, rfl, by decide, rfl, rfl, .inl rfl, in_J8, tyJ8_ok, nmJ8, .inl rfl⟩ (zt0)⟩
theorem gf_J9_15 : zFg RJ9 15 [17] 1 := ⟨_, _, _, .inl q1080, ztc ⟨_, rfl, by decide, rfl, rfl, .inl rfl, in_J9⟩ (zt0)⟩
theorem gf_J9_9 : zFg RJ9 9 [17] 0 := ⟨_, _, _, .inl q1079, ztc ⟨_, rfl, by decide, rfl, rfl, .inl rfl, in_J9⟩ (zt0)⟩
theorem gf_J7_15 : zFg RJ7 15 [16] 0 := ⟨_, _, _, .inl q342, ztc ⟨_, rfl, by decide, rfl, rfl, .inl rfl, in_J8⟩ (zt0)⟩
theorem gf_J7_22 : zFg RJ7 22 [16] 1 := ⟨_, _, _, .inl q343, ztc ⟨_, rfl, by decide, rfl, rfl, .inl rfl, in_J8⟩ (zt0)⟩
theorem gf_J7_79 : zFg RJ7 79 [16] 3 := ⟨_, _, _, .inl q346, ztc ⟨_, rfl, by decide, rfl, rfl, .inl rfl, in_J8⟩ (zt0)⟩
theorem pf_J7_79 {nm : String} : zFp RJ7 79 [16] 3 nm (.int) := ⟨_, _, _, .inl q346, by decide +kernel, ztc ⟨_, tyJ8, rfl, by decide, rfl, rfl, .inl rfl, in_J8, tyJ8_ok, nmJ8, .inl rfl⟩ (zt0)⟩
theorem gf_J9_1048 : zFg RJ9 1048 [16] 2 := ⟨_, _, _, .inl q345, ztc ⟨_, rfl, by decide, rfl, rfl, .inl rfl, in_J8⟩ (zt0)⟩
theorem pf_J9_15 : zFp RJ9 15 [17] 1 "<init>" (.byte) := ⟨_, _, _, .inl q1080, by decide +kernel, ztc ⟨_, tyJ9, rfl, by decide, rfl, rfl, .inl rfl, in_J9, tyJ9_ok, nmJ9, .inr ⟨rfl, rfl, rfl, q1080⟩⟩ (zt0)⟩
theorem pf_J9_9 : zFp RJ9 9 [17] 0 "<init>" (.array (.byte)) := ⟨_, _, _, .inl q1079, by decide +kernel, ztc ⟨_, tyJ9, rfl, by decide, rfl, rfl, .inl rfl, in_J9, tyJ9_ok, nmJ9, .inr ⟨rfl, rfl, rfl, q1079⟩⟩ (zt0)⟩
theorem nf_J8_18 : zFn RJ8 18 17 [.null, .int 0, .int 0, .int 0] := ⟨_, tyJ9, rfl, q1005, q1006, q106, in_J9, tyJ9_ok, rfl⟩
theorem pf_J12_11 {nm : String} : zFp RJ12 11 [18] 0 nm (.array (.long)) := ⟨_, _, _, .inl q402, by decide +kernel, ztc ⟨_, tyJ12, rfl, by decide, rfl, rfl, .inl rfl, in_J12, tyJ12_ok, nmJ12, .inl rfl⟩ (zt0)⟩
theorem pf_J12_7 {nm : String} : zFp RJ12 7 [18] 1 nm (.int) := ⟨_, _, _, .inl q403, by decide +kernel, ztc ⟨_, tyJ12, rfl, by decide, rfl, rfl, .inl rfl, in_J12, tyJ12_ok, nmJ12, .inl rfl⟩ (zt0)⟩
theorem pf_J12_24 {nm : String} : zFp RJ12 24 [18] 2 nm (.boolean) := ⟨_, _, _, .inl q404, by decide +kernel, ztc ⟨_, tyJ12, rfl, by decide, rfl, rfl, .inl rfl, in_J12, tyJ12_ok, nmJ12, .inl rfl⟩ (zt0)⟩
theorem gf_J12_11 : zFg RJ12 11 [18] 0 := ⟨_, _, _, .inl q402, ztc ⟨_, rfl, by decide, rfl, rfl, .inl rfl, in_J12⟩ (zt0)⟩
theorem gf_J12_7 : zFg RJ12 7 [18] 1 := ⟨_, _, _, .inl q403, ztc ⟨_, rfl, by decide, rfl, rfl, .inl rfl, in_J12⟩ (zt0)⟩
section WW4
variable {D : va_G} {z : Nat}
theorem w_X0_seaLevelByHours_12 (s0 : Option Nat) (h : zH) : zS D z yX0_seaLevelByHours cX0_seaLevelByHours 4 (some .int) [(0, 9, 12, 13)] 10 h 12 [] [va_rf s0] (f_X0_seaLevelByHours_12 s0 h) := by
  unfold f_X0_seaLevelByHours_12
  refine s_ast_n (pc := 12) (L2 := []) [] dX0_seaLevelByHours_12 rfl (by decide) rfl rfl (zcA rfl) ?_
  refine s_iconst (pc := 13) (v := 1) dX0_seaLevelByHours_13 (by decide) ?_
  exact s_iret (pc := 14) dX0_seaLevelByHours_14 rfl
theorem w_X0_seaLevelByHours (v0 : Option Nat) (v1 : Int32) (v2 : Option Nat) (h : zH) : zS D z yX0_seaLevelByHours cX0_seaLevelByHours 4 (some .int) [(0, 9, 12, 13)] 10 h 0 [(0, va_rf v0), (1, .int v1), (2, va_rf v2)] [] (f_X0_seaLevelByHours v0 v1 v2 h) := by
  unfold f_X0_seaLevelByHours
  refine s_aload_n (pc := 0) 2 dX0_seaLevelByHours_0 rfl rfl ?_
  refine s_iconst (pc := 1) (v := 0) dX0_seaLevelByHours_1 (by decide) ?_
  refine s_aload_n (pc := 2) 0 dX0_seaLevelByHours_2 rfl rfl ?_
  refine s_iload_n (pc := 3) 1 dX0_seaLevelByHours_3 rfl rfl ?_
  refine zS_ite (fun ht => ?_) (fun _ => zS_none)
  refine s_callV (pc := 4) (np := 1) (as := [.int v1]) (rest := [.int 0, va_rf v2]) dX0_seaLevelByHours_4 ht (q := (RX1, TX1, 11)) rfl (c_X1_seaLevelByHours (by decide) v0 v1 h) rfl rfl q2657 q2658 q2659 rfl (by simp [zcat_rf, zcat_i, zcat_l, zcat_f, zcat_d]) (zkI (fun x3 h4 => ?_)) (fun e2 h1 => zT_ite (fun hx => (zT_catch (q := (RJ34, TJ34, 0)) [] (0, 9, 12, 13) [] rfl (by rw [hx]; rfl) zp0 rfl (by decide) q2266 (Or.inl rfl) rfl (by exact s_sub (pc := 12) [] rfl (w_X0_seaLevelByHours_12 (some e2.2) h1)))) (fun _ => zT_ite (fun hx => (zT_out (fun q hq => by rw [hx] at hq; cases hq; exact (zpn (by decide) q2266 (by decide +kernel) zp0)))) (fun _ => zT_ite (fun hx => (zT_out (fun q hq => by rw [hx] at hq; cases hq; exact (zpn (by decide) q2266 (by decide +kernel) zp0)))) (fun _ => zT_ite (fun hx => (zT_out (fun q hq => by rw [hx] at hq; cases hq; exact (zpn (by decide) q2266 (by decide +kernel) zp0)))) (fun _ => zT_ite (fun hx => (zT_out (fun q hq => by rw [hx] at hq; cases hq; exact (zpn (by decide) q2266 (by decide +kernel) zp0)))) (fun _ => zT_ite (fun hx => (zT_out (fun q hq => by rw [hx] at hq; cases hq; exact (zpn (by decide) q2266 (by decide +kernel) zp0)))) (fun _ => zT_ite (fun hx => (zT_out (fun q hq => by rw [hx] at hq; cases hq; exact (zpn (by decide) q2266 (by decide +kernel) zp0)))) (fun _ => zT_ite (fun hx => (zT_out (fun q hq => by rw [hx] at hq; cases hq; exact (zpn (by decide) q2266 (by decide +kernel) zp0)))) (fun _ => zT_none)))))))))
  refine s_i2l (pc := 7) dX0_seaLevelByHours_7 ?_
  refine s_last (pc := 8) dX0_seaLevelByHours_8 (ztc rfl zt0) (fun h5 => ?_)
  refine s_goto (pc := 9) (tgt := 15) dX0_seaLevelByHours_9 (by decide) ?_
  refine s_iconst (pc := 15) (v := 0) dX0_seaLevelByHours_15 (by decide) ?_
  exact s_iret (pc := 16) dX0_seaLevelByHours_16 rfl
theorem c_X0_seaLevelByHours {d0 : Nat} (hd0 : 10 < d0) (v0 : Option Nat) (v1 : Int32) (v2 : Option Nat) (h : zH) : zCal D z d0 h yX0_seaLevelByHours [va_rf v0, .int v1, va_rf v2] (f_X0_seaLevelByHours v0 v1 v2 h) :=
  ⟨cX0_seaLevelByHours, 4, (some .int), [(0, 9, 12, 13)], 10, (show lv_args 0 [va_rf v0, .int v1, va_rf v2] = [(0, va_rf v0), (1, .int v1), (2, va_rf v2)] by simp [lv_args, zcat_rf, zcat_i, zcat_l, zcat_f, zcat_d]) ▸ w_X0_seaLevelByHours v0 v1 v2 h, (plainFor_of_name (by decide)), by simp [lg_sl, zcat_rf, zcat_i, zcat_l, zcat_f, zcat_d], q2656, q94, hd0, by decide, by decide⟩
theorem w_X1_pass (v0 : Option Nat) (v1 : Int32) (h : zH) : zS D z yX1_pass cX1_pass 2 (some .int) [] 50 h 0 [(0, va_rf v0), (1, .int v1)] [] (f_X1_pass v0 v1 h) := by
  unfold f_X1_pass
  refine s_aload_n (pc := 0) 0 dX1_pass_0 rfl rfl ?_
  refine s_aload_n (pc := 1) 0 dX1_pass_1 rfl rfl ?_
  refine s_iload_n (pc := 2) 1 dX1_pass_2 rfl rfl ?_
  refine s_lamM (pc := 3) (t := 314) (q := zSh siteWord_1_15) (vals := [va_rf v0, .int v1]) (rest := [va_rf v0]) dX1_pass_3 rfl rfl rfl rfl rfl rfl zk_14 ⟨zok_o _ _, ⟨zok_i _, trivial⟩⟩ rfl (by simp [zcat_rf, zcat_i, zcat_l, zcat_f, zcat_d]) (by decide) (fun r1 h2 => ?_)
  refine zS_ite (fun ht => ?_) (fun _ => zS_none)
  refine s_callV (pc := 8) (np := 1) (as := [va_rf r1]) (rest := []) dX1_pass_8 ht (q := (RX1, TX1, 11)) rfl (c_X1_change (by decide) v0 r1 h2) rfl rfl q2307 q2309 qs17 rfl (by decide) (zkI (fun x3 h4 => ?_)) zxo
  exact s_iret (pc := 11) dX1_pass_11 rfl
theorem c_X1_pass {d0 : Nat} (hd0 : 50 < d0) (v0 : Option Nat) (v1 : Int32) (h : zH) : zCal D z d0 h yX1_pass [va_rf v0, .int v1] (f_X1_pass v0 v1 h) :=
  ⟨cX1_pass, 2, (some .int), [], 50, (show lv_args 0 [va_rf v0, .int v1] = [(0, va_rf v0), (1, .int v1)] by simp [lv_args, zcat_rf, zcat_i, zcat_l, zcat_f, zcat_d]) ▸ w_X1_pass v0 v1 h, (plainFor_of_name (by decide)), by simp [lg_sl, zcat_rf, zcat_i, zcat_l, zcat_f, zcat_d], q2668, q95, hd0, by decide, by decide⟩
theorem w_X0_pass_12 (s0 : Option Nat) (h : zH) : zS D z yX0_pass cX0_pass 4 (some .int) [(0, 9, 12, 13)] 51 h 12 [] [va_rf s0] (f_X0_pass_12 s0 h) := by
  unfold f_X0_pass_12
  refine s_ast_n (pc := 12) (L2 := []) [] dX0_pass_12 rfl (by decide) rfl rfl (zcA rfl) ?_
  refine s_iconst (pc := 13) (v := 1) dX0_pass_13 (by decide) ?_
  exact s_iret (pc := 14) dX0_pass_14 rfl
theorem w_X0_pass (v0 : Option Nat) (v1 : Int32) (v2 : Option Nat) (h : zH) : zS D z yX0_pass cX0_pass 4 (some .int) [(0, 9, 12, 13)] 51 h 0 [(0, va_rf v0), (1, .int v1), (2, va_rf v2)] [] (f_X0_pass v0 v1 v2 h) := by
  unfold f_X0_pass
  refine s_aload_n (pc := 0) 2 dX0_pass_0 rfl rfl ?_
  refine s_iconst (pc := 1) (v := 0) dX0_pass_1 (by decide) ?_
  refine s_aload_n (pc := 2) 0 dX0_pass_2 rfl rfl ?_
  refine s_iload_n (pc := 3) 1 dX0_pass_3 rfl rfl ?_
  refine zS_ite (fun ht => ?_) (fun _ => zS_none)
  refine s_callV (pc := 4) (np := 1) (as := [.int v1]) (rest := [.int 0, va_rf v2]) dX0_pass_4 ht (q := (RX1, TX1, 11)) rfl (c_X1_pass (by decide) v0 v1 h) rfl rfl q2665 q2666 q2667 rfl (by simp [zcat_rf, zcat_i, zcat_l, zcat_f, zcat_d]) (zkI (fun x3 h4 => ?_)) (fun e2 h1 => zT_ite (fun hx => (zT_catch (q := (RJ34, TJ34, 0)) [] (0, 9, 12, 13) [] rfl (by rw [hx]; rfl) zp0 rfl (by decide) q2266 (Or.inl rfl) rfl (by exact s_sub (pc := 12) [] rfl (w_X0_pass_12 (some e2.2) h1)))) (fun _ => zT_ite (fun hx => (zT_out (fun q hq => by rw [hx] at hq; cases hq; exact (zpn (by decide) q2266 (by decide +kernel) zp0)))) (fun _ => zT_ite (fun hx => (zT_out (fun q hq => by rw [hx] at hq; cases hq; exact (zpn (by decide) q2266 (by decide +kernel) zp0)))) (fun _ => zT_ite (fun hx => (zT_out (fun q hq => by rw [hx] at hq; cases hq; exact (zpn (by decide) q2266 (by decide +kernel) zp0)))) (fun _ => zT_ite (fun hx => (zT_out (fun q hq => by rw [hx] at hq; cases hq; exact (zpn (by decide) q2266 (by decide +kernel) zp0)))) (fun _ => zT_ite (fun hx => (zT_out (fun q hq => by rw [hx] at hq; cases hq; exact (zpn (by decide) q2266 (by decide +kernel) zp0)))) (fun _ => zT_ite (fun hx => (zT_out (fun q hq => by rw [hx] at hq; cases hq; exact (zpn (by decide) q2266 (by decide +kernel) zp0)))) (fun _ => zT_ite (fun hx => (zT_out (fun q hq => by rw [hx] at hq; cases hq; exact (zpn (by decide) q2266 (by decide +kernel) zp0)))) (fun _ => zT_none)))))))))
  refine s_i2l (pc := 7) dX0_pass_7 ?_
  refine s_last (pc := 8) dX0_pass_8 (ztc rfl zt0) (fun h5 => ?_)
  refine s_goto (pc := 9) (tgt := 15) dX0_pass_9 (by decide) ?_
  refine s_iconst (pc := 15) (v := 0) dX0_pass_15 (by decide) ?_
  exact s_iret (pc := 16) dX0_pass_16 rfl
theorem c_X0_pass {d0 : Nat} (hd0 : 51 < d0) (v0 : Option Nat) (v1 : Int32) (v2 : Option Nat) (h : zH) : zCal D z d0 h yX0_pass [va_rf v0, .int v1, va_rf v2] (f_X0_pass v0 v1 v2 h) :=
  ⟨cX0_pass, 4, (some .int), [(0, 9, 12, 13)], 51, (show lv_args 0 [va_rf v0, .int v1, va_rf v2] = [(0, va_rf v0), (1, .int v1), (2, va_rf v2)] by simp [lv_args, zcat_rf, zcat_i, zcat_l, zcat_f, zcat_d]) ▸ w_X0_pass v0 v1 v2 h, (plainFor_of_name (by decide)), by simp [lg_sl, zcat_rf, zcat_i, zcat_l, zcat_f, zcat_d], q2664, q94, hd0, by decide, by decide⟩
theorem w_X2_levelAfter_22 : ∀ (n : Nat) (a1 : Int32) (a2 : Option Nat) (a3 : Option Nat) (a4 : Int32) (h : zH), zS D z yX2_levelAfter cX2_levelAfter 5 (some .int) [] 13 h 22 [(1, .int a1), (2, va_rf a2), (3, va_rf a3), (4, .int a4)] [] (f_X2_levelAfter_22 n a1 a2 a3 a4 h) := by
  intro n
  induction n with
  | zero => intros; exact zS_none
  | succ n ih =>
    intro a1 a2 a3 a4 h
    rw [f_X2_levelAfter_22.eq_2]
    refine s_iload (pc := 22) 3 dX2_levelAfter_22 rfl ?_
    refine s_iload_n (pc := 24) 0 dX2_levelAfter_24 rfl rfl ?_
    refine s_icmp_ge (pc := 25) (tgt := 39) dX2_levelAfter_25 (by decide) (fun _ => ?_) (fun _ => ?_)
    · refine s_aload_n (pc := 39) 2 dX2_levelAfter_39 rfl rfl ?_
      refine s_gI (pc := 40) dX2_levelAfter_40 gf_X2_25 (fun x7 => ?_)
      exact s_iret (pc := 43) dX2_levelAfter_43 rfl
    · refine s_aload_n (pc := 28) 2 dX2_levelAfter_28 rfl rfl ?_
      refine s_aload_n (pc := 29) 1 dX2_levelAfter_29 rfl rfl ?_
      refine zS_ite (fun ht => ?_) (fun _ => zS_none)
      refine s_callV (pc := 30) (np := 1) (as := [va_rf a2]) (rest := []) dX2_levelAfter_30 ht (q := (RX2, TX2, 10)) rfl (c_X2_passHour (by decide) a3 a2 h) rfl rfl q2676 q2677 q2678 rfl (by decide) (zkV (fun h8 => ?_)) zxo
      refine s_inc (pc := 33) (v := 1) (L2 := [(1, .int a1), (2, va_rf a2), (3, va_rf a3)]) 3 [0, 1, 2] dX2_levelAfter_33 rfl (by decide) (by decide) rfl rfl (zcB (j := 2) rfl (zcat_rf a3) rfl) (fun x9 => ?_)
      refine s_goto (pc := 36) (tgt := 22) dX2_levelAfter_36 (by decide) ?_
      exact s_sub (pc := 22) [1, 2, 3, 0] rfl (ih a1 a2 a3 x9 h8)
theorem w_X2_levelAfter (v0 : Option Nat) (v1 : Int32) (v2 : Option Nat) (h : zH) : zS D z yX2_levelAfter cX2_levelAfter 5 (some .int) [] 13 h 0 [(0, va_rf v0), (1, .int v1), (2, va_rf v2)] [] (f_X2_levelAfter v0 v1 v2 h) := by
  unfold f_X2_levelAfter
  refine s_iload_n (pc := 0) 1 dX2_levelAfter_0 rfl rfl ?_
  refine s_iconst (pc := 1) (v := 0) dX2_levelAfter_1 (by decide) ?_
  refine s_bipush (pc := 2) (v := 96) dX2_levelAfter_2 (by decide) ?_
  refine s_callSN (pc := 4) (np := 3) (as := [.int v1, .int 0, .int 96]) (rest := []) dX2_levelAfter_4 (c_X1_isBetween (by decide) v1 0 96 h) ⟨_, _, _, q1519⟩ rfl rfl q2278 q1518 rfl (by decide) (zkI (fun x1 h2 => ?_)) zxo
  refine s_callSN (pc := 7) (np := 1) (as := [.int x1]) (rest := []) dX2_levelAfter_7 (c_X1_checkArgument (by decide) x1 h2) ⟨_, _, _, q2281⟩ rfl rfl q2279 q2280 rfl (by decide) (zkV (fun h3 => ?_)) zxo
  refine s_new (pc := 10) dX2_levelAfter_10 nf_X2_13 (fun r4 h5 => ?_)
  refine s_dup (pc := 13) dX2_levelAfter_13 (zcat_rf _) ?_
  refine s_aload_n (pc := 14) 0 dX2_levelAfter_14 rfl rfl ?_
  refine zS_ite (fun hr => ?_) (fun _ => zS_none)
  refine s_callC (pc := 15) (np := 1) (as := [va_rf v0]) (rest := [va_rf r4]) dX2_levelAfter_15 hr (c_X2_init_2 (by decide) r4 v0 h5) ⟨_, _, q1994⟩ rfl rfl rfl q2708 q1993 rfl (by simp [zcat_rf, zcat_i, zcat_l, zcat_f, zcat_d]) (zkV (fun h6 => ?_)) zxo
  refine s_ast_n (pc := 18) (L2 := [(1, .int v1), (2, va_rf v2)]) [1, 2] dX2_levelAfter_18 rfl (by decide) rfl rfl (zcB (j := 1) rfl (zcat_rf v2) rfl) ?_
  refine s_iconst (pc := 19) (v := 0) dX2_levelAfter_19 (by decide) ?_
  refine s_ist (pc := 20) (L2 := [(3, va_rf r4), (1, .int v1), (2, va_rf v2)]) [0, 1, 2] dX2_levelAfter_20 (by decide) rfl rfl (zcB (j := 0) rfl (zcat_rf r4) rfl) ?_
  exact s_sub (pc := 22) [2, 3, 1, 0] rfl (w_X2_levelAfter_22 zfuel v1 v2 r4 0 h6)
theorem c_X2_levelAfter {d0 : Nat} (hd0 : 13 < d0) (v0 : Option Nat) (v1 : Int32) (v2 : Option Nat) (h : zH) : zCal D z d0 h yX2_levelAfter [va_rf v0, .int v1, va_rf v2] (f_X2_levelAfter v0 v1 v2 h) :=
  ⟨cX2_levelAfter, 5, (some .int), [], 13, (show lv_args 0 [va_rf v0, .int v1, va_rf v2] = [(0, va_rf v0), (1, .int v1), (2, va_rf v2)] by simp [lv_args, zcat_rf, zcat_i, zcat_l, zcat_f, zcat_d]) ▸ w_X2_levelAfter v0 v1 v2 h, (plainFor_of_name (by decide)), by simp [lg_sl, zcat_rf, zcat_i, zcat_l, zcat_f, zcat_d], q2706, q96, hd0, by decide, by decide⟩
theorem w_X1_levelAfter (v0 : Option Nat) (v1 : Int32) (h : zH) : zS D z yX1_levelAfter cX1_levelAfter 2 (some .int) [] 14 h 0 [(0, va_rf v0), (1, .int v1)] [] (f_X1_levelAfter v0 v1 h) := by
  unfold f_X1_levelAfter
  refine s_aload_n (pc := 0) 0 dX1_levelAfter_0 rfl rfl ?_
  refine s_gR (pc := 1) dX1_levelAfter_1 gf_X1_30 (fun r1 => ?_)
  refine s_iload_n (pc := 4) 1 dX1_levelAfter_4 rfl rfl ?_
  refine s_aload_n (pc := 5) 0 dX1_levelAfter_5 rfl rfl ?_
  refine s_gR (pc := 6) dX1_levelAfter_6 gf_X1_9 (fun r2 => ?_)
  refine zS_ite (fun ht => ?_) (fun _ => zS_none)
  refine s_callV (pc := 9) (np := 2) (as := [.int v1, va_rf r2]) (rest := []) dX1_levelAfter_9 ht (q := (RX2, TX2, 10)) rfl (c_X2_levelAfter (by decide) r1 v1 r2 h) rfl rfl q2703 q2704 q2705 rfl (by decide) (zkI (fun x3 h4 => ?_)) zxo
  exact s_iret (pc := 12) dX1_levelAfter_12 rfl
theorem c_X1_levelAfter {d0 : Nat} (hd0 : 14 < d0) (v0 : Option Nat) (v1 : Int32) (h : zH) : zCal D z d0 h yX1_levelAfter [va_rf v0, .int v1] (f_X1_levelAfter v0 v1 h) :=
  ⟨cX1_levelAfter, 2, (some .int), [], 14, (show lv_args 0 [va_rf v0, .int v1] = [(0, va_rf v0), (1, .int v1)] by simp [lv_args, zcat_rf, zcat_i, zcat_l, zcat_f, zcat_d]) ▸ w_X1_levelAfter v0 v1 h, (plainFor_of_name (by decide)), by simp [lg_sl, zcat_rf, zcat_i, zcat_l, zcat_f, zcat_d], q2702, q95, hd0, by decide, by decide⟩
theorem w_X0_levelAfter_12 (s0 : Option Nat) (h : zH) : zS D z yX0_levelAfter cX0_levelAfter 4 (some .int) [(0, 9, 12, 13)] 15 h 12 [] [va_rf s0] (f_X0_levelAfter_12 s0 h) := by
  unfold f_X0_levelAfter_12
  refine s_ast_n (pc := 12) (L2 := []) [] dX0_levelAfter_12 rfl (by decide) rfl rfl (zcA rfl) ?_
  refine s_iconst (pc := 13) (v := 1) dX0_levelAfter_13 (by decide) ?_
  exact s_iret (pc := 14) dX0_levelAfter_14 rfl
theorem w_X0_levelAfter (v0 : Option Nat) (v1 : Int32) (v2 : Option Nat) (h : zH) : zS D z yX0_levelAfter cX0_levelAfter 4 (some .int) [(0, 9, 12, 13)] 15 h 0 [(0, va_rf v0), (1, .int v1), (2, va_rf v2)] [] (f_X0_levelAfter v0 v1 v2 h) := by
  unfold f_X0_levelAfter
  refine s_aload_n (pc := 0) 2 dX0_levelAfter_0 rfl rfl ?_
  refine s_iconst (pc := 1) (v := 0) dX0_levelAfter_1 (by decide) ?_
  refine s_aload_n (pc := 2) 0 dX0_levelAfter_2 rfl rfl ?_
  refine s_iload_n (pc := 3) 1 dX0_levelAfter_3 rfl rfl ?_
  refine zS_ite (fun ht => ?_) (fun _ => zS_none)
  refine s_callV (pc := 4) (np := 1) (as := [.int v1]) (rest := [.int 0, va_rf v2]) dX0_levelAfter_4 ht (q := (RX1, TX1, 11)) rfl (c_X1_levelAfter (by decide) v0 v1 h) rfl rfl q2699 q2700 q2701 rfl (by simp [zcat_rf, zcat_i, zcat_l, zcat_f, zcat_d]) (zkI (fun x3 h4 => ?_)) (fun e2 h1 => zT_ite (fun hx => (zT_catch (q := (RJ34, TJ34, 0)) [] (0, 9, 12, 13) [] rfl (by rw [hx]; rfl) zp0 rfl (by decide) q2266 (Or.inl rfl) rfl (by exact s_sub (pc := 12) [] rfl (w_X0_levelAfter_12 (some e2.2) h1)))) (fun _ => zT_ite (fun hx => (zT_out (fun q hq => by rw [hx] at hq; cases hq; exact (zpn (by decide) q2266 (by decide +kernel) zp0)))) (fun _ => zT_ite (fun hx => (zT_out (fun q hq => by rw [hx] at hq; cases hq; exact (zpn (by decide) q2266 (by decide +kernel) zp0)))) (fun _ => zT_ite (fun hx => (zT_out (fun q hq => by rw [hx] at hq; cases hq; exact (zpn (by decide) q2266 (by decide +kernel) zp0)))) (fun _ => zT_ite (fun hx => (zT_out (fun q hq => by rw [hx] at hq; cases hq; exact (zpn (by decide) q2266 (by decide +kernel) zp0)))) (fun _ => zT_ite (fun hx => (zT_out (fun q hq => by rw [hx] at hq; cases hq; exact (zpn (by decide) q2266 (by decide +kernel) zp0)))) (fun _ => zT_ite (fun hx => (zT_out (fun q hq => by rw [hx] at hq; cases hq; exact (zpn (by decide) q2266 (by decide +kernel) zp0)))) (fun _ => zT_ite (fun hx => (zT_out (fun q hq => by rw [hx] at hq; cases hq; exact (zpn (by decide) q2266 (by decide +kernel) zp0)))) (fun _ => zT_none)))))))))
  refine s_i2l (pc := 7) dX0_levelAfter_7 ?_
  refine s_last (pc := 8) dX0_levelAfter_8 (ztc rfl zt0) (fun h5 => ?_)
  refine s_goto (pc := 9) (tgt := 15) dX0_levelAfter_9 (by decide) ?_
  refine s_iconst (pc := 15) (v := 0) dX0_levelAfter_15 (by decide) ?_
  exact s_iret (pc := 16) dX0_levelAfter_16 rfl
theorem c_X0_levelAfter {d0 : Nat} (hd0 : 15 < d0) (v0 : Option Nat) (v1 : Int32) (v2 : Option Nat) (h : zH) : zCal D z d0 h yX0_levelAfter [va_rf v0, .int v1, va_rf v2] (f_X0_levelAfter v0 v1 v2 h) :=
  ⟨cX0_levelAfter, 4, (some .int), [(0, 9, 12, 13)], 15, (show lv_args 0 [va_rf v0, .int v1, va_rf v2] = [(0, va_rf v0), (1, .int v1), (2, va_rf v2)] by simp [lv_args, zcat_rf, zcat_i, zcat_l, zcat_f, zcat_d]) ▸ w_X0_levelAfter v0 v1 v2 h, (plainFor_of_name (by decide)), by simp [lg_sl, zcat_rf, zcat_i, zcat_l, zcat_f, zcat_d], q2698, q94, hd0, by decide, by decide⟩
theorem w_X2_hoursUntilAfloat_52  (h : zH) : zS D z yX2_hoursUntilAfloat cX2_hoursUntilAfloat 6 (some .int) [] 13 h 52 [] [] (f_X2_hoursUntilAfloat_52 h) := by
  unfold f_X2_hoursUntilAfloat_52
  refine s_make0 (pc := 52) dX2_hoursUntilAfloat_52 dX2_hoursUntilAfloat_55 dX2_hoursUntilAfloat_56 xf_X2_263_265 (by decide) (by decide) (fun r11 h12 => ?_)
  exact s_athrow (pc := 59) dX2_hoursUntilAfloat_59 rfl (fun x => zxo x _)
theorem w_X2_hoursUntilAfloat_19 : ∀ (n : Nat) (a2 : Option Nat) (a3 : Option Nat) (a4 : Option Nat) (a5 : Int32) (h : zH), zS D z yX2_hoursUntilAfloat cX2_hoursUntilAfloat 6 (some .int) [] 13 h 19 [(2, va_rf a2), (3, va_rf a3), (4, va_rf a4), (5, .int a5)] [] (f_X2_hoursUntilAfloat_19 n a2 a3 a4 a5 h) := by
  intro n
  induction n with
  | zero => intros; exact zS_none
  | succ n ih =>
    intro a2 a3 a4 a5 h
    rw [f_X2_hoursUntilAfloat_19.eq_2]
    refine s_iload (pc := 19) 3 dX2_hoursUntilAfloat_19 rfl ?_
    refine s_bipush (pc := 21) (v := 96) dX2_hoursUntilAfloat_21 (by decide) ?_
    refine s_icmp_gt (pc := 23) (tgt := 52) dX2_hoursUntilAfloat_23 (by decide) (fun _ => ?_) (fun _ => ?_)
    · exact s_sub (pc := 52) [] rfl (w_X2_hoursUntilAfloat_52 h)
    · refine s_aload (pc := 26) 2 dX2_hoursUntilAfloat_26 rfl ?_
      refine s_aload_n (pc := 28) 1 dX2_hoursUntilAfloat_28 rfl rfl ?_
      refine s_gI (pc := 29) dX2_hoursUntilAfloat_29 gf_X2_25 (fun x6 => ?_)
      refine zS_ite (fun ht => ?_) (fun _ => zS_none)
      refine s_callV (pc := 32) (np := 1) (as := [.int x6]) (rest := []) dX2_hoursUntilAfloat_32 ht (q := (RX6, TX6, 9)) rfl (c_X6_rests (by decide) a4 x6 h) rfl rfl q2504 q363 q364 rfl (by decide) (zkI (fun x7 h8 => ?_)) zxo
      refine s_if_ne (pc := 35) (tgt := 41) dX2_hoursUntilAfloat_35 (by decide) (fun _ => ?_) (fun _ => ?_)
      · refine s_aload_n (pc := 41) 1 dX2_hoursUntilAfloat_41 rfl rfl ?_
        refine s_aload_n (pc := 42) 0 dX2_hoursUntilAfloat_42 rfl rfl ?_
        refine zS_ite (fun ht => ?_) (fun _ => zS_none)
        refine s_callV (pc := 43) (np := 1) (as := [va_rf a2]) (rest := []) dX2_hoursUntilAfloat_43 ht (q := (RX2, TX2, 10)) rfl (c_X2_passHour (by decide) a3 a2 h8) rfl rfl q2676 q2677 q2678 rfl (by decide) (zkV (fun h9 => ?_)) zxo
        refine s_inc (pc := 46) (v := 1) (L2 := [(2, va_rf a2), (3, va_rf a3), (4, va_rf a4)]) 3 [0, 1, 2] dX2_hoursUntilAfloat_46 rfl (by decide) (by decide) rfl rfl (zcB (j := 2) rfl (zcat_rf a4) rfl) (fun x10 => ?_)
        refine s_goto (pc := 49) (tgt := 19) dX2_hoursUntilAfloat_49 (by decide) ?_
        exact s_sub (pc := 19) [1, 2, 3, 0] rfl (ih a2 a3 a4 x10 h9)
      · refine s_iload (pc := 38) 3 dX2_hoursUntilAfloat_38 rfl ?_
        exact s_iret (pc := 40) dX2_hoursUntilAfloat_40 rfl
theorem w_X2_hoursUntilAfloat (v0 : Option Nat) (v1 : Int32) (v2 : Option Nat) (h : zH) : zS D z yX2_hoursUntilAfloat cX2_hoursUntilAfloat 6 (some .int) [] 13 h 0 [(0, va_rf v0), (1, .int v1), (2, va_rf v2)] [] (f_X2_hoursUntilAfloat v0 v1 v2 h) := by
  unfold f_X2_hoursUntilAfloat
  refine s_new (pc := 0) dX2_hoursUntilAfloat_0 nf_X2_13 (fun r1 h2 => ?_)
  refine s_dup (pc := 3) dX2_hoursUntilAfloat_3 (zcat_rf _) ?_
  refine s_aload_n (pc := 4) 0 dX2_hoursUntilAfloat_4 rfl rfl ?_
  refine zS_ite (fun hr => ?_) (fun _ => zS_none)
  refine s_callC (pc := 5) (np := 1) (as := [va_rf v0]) (rest := [va_rf r1]) dX2_hoursUntilAfloat_5 hr (c_X2_init_2 (by decide) r1 v0 h2) ⟨_, _, q1994⟩ rfl rfl rfl q2708 q1993 rfl (by simp [zcat_rf, zcat_i, zcat_l, zcat_f, zcat_d]) (zkV (fun h3 => ?_)) zxo
  refine s_ast_n (pc := 8) (L2 := [(1, .int v1), (2, va_rf v2)]) [1, 2] dX2_hoursUntilAfloat_8 rfl (by decide) rfl rfl (zcB (j := 1) rfl (zcat_rf v2) rfl) ?_
  refine s_aload_n (pc := 9) 0 dX2_hoursUntilAfloat_9 rfl rfl ?_
  refine s_iload_n (pc := 10) 1 dX2_hoursUntilAfloat_10 rfl rfl ?_
  refine zS_ite (fun ht => ?_) (fun _ => zS_none)
  refine s_callV (pc := 11) (np := 1) (as := [.int v1]) (rest := []) dX2_hoursUntilAfloat_11 ht (q := (RX2, TX2, 10)) rfl (c_X2_ship (by decide) r1 v1 h3) rfl rfl q2386 q2387 q2388 rfl (by decide) (zkR (fun r4 h5 => ?_)) zxo
  refine s_ast (pc := 14) (L2 := [(3, va_rf r1), (2, va_rf v2)]) [0, 2] dX2_hoursUntilAfloat_14 (by decide) rfl rfl (zcB (j := 0) rfl (zcat_rf r1) rfl) ?_
  refine s_iconst (pc := 16) (v := 0) dX2_hoursUntilAfloat_16 (by decide) ?_
  refine s_ist (pc := 17) (L2 := [(4, va_rf r4), (3, va_rf r1), (2, va_rf v2)]) [0, 1, 2] dX2_hoursUntilAfloat_17 (by decide) rfl rfl (zcB (j := 0) rfl (zcat_rf r4) rfl) ?_
  exact s_sub (pc := 19) [3, 2, 1, 0] rfl (w_X2_hoursUntilAfloat_19 zfuel v2 r1 r4 0 h5)
theorem c_X2_hoursUntilAfloat {d0 : Nat} (hd0 : 13 < d0) (v0 : Option Nat) (v1 : Int32) (v2 : Option Nat) (h : zH) : zCal D z d0 h yX2_hoursUntilAfloat [va_rf v0, .int v1, va_rf v2] (f_X2_hoursUntilAfloat v0 v1 v2 h) :=
  ⟨cX2_hoursUntilAfloat, 6, (some .int), [], 13, (show lv_args 0 [va_rf v0, .int v1, va_rf v2] = [(0, va_rf v0), (1, .int v1), (2, va_rf v2)] by simp [lv_args, zcat_rf, zcat_i, zcat_l, zcat_f, zcat_d]) ▸ w_X2_hoursUntilAfloat v0 v1 v2 h, (plainFor_of_name (by decide)), by simp [lg_sl, zcat_rf, zcat_i, zcat_l, zcat_f, zcat_d], q2719, q96, hd0, by decide, by decide⟩
theorem w_X1_hoursUntilAfloat (v0 : Option Nat) (v1 : Int32) (h : zH) : zS D z yX1_hoursUntilAfloat cX1_hoursUntilAfloat 2 (some .int) [] 14 h 0 [(0, va_rf v0), (1, .int v1)] [] (f_X1_hoursUntilAfloat v0 v1 h) := by
  unfold f_X1_hoursUntilAfloat
  refine s_aload_n (pc := 0) 0 dX1_hoursUntilAfloat_0 rfl rfl ?_
  refine s_gR (pc := 1) dX1_hoursUntilAfloat_1 gf_X1_30 (fun r1 => ?_)
  refine s_iload_n (pc := 4) 1 dX1_hoursUntilAfloat_4 rfl rfl ?_
  refine s_aload_n (pc := 5) 0 dX1_hoursUntilAfloat_5 rfl rfl ?_
  refine s_gR (pc := 6) dX1_hoursUntilAfloat_6 gf_X1_9 (fun r2 => ?_)
  refine zS_ite (fun ht => ?_) (fun _ => zS_none)
  refine s_callV (pc := 9) (np := 2) (as := [.int v1, va_rf r2]) (rest := []) dX1_hoursUntilAfloat_9 ht (q := (RX2, TX2, 10)) rfl (c_X2_hoursUntilAfloat (by decide) r1 v1 r2 h) rfl rfl q2716 q2717 q2718 rfl (by decide) (zkI (fun x3 h4 => ?_)) zxo
  exact s_iret (pc := 12) dX1_hoursUntilAfloat_12 rfl
theorem c_X1_hoursUntilAfloat {d0 : Nat} (hd0 : 14 < d0) (v0 : Option Nat) (v1 : Int32) (h : zH) : zCal D z d0 h yX1_hoursUntilAfloat [va_rf v0, .int v1] (f_X1_hoursUntilAfloat v0 v1 h) :=
  ⟨cX1_hoursUntilAfloat, 2, (some .int), [], 14, (show lv_args 0 [va_rf v0, .int v1] = [(0, va_rf v0), (1, .int v1)] by simp [lv_args, zcat_rf, zcat_i, zcat_l, zcat_f, zcat_d]) ▸ w_X1_hoursUntilAfloat v0 v1 h, (plainFor_of_name (by decide)), by simp [lg_sl, zcat_rf, zcat_i, zcat_l, zcat_f, zcat_d], q2715, q95, hd0, by decide, by decide⟩
theorem w_X0_hoursUntilAfloat_12 (s0 : Option Nat) (h : zH) : zS D z yX0_hoursUntilAfloat cX0_hoursUntilAfloat 4 (some .int) [(0, 9, 12, 21), (0, 9, 15, 15)] 15 h 12 [] [va_rf s0] (f_X0_hoursUntilAfloat_12 s0 h) := by
  unfold f_X0_hoursUntilAfloat_12
  refine s_ast_n (pc := 12) (L2 := []) [] dX0_hoursUntilAfloat_12 rfl (by decide) rfl rfl (zcA rfl) ?_
  refine s_iconst (pc := 13) (v := 1) dX0_hoursUntilAfloat_13 (by decide) ?_
  exact s_iret (pc := 14) dX0_hoursUntilAfloat_14 rfl
theorem w_X0_hoursUntilAfloat_15 (s0 : Option Nat) (h : zH) : zS D z yX0_hoursUntilAfloat cX0_hoursUntilAfloat 4 (some .int) [(0, 9, 12, 21), (0, 9, 15, 15)] 15 h 15 [] [va_rf s0] (f_X0_hoursUntilAfloat_15 s0 h) := by
  unfold f_X0_hoursUntilAfloat_15
  refine s_ast_n (pc := 15) (L2 := []) [] dX0_hoursUntilAfloat_15 rfl (by decide) rfl rfl (zcA rfl) ?_
  refine s_iconst (pc := 16) (v := 2) dX0_hoursUntilAfloat_16 (by decide) ?_
  exact s_iret (pc := 17) dX0_hoursUntilAfloat_17 rfl
theorem w_X0_hoursUntilAfloat (v0 : Option Nat) (v1 : Int32) (v2 : Option Nat) (h : zH) : zS D z yX0_hoursUntilAfloat cX0_hoursUntilAfloat 4 (some .int) [(0, 9, 12, 21), (0, 9, 15, 15)] 15 h 0 [(0, va_rf v0), (1, .int v1), (2, va_rf v2)] [] (f_X0_hoursUntilAfloat v0 v1 v2 h) := by
  unfold f_X0_hoursUntilAfloat
  refine s_aload_n (pc := 0) 2 dX0_hoursUntilAfloat_0 rfl rfl ?_
  refine s_iconst (pc := 1) (v := 0) dX0_hoursUntilAfloat_1 (by decide) ?_
  refine s_aload_n (pc := 2) 0 dX0_hoursUntilAfloat_2 rfl rfl ?_
  refine s_iload_n (pc := 3) 1 dX0_hoursUntilAfloat_3 rfl rfl ?_
  refine zS_ite (fun ht => ?_) (fun _ => zS_none)
  refine s_callV (pc := 4) (np := 1) (as := [.int v1]) (rest := [.int 0, va_rf v2]) dX0_hoursUntilAfloat_4 ht (q := (RX1, TX1, 11)) rfl (c_X1_hoursUntilAfloat (by decide) v0 v1 h) rfl rfl q2712 q2713 q2714 rfl (by simp [zcat_rf, zcat_i, zcat_l, zcat_f, zcat_d]) (zkI (fun x3 h4 => ?_)) (fun e2 h1 => zT_ite (fun hx => (zT_out (fun q hq => by rw [hx] at hq; cases hq; exact (zpn (by decide) q2375 (by decide +kernel) (zpn (by decide) q2267 (by decide +kernel) zp0))))) (fun _ => zT_ite (fun hx => (zT_catch (q := (RJ39, TJ39, 0)) [(0, 9, 12, 21)] (0, 9, 15, 15) [] rfl (by rw [hx]; rfl) (zpn (by decide) q2375 (by decide +kernel) zp0) rfl (by decide) q2267 (Or.inl rfl) rfl (by exact s_sub (pc := 15) [] rfl (w_X0_hoursUntilAfloat_15 (some e2.2) h1)))) (fun _ => zT_ite (fun hx => (zT_catch (q := (RJ28, TJ28, 0)) [] (0, 9, 12, 21) [(0, 9, 15, 15)] rfl (by rw [hx]; rfl) zp0 rfl (by decide) q2375 (Or.inl rfl) rfl (by exact s_sub (pc := 12) [] rfl (w_X0_hoursUntilAfloat_12 (some e2.2) h1)))) (fun _ => zT_ite (fun hx => (zT_out (fun q hq => by rw [hx] at hq; cases hq; exact (zpn (by decide) q2375 (by decide +kernel) (zpn (by decide) q2267 (by decide +kernel) zp0))))) (fun _ => zT_ite (fun hx => (zT_out (fun q hq => by rw [hx] at hq; cases hq; exact (zpn (by decide) q2375 (by decide +kernel) (zpn (by decide) q2267 (by decide +kernel) zp0))))) (fun _ => zT_ite (fun hx => (zT_out (fun q hq => by rw [hx] at hq; cases hq; exact (zpn (by decide) q2375 (by decide +kernel) (zpn (by decide) q2267 (by decide +kernel) zp0))))) (fun _ => zT_ite (fun hx => (zT_out (fun q hq => by rw [hx] at hq; cases hq; exact (zpn (by decide) q2375 (by decide +kernel) (zpn (by decide) q2267 (by decide +kernel) zp0))))) (fun _ => zT_ite (fun hx => (zT_out (fun q hq => by rw [hx] at hq; cases hq; exact (zpn (by decide) q2375 (by decide +kernel) (zpn (by decide) q2267 (by decide +kernel) zp0))))) (fun _ => zT_none)))))))))
  refine s_i2l (pc := 7) dX0_hoursUntilAfloat_7 ?_
  refine s_last (pc := 8) dX0_hoursUntilAfloat_8 (ztc rfl zt0) (fun h5 => ?_)
  refine s_goto (pc := 9) (tgt := 18) dX0_hoursUntilAfloat_9 (by decide) ?_
  refine s_iconst (pc := 18) (v := 0) dX0_hoursUntilAfloat_18 (by decide) ?_
  exact s_iret (pc := 19) dX0_hoursUntilAfloat_19 rfl
theorem c_X0_hoursUntilAfloat {d0 : Nat} (hd0 : 15 < d0) (v0 : Option Nat) (v1 : Int32) (v2 : Option Nat) (h : zH) : zCal D z d0 h yX0_hoursUntilAfloat [va_rf v0, .int v1, va_rf v2] (f_X0_hoursUntilAfloat v0 v1 v2 h) :=
  ⟨cX0_hoursUntilAfloat, 4, (some .int), [(0, 9, 12, 21), (0, 9, 15, 15)], 15, (show lv_args 0 [va_rf v0, .int v1, va_rf v2] = [(0, va_rf v0), (1, .int v1), (2, va_rf v2)] by simp [lv_args, zcat_rf, zcat_i, zcat_l, zcat_f, zcat_d]) ▸ w_X0_hoursUntilAfloat v0 v1 v2 h, (plainFor_of_name (by decide)), by simp [lg_sl, zcat_rf, zcat_i, zcat_l, zcat_f, zcat_d], q2711, q94, hd0, by decide, by decide⟩
theorem w_X1_placeBlock (v0 : Option Nat) (v1 : Int32) (h : zH) : zS D z yX1_placeBlock cX1_placeBlock 2 (some .int) [] 50 h 0 [(0, va_rf v0), (1, .int v1)] [] (f_X1_placeBlock v0 v1 h) := by
  unfold f_X1_placeBlock
  refine s_aload_n (pc := 0) 0 dX1_placeBlock_0 rfl rfl ?_
  refine s_iload_n (pc := 1) 1 dX1_placeBlock_1 rfl rfl ?_
  refine s_lamM (pc := 2) (t := 315) (q := zSh siteWord_1_16) (vals := [.int v1]) (rest := [va_rf v0]) dX1_placeBlock_2 rfl rfl rfl rfl rfl rfl zk_15 ⟨zok_i _, trivial⟩ rfl (by simp [zcat_rf, zcat_i, zcat_l, zcat_f, zcat_d]) (by decide) (fun r1 h2 => ?_)
  refine zS_ite (fun ht => ?_) (fun _ => zS_none)
  refine s_callV (pc := 7) (np := 1) (as := [va_rf r1]) (rest := []) dX1_placeBlock_7 ht (q := (RX1, TX1, 11)) rfl (c_X1_change (by decide) v0 r1 h2) rfl rfl q2307 q2309 qs17 rfl (by decide) (zkI (fun x3 h4 => ?_)) zxo
  exact s_iret (pc := 10) dX1_placeBlock_10 rfl
theorem c_X1_placeBlock {d0 : Nat} (hd0 : 50 < d0) (v0 : Option Nat) (v1 : Int32) (h : zH) : zCal D z d0 h yX1_placeBlock [va_rf v0, .int v1] (f_X1_placeBlock v0 v1 h) :=
  ⟨cX1_placeBlock, 2, (some .int), [], 50, (show lv_args 0 [va_rf v0, .int v1] = [(0, va_rf v0), (1, .int v1)] by simp [lv_args, zcat_rf, zcat_i, zcat_l, zcat_f, zcat_d]) ▸ w_X1_placeBlock v0 v1 h, (plainFor_of_name (by decide)), by simp [lg_sl, zcat_rf, zcat_i, zcat_l, zcat_f, zcat_d], q2728, q95, hd0, by decide, by decide⟩
theorem w_X0_placeBlock_12 (s0 : Option Nat) (h : zH) : zS D z yX0_placeBlock cX0_placeBlock 4 (some .int) [(0, 9, 12, 13), (0, 9, 15, 15), (0, 9, 18, 27)] 51 h 12 [] [va_rf s0] (f_X0_placeBlock_12 s0 h) := by
  unfold f_X0_placeBlock_12
  refine s_ast_n (pc := 12) (L2 := []) [] dX0_placeBlock_12 rfl (by decide) rfl rfl (zcA rfl) ?_
  refine s_iconst (pc := 13) (v := 1) dX0_placeBlock_13 (by decide) ?_
  exact s_iret (pc := 14) dX0_placeBlock_14 rfl
theorem w_X0_placeBlock_15 (s0 : Option Nat) (h : zH) : zS D z yX0_placeBlock cX0_placeBlock 4 (some .int) [(0, 9, 12, 13), (0, 9, 15, 15), (0, 9, 18, 27)] 51 h 15 [] [va_rf s0] (f_X0_placeBlock_15 s0 h) := by
  unfold f_X0_placeBlock_15
  refine s_ast_n (pc := 15) (L2 := []) [] dX0_placeBlock_15 rfl (by decide) rfl rfl (zcA rfl) ?_
  refine s_iconst (pc := 16) (v := 2) dX0_placeBlock_16 (by decide) ?_
  exact s_iret (pc := 17) dX0_placeBlock_17 rfl
theorem w_X0_placeBlock_18 (s0 : Option Nat) (h : zH) : zS D z yX0_placeBlock cX0_placeBlock 4 (some .int) [(0, 9, 12, 13), (0, 9, 15, 15), (0, 9, 18, 27)] 51 h 18 [] [va_rf s0] (f_X0_placeBlock_18 s0 h) := by
  unfold f_X0_placeBlock_18
  refine s_ast_n (pc := 18) (L2 := []) [] dX0_placeBlock_18 rfl (by decide) rfl rfl (zcA rfl) ?_
  refine s_iconst (pc := 19) (v := 3) dX0_placeBlock_19 (by decide) ?_
  exact s_iret (pc := 20) dX0_placeBlock_20 rfl
theorem w_X0_placeBlock (v0 : Option Nat) (v1 : Int32) (v2 : Option Nat) (h : zH) : zS D z yX0_placeBlock cX0_placeBlock 4 (some .int) [(0, 9, 12, 13), (0, 9, 15, 15), (0, 9, 18, 27)] 51 h 0 [(0, va_rf v0), (1, .int v1), (2, va_rf v2)] [] (f_X0_placeBlock v0 v1 v2 h) := by
  unfold f_X0_placeBlock
  refine s_aload_n (pc := 0) 2 dX0_placeBlock_0 rfl rfl ?_
  refine s_iconst (pc := 1) (v := 0) dX0_placeBlock_1 (by decide) ?_
  refine s_aload_n (pc := 2) 0 dX0_placeBlock_2 rfl rfl ?_
  refine s_iload_n (pc := 3) 1 dX0_placeBlock_3 rfl rfl ?_
  refine zS_ite (fun ht => ?_) (fun _ => zS_none)
  refine s_callV (pc := 4) (np := 1) (as := [.int v1]) (rest := [.int 0, va_rf v2]) dX0_placeBlock_4 ht (q := (RX1, TX1, 11)) rfl (c_X1_placeBlock (by decide) v0 v1 h) rfl rfl q2725 q2726 q2727 rfl (by simp [zcat_rf, zcat_i, zcat_l, zcat_f, zcat_d]) (zkI (fun x3 h4 => ?_)) (fun e2 h1 => zT_ite (fun hx => (zT_catch (q := (RJ34, TJ34, 0)) [] (0, 9, 12, 13) [(0, 9, 15, 15), (0, 9, 18, 27)] rfl (by rw [hx]; rfl) zp0 rfl (by decide) q2266 (Or.inl rfl) rfl (by exact s_sub (pc := 12) [] rfl (w_X0_placeBlock_12 (some e2.2) h1)))) (fun _ => zT_ite (fun hx => (zT_catch (q := (RJ39, TJ39, 0)) [(0, 9, 12, 13)] (0, 9, 15, 15) [(0, 9, 18, 27)] rfl (by rw [hx]; rfl) (zpn (by decide) q2266 (by decide +kernel) zp0) rfl (by decide) q2267 (Or.inl rfl) rfl (by exact s_sub (pc := 15) [] rfl (w_X0_placeBlock_15 (some e2.2) h1)))) (fun _ => zT_ite (fun hx => (zT_out (fun q hq => by rw [hx] at hq; cases hq; exact (zpn (by decide) q2266 (by decide +kernel) (zpn (by decide) q2267 (by decide +kernel) (zpn (by decide) q2438 (by decide +kernel) zp0)))))) (fun _ => zT_ite (fun hx => (zT_catch (q := (RJ44, TJ44, 0)) [(0, 9, 12, 13), (0, 9, 15, 15)] (0, 9, 18, 27) [] rfl (by rw [hx]; rfl) (zpn (by decide) q2266 (by decide +kernel) (zpn (by decide) q2267 (by decide +kernel) zp0)) rfl (by decide) q2438 (Or.inl rfl) rfl (by exact s_sub (pc := 18) [] rfl (w_X0_placeBlock_18 (some e2.2) h1)))) (fun _ => zT_ite (fun hx => (zT_out (fun q hq => by rw [hx] at hq; cases hq; exact (zpn (by decide) q2266 (by decide +kernel) (zpn (by decide) q2267 (by decide +kernel) (zpn (by decide) q2438 (by decide +kernel) zp0)))))) (fun _ => zT_ite (fun hx => (zT_out (fun q hq => by rw [hx] at hq; cases hq; exact (zpn (by decide) q2266 (by decide +kernel) (zpn (by decide) q2267 (by decide +kernel) (zpn (by decide) q2438 (by decide +kernel) zp0)))))) (fun _ => zT_ite (fun hx => (zT_out (fun q hq => by rw [hx] at hq; cases hq; exact (zpn (by decide) q2266 (by decide +kernel) (zpn (by decide) q2267 (by decide +kernel) (zpn (by decide) q2438 (by decide +kernel) zp0)))))) (fun _ => zT_ite (fun hx => (zT_out (fun q hq => by rw [hx] at hq; cases hq; exact (zpn (by decide) q2266 (by decide +kernel) (zpn (by decide) q2267 (by decide +kernel) (zpn (by decide) q2438 (by decide +kernel) zp0)))))) (fun _ => zT_none)))))))))
  refine s_i2l (pc := 7) dX0_placeBlock_7 ?_
  refine s_last (pc := 8) dX0_placeBlock_8 (ztc rfl zt0) (fun h5 => ?_)
  refine s_goto (pc := 9) (tgt := 21) dX0_placeBlock_9 (by decide) ?_
  refine s_iconst (pc := 21) (v := 0) dX0_placeBlock_21 (by decide) ?_
  exact s_iret (pc := 22) dX0_placeBlock_22 rfl
theorem c_X0_placeBlock {d0 : Nat} (hd0 : 51 < d0) (v0 : Option Nat) (v1 : Int32) (v2 : Option Nat) (h : zH) : zCal D z d0 h yX0_placeBlock [va_rf v0, .int v1, va_rf v2] (f_X0_placeBlock v0 v1 v2 h) :=
  ⟨cX0_placeBlock, 4, (some .int), [(0, 9, 12, 13), (0, 9, 15, 15), (0, 9, 18, 27)], 51, (show lv_args 0 [va_rf v0, .int v1, va_rf v2] = [(0, va_rf v0), (1, .int v1), (2, va_rf v2)] by simp [lv_args, zcat_rf, zcat_i, zcat_l, zcat_f, zcat_d]) ▸ w_X0_placeBlock v0 v1 v2 h, (plainFor_of_name (by decide)), by simp [lg_sl, zcat_rf, zcat_i, zcat_l, zcat_f, zcat_d], q2724, q94, hd0, by decide, by decide⟩
theorem w_X1_removeBlock (v0 : Option Nat) (v1 : Int32) (h : zH) : zS D z yX1_removeBlock cX1_removeBlock 2 (some .int) [] 50 h 0 [(0, va_rf v0), (1, .int v1)] [] (f_X1_removeBlock v0 v1 h) := by
  unfold f_X1_removeBlock
  refine s_aload_n (pc := 0) 0 dX1_removeBlock_0 rfl rfl ?_
  refine s_iload_n (pc := 1) 1 dX1_removeBlock_1 rfl rfl ?_
  refine s_lamM (pc := 2) (t := 316) (q := zSh siteWord_1_17) (vals := [.int v1]) (rest := [va_rf v0]) dX1_removeBlock_2 rfl rfl rfl rfl rfl rfl zk_16 ⟨zok_i _, trivial⟩ rfl (by simp [zcat_rf, zcat_i, zcat_l, zcat_f, zcat_d]) (by decide) (fun r1 h2 => ?_)
  refine zS_ite (fun ht => ?_) (fun _ => zS_none)
  refine s_callV (pc := 7) (np := 1) (as := [va_rf r1]) (rest := []) dX1_removeBlock_7 ht (q := (RX1, TX1, 11)) rfl (c_X1_change (by decide) v0 r1 h2) rfl rfl q2307 q2309 qs17 rfl (by decide) (zkI (fun x3 h4 => ?_)) zxo
  exact s_iret (pc := 10) dX1_removeBlock_10 rfl
theorem c_X1_removeBlock {d0 : Nat} (hd0 : 50 < d0) (v0 : Option Nat) (v1 : Int32) (h : zH) : zCal D z d0 h yX1_removeBlock [va_rf v0, .int v1] (f_X1_removeBlock v0 v1 h) :=
  ⟨cX1_removeBlock, 2, (some .int), [], 50, (show lv_args 0 [va_rf v0, .int v1] = [(0, va_rf v0), (1, .int v1)] by simp [lv_args, zcat_rf, zcat_i, zcat_l, zcat_f, zcat_d]) ▸ w_X1_removeBlock v0 v1 h, (plainFor_of_name (by decide)), by simp [lg_sl, zcat_rf, zcat_i, zcat_l, zcat_f, zcat_d], q2753, q95, hd0, by decide, by decide⟩
theorem w_X0_removeBlock_12 (s0 : Option Nat) (h : zH) : zS D z yX0_removeBlock cX0_removeBlock 4 (some .int) [(0, 9, 12, 13), (0, 9, 15, 21), (0, 9, 18, 27)] 51 h 12 [] [va_rf s0] (f_X0_removeBlock_12 s0 h) := by
  unfold f_X0_removeBlock_12
  refine s_ast_n (pc := 12) (L2 := []) [] dX0_removeBlock_12 rfl (by decide) rfl rfl (zcA rfl) ?_
  refine s_iconst (pc := 13) (v := 1) dX0_removeBlock_13 (by decide) ?_
  exact s_iret (pc := 14) dX0_removeBlock_14 rfl
theorem w_X0_removeBlock_15 (s0 : Option Nat) (h : zH) : zS D z yX0_removeBlock cX0_removeBlock 4 (some .int) [(0, 9, 12, 13), (0, 9, 15, 21), (0, 9, 18, 27)] 51 h 15 [] [va_rf s0] (f_X0_removeBlock_15 s0 h) := by
  unfold f_X0_removeBlock_15
  refine s_ast_n (pc := 15) (L2 := []) [] dX0_removeBlock_15 rfl (by decide) rfl rfl (zcA rfl) ?_
  refine s_iconst (pc := 16) (v := 2) dX0_removeBlock_16 (by decide) ?_
  exact s_iret (pc := 17) dX0_removeBlock_17 rfl
theorem w_X0_removeBlock_18 (s0 : Option Nat) (h : zH) : zS D z yX0_removeBlock cX0_removeBlock 4 (some .int) [(0, 9, 12, 13), (0, 9, 15, 21), (0, 9, 18, 27)] 51 h 18 [] [va_rf s0] (f_X0_removeBlock_18 s0 h) := by
  unfold f_X0_removeBlock_18
  refine s_ast_n (pc := 18) (L2 := []) [] dX0_removeBlock_18 rfl (by decide) rfl rfl (zcA rfl) ?_
  refine s_iconst (pc := 19) (v := 3) dX0_removeBlock_19 (by decide) ?_
  exact s_iret (pc := 20) dX0_removeBlock_20 rfl
theorem w_X0_removeBlock (v0 : Option Nat) (v1 : Int32) (v2 : Option Nat) (h : zH) : zS D z yX0_removeBlock cX0_removeBlock 4 (some .int) [(0, 9, 12, 13), (0, 9, 15, 21), (0, 9, 18, 27)] 51 h 0 [(0, va_rf v0), (1, .int v1), (2, va_rf v2)] [] (f_X0_removeBlock v0 v1 v2 h) := by
  unfold f_X0_removeBlock
  refine s_aload_n (pc := 0) 2 dX0_removeBlock_0 rfl rfl ?_
  refine s_iconst (pc := 1) (v := 0) dX0_removeBlock_1 (by decide) ?_
  refine s_aload_n (pc := 2) 0 dX0_removeBlock_2 rfl rfl ?_
  refine s_iload_n (pc := 3) 1 dX0_removeBlock_3 rfl rfl ?_
  refine zS_ite (fun ht => ?_) (fun _ => zS_none)
  refine s_callV (pc := 4) (np := 1) (as := [.int v1]) (rest := [.int 0, va_rf v2]) dX0_removeBlock_4 ht (q := (RX1, TX1, 11)) rfl (c_X1_removeBlock (by decide) v0 v1 h) rfl rfl q2750 q2751 q2752 rfl (by simp [zcat_rf, zcat_i, zcat_l, zcat_f, zcat_d]) (zkI (fun x3 h4 => ?_)) (fun e2 h1 => zT_ite (fun hx => (zT_catch (q := (RJ34, TJ34, 0)) [] (0, 9, 12, 13) [(0, 9, 15, 21), (0, 9, 18, 27)] rfl (by rw [hx]; rfl) zp0 rfl (by decide) q2266 (Or.inl rfl) rfl (by exact s_sub (pc := 12) [] rfl (w_X0_removeBlock_12 (some e2.2) h1)))) (fun _ => zT_ite (fun hx => (zT_out (fun q hq => by rw [hx] at hq; cases hq; exact (zpn (by decide) q2266 (by decide +kernel) (zpn (by decide) q2375 (by decide +kernel) (zpn (by decide) q2438 (by decide +kernel) zp0)))))) (fun _ => zT_ite (fun hx => (zT_catch (q := (RJ28, TJ28, 0)) [(0, 9, 12, 13)] (0, 9, 15, 21) [(0, 9, 18, 27)] rfl (by rw [hx]; rfl) (zpn (by decide) q2266 (by decide +kernel) zp0) rfl (by decide) q2375 (Or.inl rfl) rfl (by exact s_sub (pc := 15) [] rfl (w_X0_removeBlock_15 (some e2.2) h1)))) (fun _ => zT_ite (fun hx => (zT_catch (q := (RJ44, TJ44, 0)) [(0, 9, 12, 13), (0, 9, 15, 21)] (0, 9, 18, 27) [] rfl (by rw [hx]; rfl) (zpn (by decide) q2266 (by decide +kernel) (zpn (by decide) q2375 (by decide +kernel) zp0)) rfl (by decide) q2438 (Or.inl rfl) rfl (by exact s_sub (pc := 18) [] rfl (w_X0_removeBlock_18 (some e2.2) h1)))) (fun _ => zT_ite (fun hx => (zT_out (fun q hq => by rw [hx] at hq; cases hq; exact (zpn (by decide) q2266 (by decide +kernel) (zpn (by decide) q2375 (by decide +kernel) (zpn (by decide) q2438 (by decide +kernel) zp0)))))) (fun _ => zT_ite (fun hx => (zT_out (fun q hq => by rw [hx] at hq; cases hq; exact (zpn (by decide) q2266 (by decide +kernel) (zpn (by decide) q2375 (by decide +kernel) (zpn (by decide) q2438 (by decide +kernel) zp0)))))) (fun _ => zT_ite (fun hx => (zT_out (fun q hq => by rw [hx] at hq; cases hq; exact (zpn (by decide) q2266 (by decide +kernel) (zpn (by decide) q2375 (by decide +kernel) (zpn (by decide) q2438 (by decide +kernel) zp0)))))) (fun _ => zT_ite (fun hx => (zT_out (fun q hq => by rw [hx] at hq; cases hq; exact (zpn (by decide) q2266 (by decide +kernel) (zpn (by decide) q2375 (by decide +kernel) (zpn (by decide) q2438 (by decide +kernel) zp0)))))) (fun _ => zT_none)))))))))
  refine s_i2l (pc := 7) dX0_removeBlock_7 ?_
  refine s_last (pc := 8) dX0_removeBlock_8 (ztc rfl zt0) (fun h5 => ?_)
  refine s_goto (pc := 9) (tgt := 21) dX0_removeBlock_9 (by decide) ?_
  refine s_iconst (pc := 21) (v := 0) dX0_removeBlock_21 (by decide) ?_
  exact s_iret (pc := 22) dX0_removeBlock_22 rfl
theorem c_X0_removeBlock {d0 : Nat} (hd0 : 51 < d0) (v0 : Option Nat) (v1 : Int32) (v2 : Option Nat) (h : zH) : zCal D z d0 h yX0_removeBlock [va_rf v0, .int v1, va_rf v2] (f_X0_removeBlock v0 v1 v2 h) :=
  ⟨cX0_removeBlock, 4, (some .int), [(0, 9, 12, 13), (0, 9, 15, 21), (0, 9, 18, 27)], 51, (show lv_args 0 [va_rf v0, .int v1, va_rf v2] = [(0, va_rf v0), (1, .int v1), (2, va_rf v2)] by simp [lv_args, zcat_rf, zcat_i, zcat_l, zcat_f, zcat_d]) ▸ w_X0_removeBlock v0 v1 v2 h, (plainFor_of_name (by decide)), by simp [lg_sl, zcat_rf, zcat_i, zcat_l, zcat_f, zcat_d], q2749, q94, hd0, by decide, by decide⟩
theorem w_X1_hasBlock (v0 : Option Nat) (v1 : Int32) (h : zH) : zS D z yX1_hasBlock cX1_hasBlock 2 (some .boolean) [] 9 h 0 [(0, va_rf v0), (1, .int v1)] [] (f_X1_hasBlock v0 v1 h) := by
  unfold f_X1_hasBlock
  refine s_iload_n (pc := 0) 1 dX1_hasBlock_0 rfl rfl ?_
  refine s_callSS (pc := 1) (np := 1) (as := [.int v1]) (rest := []) dX1_hasBlock_1 (c_X1_isPosition (by decide) v1 h) rfl rfl q2772 q2736 rfl (by decide) (zkI (fun x1 h2 => ?_)) zxo
  refine s_callSS (pc := 4) (np := 1) (as := [.int x1]) (rest := []) dX1_hasBlock_4 (c_X1_checkArgument (by decide) x1 h2) rfl rfl q2652 q2280 rfl (by decide) (zkV (fun h3 => ?_)) zxo
  refine s_aload_n (pc := 7) 0 dX1_hasBlock_7 rfl rfl ?_
  refine s_gR (pc := 8) dX1_hasBlock_8 gf_X1_30 (fun r4 => ?_)
  refine s_iload_n (pc := 11) 1 dX1_hasBlock_11 rfl rfl ?_
  refine zS_ite (fun ht => ?_) (fun _ => zS_none)
  refine s_callV (pc := 12) (np := 1) (as := [.int v1]) (rest := []) dX1_hasBlock_12 ht (q := (RX2, TX2, 10)) rfl (c_X2_hasBlock (by decide) r4 v1 h3) rfl rfl q2773 q1522 q1523 rfl (by decide) (zkI (fun x5 h6 => ?_)) zxo
  exact s_nret (pc := 15) dX1_hasBlock_15 rfl
theorem c_X1_hasBlock {d0 : Nat} (hd0 : 9 < d0) (v0 : Option Nat) (v1 : Int32) (h : zH) : zCal D z d0 h yX1_hasBlock [va_rf v0, .int v1] (f_X1_hasBlock v0 v1 h) :=
  ⟨cX1_hasBlock, 2, (some .boolean), [], 9, (show lv_args 0 [va_rf v0, .int v1] = [(0, va_rf v0), (1, .int v1)] by simp [lv_args, zcat_rf, zcat_i, zcat_l, zcat_f, zcat_d]) ▸ w_X1_hasBlock v0 v1 h, (plainFor_of_name (by decide)), by simp [lg_sl, zcat_rf, zcat_i, zcat_l, zcat_f, zcat_d], q2771, q95, hd0, by decide, by decide⟩
theorem w_X0_hasBlock_19 (s0 : Option Nat) (h : zH) : zS D z yX0_hasBlock cX0_hasBlock 4 (some .int) [(0, 16, 19, 13)] 10 h 19 [] [va_rf s0] (f_X0_hasBlock_19 s0 h) := by
  unfold f_X0_hasBlock_19
  refine s_ast_n (pc := 19) (L2 := []) [] dX0_hasBlock_19 rfl (by decide) rfl rfl (zcA rfl) ?_
  refine s_iconst (pc := 20) (v := 1) dX0_hasBlock_20 (by decide) ?_
  exact s_iret (pc := 21) dX0_hasBlock_21 rfl
theorem w_X0_hasBlock (v0 : Option Nat) (v1 : Int32) (v2 : Option Nat) (h : zH) : zS D z yX0_hasBlock cX0_hasBlock 4 (some .int) [(0, 16, 19, 13)] 10 h 0 [(0, va_rf v0), (1, .int v1), (2, va_rf v2)] [] (f_X0_hasBlock v0 v1 v2 h) := by
  unfold f_X0_hasBlock
  refine s_aload_n (pc := 0) 2 dX0_hasBlock_0 rfl rfl ?_
  refine s_iconst (pc := 1) (v := 0) dX0_hasBlock_1 (by decide) ?_
  refine s_aload_n (pc := 2) 0 dX0_hasBlock_2 rfl rfl ?_
  refine s_iload_n (pc := 3) 1 dX0_hasBlock_3 rfl rfl ?_
  refine zS_ite (fun ht => ?_) (fun _ => zS_none)
  refine s_callV (pc := 4) (np := 1) (as := [.int v1]) (rest := [.int 0, va_rf v2]) dX0_hasBlock_4 ht (q := (RX1, TX1, 11)) rfl (c_X1_hasBlock (by decide) v0 v1 h) rfl rfl q2768 q2769 q2770 rfl (by simp [zcat_rf, zcat_i, zcat_l, zcat_f, zcat_d]) (zkI (fun x3 h4 => ?_)) (fun e2 h1 => zT_ite (fun hx => (zT_catch (q := (RJ34, TJ34, 0)) [] (0, 16, 19, 13) [] rfl (by rw [hx]; rfl) zp0 rfl (by decide) q2266 (Or.inl rfl) rfl (by exact s_sub (pc := 19) [] rfl (w_X0_hasBlock_19 (some e2.2) h1)))) (fun _ => zT_ite (fun hx => (zT_out (fun q hq => by rw [hx] at hq; cases hq; exact (zpn (by decide) q2266 (by decide +kernel) zp0)))) (fun _ => zT_ite (fun hx => (zT_out (fun q hq => by rw [hx] at hq; cases hq; exact (zpn (by decide) q2266 (by decide +kernel) zp0)))) (fun _ => zT_ite (fun hx => (zT_out (fun q hq => by rw [hx] at hq; cases hq; exact (zpn (by decide) q2266 (by decide +kernel) zp0)))) (fun _ => zT_ite (fun hx => (zT_out (fun q hq => by rw [hx] at hq; cases hq; exact (zpn (by decide) q2266 (by decide +kernel) zp0)))) (fun _ => zT_ite (fun hx => (zT_out (fun q hq => by rw [hx] at hq; cases hq; exact (zpn (by decide) q2266 (by decide +kernel) zp0)))) (fun _ => zT_ite (fun hx => (zT_out (fun q hq => by rw [hx] at hq; cases hq; exact (zpn (by decide) q2266 (by decide +kernel) zp0)))) (fun _ => zT_ite (fun hx => (zT_out (fun q hq => by rw [hx] at hq; cases hq; exact (zpn (by decide) q2266 (by decide +kernel) zp0)))) (fun _ => zT_none)))))))))
  refine s_if_eq (pc := 7) (tgt := 14) dX0_hasBlock_7 (by decide) (fun _ => ?_) (fun _ => ?_)
  · refine s_lconst (pc := 14) (v := 0) dX0_hasBlock_14 (by decide) ?_
    refine s_last (pc := 15) dX0_hasBlock_15 (ztc rfl zt0) (fun h5 => ?_)
    refine s_goto (pc := 16) (tgt := 22) dX0_hasBlock_16 (by decide) ?_
    refine s_iconst (pc := 22) (v := 0) dX0_hasBlock_22 (by decide) ?_
    exact s_iret (pc := 23) dX0_hasBlock_23 rfl
  · refine s_lconst (pc := 10) (v := 1) dX0_hasBlock_10 (by decide) ?_
    refine s_goto (pc := 11) (tgt := 15) dX0_hasBlock_11 (by decide) ?_
    refine s_last (pc := 15) dX0_hasBlock_15 (ztc rfl zt0) (fun h6 => ?_)
    refine s_goto (pc := 16) (tgt := 22) dX0_hasBlock_16 (by decide) ?_
    refine s_iconst (pc := 22) (v := 0) dX0_hasBlock_22 (by decide) ?_
    exact s_iret (pc := 23) dX0_hasBlock_23 rfl
theorem c_X0_hasBlock {d0 : Nat} (hd0 : 10 < d0) (v0 : Option Nat) (v1 : Int32) (v2 : Option Nat) (h : zH) : zCal D z d0 h yX0_hasBlock [va_rf v0, .int v1, va_rf v2] (f_X0_hasBlock v0 v1 v2 h) :=
  ⟨cX0_hasBlock, 4, (some .int), [(0, 16, 19, 13)], 10, (show lv_args 0 [va_rf v0, .int v1, va_rf v2] = [(0, va_rf v0), (1, .int v1), (2, va_rf v2)] by simp [lv_args, zcat_rf, zcat_i, zcat_l, zcat_f, zcat_d]) ▸ w_X0_hasBlock v0 v1 v2 h, (plainFor_of_name (by decide)), by simp [lg_sl, zcat_rf, zcat_i, zcat_l, zcat_f, zcat_d], q2767, q94, hd0, by decide, by decide⟩
theorem w_X9_init (v0 : Option Nat) (v1 : Option Nat) (h : zH) : zS D z yX9_init cX9_init 2 none [] 1 h 0 [(0, va_rf v0), (1, va_rf v1)] [] (f_X9_init v0 v1 h) := by
  unfold f_X9_init
  refine s_aload_n (pc := 0) 0 dX9_init_0 rfl rfl ?_
  refine s_aload_n (pc := 1) 1 dX9_init_1 rfl rfl ?_
  refine s_putR (pc := 2) dX9_init_2 pf_X9_1 (fun h1 => ?_)
  refine s_aload_n (pc := 5) 0 dX9_init_5 rfl rfl ?_
  refine zS_ite (fun hr => ?_) (fun _ => zS_none)
  refine s_objinit (pc := 6) dX9_init_6 hr q1964 q164 q165 (by decide) (by decide) ?_
  refine s_aload_n (pc := 9) 0 dX9_init_9 rfl rfl ?_
  refine s_aload_n (pc := 10) 0 dX9_init_10 rfl rfl ?_
  refine s_gR (pc := 11) dX9_init_11 gf_X9_1 (fun r2 => ?_)
  refine s_gI (pc := 14) dX9_init_14 gf_X9_13 (fun x3 => ?_)
  refine s_putI (pc := 17) dX9_init_17 pf_X9_19 (fun h4 => ?_)
  exact s_vret (pc := 20) dX9_init_20 rfl
theorem c_X9_init {d0 : Nat} (hd0 : 1 < d0) (v0 : Option Nat) (v1 : Option Nat) (h : zH) : zCal D z d0 h yX9_init [va_rf v0, va_rf v1] (f_X9_init v0 v1 h) :=
  ⟨cX9_init, 2, none, [], 1, (show lv_args 0 [va_rf v0, va_rf v1] = [(0, va_rf v0), (1, va_rf v1)] by simp [lv_args, zcat_rf, zcat_i, zcat_l, zcat_f, zcat_d]) ▸ w_X9_init v0 v1 h, (plainFor_of_name (by decide)), by simp [lg_sl, zcat_rf, zcat_i, zcat_l, zcat_f, zcat_d], q1963, q152, hd0, by decide, by decide⟩
theorem w_X3_iterator (v0 : Option Nat) (h : zH) : zS D z yX3_iterator cX3_iterator 1 (some (.object "java/util/Iterator")) [] 2 h 0 [(0, va_rf v0)] [] (f_X3_iterator v0 h) := by
  unfold f_X3_iterator
  refine s_new (pc := 0) dX3_iterator_0 nf_X3_26 (fun r1 h2 => ?_)
  refine s_dup (pc := 3) dX3_iterator_3 (zcat_rf _) ?_
  refine s_aload_n (pc := 4) 0 dX3_iterator_4 rfl rfl ?_
  refine zS_ite (fun hr => ?_) (fun _ => zS_none)
  refine s_callC (pc := 5) (np := 1) (as := [va_rf v0]) (rest := [va_rf r1]) dX3_iterator_5 hr (c_X9_init (by decide) r1 v0 h2) ⟨_, _, q1963⟩ rfl rfl rfl q1961 q1962 rfl (by simp [zcat_rf, zcat_i, zcat_l, zcat_f, zcat_d]) (zkV (fun h3 => ?_)) zxo
  exact s_aret (pc := 8) dX3_iterator_8 rfl (Or.inl ⟨_, rfl⟩)
theorem c_X3_iterator {d0 : Nat} (hd0 : 2 < d0) (v0 : Option Nat) (h : zH) : zCal D z d0 h yX3_iterator [va_rf v0] (f_X3_iterator v0 h) :=
  ⟨cX3_iterator, 1, (some (.object "java/util/Iterator")), [], 2, (show lv_args 0 [va_rf v0] = [(0, va_rf v0)] by simp [lv_args, zcat_rf, zcat_i, zcat_l, zcat_f, zcat_d]) ▸ w_X3_iterator v0 h, (plainFor_of_name (by decide)), by simp [lg_sl, zcat_rf, zcat_i, zcat_l, zcat_f, zcat_d], q1958, q138, hd0, by decide, by decide⟩
theorem w_X2_blocksBeneathByMetres_55 (K17 : Option Nat → Int32 → Option Nat → zH → zO) (hK17 : ∀ (a0 : Option Nat) (a2 : Int32) (a3 : Option Nat) (h : zH), zS D z yX2_blocksBeneathByMetres cX2_blocksBeneathByMetres 5 (some .int) [] 10 h 17 [(0, va_rf a0), (2, .int a2), (3, va_rf a3)] [] (K17 a0 a2 a3 h)) (a0 : Option Nat) (a3 : Option Nat) (s0 : Int32) (s1 : Int32) (h : zH) : zS D z yX2_blocksBeneathByMetres cX2_blocksBeneathByMetres 5 (some .int) [] 10 h 55 [(0, va_rf a0), (3, va_rf a3)] [.int s0, .int s1] (f_X2_blocksBeneathByMetres_55 K17 a0 a3 s0 s1 h) := by
  unfold f_X2_blocksBeneathByMetres_55
  refine s_iadd (pc := 55) dX2_blocksBeneathByMetres_55 ?_
  refine s_nm (pc := 56) Value.int (fun x118 => ?_)
  refine s_ist_n (pc := 56) (L2 := [(0, va_rf a0), (3, va_rf a3)]) [0, 1] dX2_blocksBeneathByMetres_56 rfl (by decide) rfl rfl (zcA rfl) ?_
  refine s_goto (pc := 57) (tgt := 17) dX2_blocksBeneathByMetres_57 (by decide) ?_
  exact s_sub (pc := 17) [1, 0, 2] rfl (hK17 a0 x118 a3 h)
theorem w_X2_blocksBeneathByMetres_17 : ∀ (n : Nat) (a0 : Option Nat) (a2 : Int32) (a3 : Option Nat) (h : zH), zS D z yX2_blocksBeneathByMetres cX2_blocksBeneathByMetres 5 (some .int) [] 10 h 17 [(0, va_rf a0), (2, .int a2), (3, va_rf a3)] [] (f_X2_blocksBeneathByMetres_17 n a0 a2 a3 h) := by
  intro n
  induction n with
  | zero => intros; exact zS_none
  | succ n ih =>
    intro a0 a2 a3 h
    rw [f_X2_blocksBeneathByMetres_17.eq_2]
    refine s_aload_n (pc := 17) 2 dX2_blocksBeneathByMetres_17 rfl rfl ?_
    refine zS_ite (fun ht => ?_) (fun _ => ?_)
    · refine s_callF (pc := 18) (np := 0) (as := []) (rest := []) dX2_blocksBeneathByMetres_18 ht (q := (RX9, TX9, 2)) rfl (c_X9_hasNext (by decide) a3 h) ⟨_, _, _, q637⟩ rfl rfl q629 (by decide +kernel) q635 q633 rfl (by decide) (zkI (fun x6 h7 => ?_)) zxo
      refine s_if_eq (pc := 23) (tgt := 60) dX2_blocksBeneathByMetres_23 (by decide) (fun _ => ?_) (fun _ => ?_)
      · refine s_iload_n (pc := 60) 1 dX2_blocksBeneathByMetres_60 rfl rfl ?_
        exact s_iret (pc := 61) dX2_blocksBeneathByMetres_61 rfl
      · refine s_aload_n (pc := 26) 2 dX2_blocksBeneathByMetres_26 rfl rfl ?_
        refine zS_ite (fun ht => ?_) (fun _ => ?_)
        · refine s_callF (pc := 27) (np := 0) (as := []) (rest := []) dX2_blocksBeneathByMetres_27 ht (q := (RX9, TX9, 2)) rfl (c_X9_next (by decide) a3 h7) ⟨_, _, _, q677⟩ rfl rfl q670 (by decide +kernel) q675 q673 rfl (by decide) (zkR (fun r8 h9 => ?_)) zxo
          refine s_cast (pc := 32) dX2_blocksBeneathByMetres_32 q1972 zcs_java_lang_Integer ?_
          refine zS_ite (fun ht => ?_) (fun _ => zS_none)
          refine s_callV (pc := 35) (np := 0) (as := []) (rest := []) dX2_blocksBeneathByMetres_35 ht (q := (RJ24, TJ24, 1)) rfl (c_J24_intValue (by decide) r8 h9) rfl rfl q1973 q1678 q1679 rfl (by decide) (zkI (fun x10 h11 => ?_)) zxo
          refine s_ist (pc := 38) (L2 := [(0, va_rf a0), (2, .int a2), (3, va_rf a3)]) [0, 1, 2] dX2_blocksBeneathByMetres_38 (by decide) rfl rfl (zcB (j := 2) rfl (zcat_rf a3) rfl) ?_
          refine s_iload_n (pc := 40) 2 dX2_blocksBeneathByMetres_40 rfl rfl ?_
          refine s_aload_n (pc := 41) 1 dX2_blocksBeneathByMetres_41 rfl rfl ?_
          refine s_iload (pc := 42) 0 dX2_blocksBeneathByMetres_42 rfl ?_
          refine zS_ite (fun ht => ?_) (fun _ => zS_none)
          refine s_callV (pc := 44) (np := 1) (as := [.int x10]) (rest := [.int a2]) dX2_blocksBeneathByMetres_44 ht (q := (RX2, TX2, 10)) rfl (c_X2_hasBlock (by decide) a0 x10 h11) rfl rfl q1521 q1522 q1523 rfl (by simp [zcat_rf, zcat_i, zcat_l, zcat_f, zcat_d]) (zkI (fun x12 h13 => ?_)) zxo
          refine s_if_eq (pc := 47) (tgt := 54) dX2_blocksBeneathByMetres_47 (by decide) (fun _ => ?_) (fun _ => ?_)
          · refine s_iconst (pc := 54) (v := 0) dX2_blocksBeneathByMetres_54 (by decide) ?_
            exact s_sub (pc := 55) [1, 3] rfl (w_X2_blocksBeneathByMetres_55 (f_X2_blocksBeneathByMetres_17 n) ih a0 a3 0 a2 h13)
          · refine s_iconst (pc := 50) (v := 1) dX2_blocksBeneathByMetres_50 (by decide) ?_
            refine s_goto (pc := 51) (tgt := 55) dX2_blocksBeneathByMetres_51 (by decide) ?_
            exact s_sub (pc := 55) [1, 3] rfl (w_X2_blocksBeneathByMetres_55 (f_X2_blocksBeneathByMetres_17 n) ih a0 a3 1 a2 h13)
        refine zS_ite (fun ht => ?_) (fun _ => ?_)
        · refine s_callF (pc := 27) (np := 0) (as := []) (rest := []) dX2_blocksBeneathByMetres_27 ht (q := (RJ15, TJ15, 4)) rfl (c_J15_next (by decide) a3 h7) ⟨_, _, _, q788⟩ rfl rfl q670 (by decide +kernel) q786 q784 rfl (by decide) (zkR (fun r8 h9 => ?_)) zxo
          refine s_cast (pc := 32) dX2_blocksBeneathByMetres_32 q1972 zcs_java_lang_Integer ?_
          refine zS_ite (fun ht => ?_) (fun _ => zS_none)
          refine s_callV (pc := 35) (np := 0) (as := []) (rest := []) dX2_blocksBeneathByMetres_35 ht (q := (RJ24, TJ24, 1)) rfl (c_J24_intValue (by decide) r8 h9) rfl rfl q1973 q1678 q1679 rfl (by decide) (zkI (fun x14 h15 => ?_)) zxo
          refine s_ist (pc := 38) (L2 := [(0, va_rf a0), (2, .int a2), (3, va_rf a3)]) [0, 1, 2] dX2_blocksBeneathByMetres_38 (by decide) rfl rfl (zcB (j := 2) rfl (zcat_rf a3) rfl) ?_
          refine s_iload_n (pc := 40) 2 dX2_blocksBeneathByMetres_40 rfl rfl ?_
          refine s_aload_n (pc := 41) 1 dX2_blocksBeneathByMetres_41 rfl rfl ?_
          refine s_iload (pc := 42) 0 dX2_blocksBeneathByMetres_42 rfl ?_
          refine zS_ite (fun ht => ?_) (fun _ => zS_none)
          refine s_callV (pc := 44) (np := 1) (as := [.int x14]) (rest := [.int a2]) dX2_blocksBeneathByMetres_44 ht (q := (RX2, TX2, 10)) rfl (c_X2_hasBlock (by decide) a0 x14 h15) rfl rfl q1521 q1522 q1523 rfl (by simp [zcat_rf, zcat_i, zcat_l, zcat_f, zcat_d]) (zkI (fun x16 h17 => ?_)) zxo
          refine s_if_eq (pc := 47) (tgt := 54) dX2_blocksBeneathByMetres_47 (by decide) (fun _ => ?_) (fun _ => ?_)
          · refine s_iconst (pc := 54) (v := 0) dX2_blocksBeneathByMetres_54 (by decide) ?_
            exact s_sub (pc := 55) [1, 3] rfl (w_X2_blocksBeneathByMetres_55 (f_X2_blocksBeneathByMetres_17 n) ih a0 a3 0 a2 h17)
          · refine s_iconst (pc := 50) (v := 1) dX2_blocksBeneathByMetres_50 (by decide) ?_
            refine s_goto (pc := 51) (tgt := 55) dX2_blocksBeneathByMetres_51 (by decide) ?_
            exact s_sub (pc := 55) [1, 3] rfl (w_X2_blocksBeneathByMetres_55 (f_X2_blocksBeneathByMetres_17 n) ih a0 a3 1 a2 h17)
        refine zS_ite (fun ht => ?_) (fun _ => ?_)
        · refine s_callF (pc := 27) (np := 0) (as := []) (rest := []) dX2_blocksBeneathByMetres_27 ht (q := (RJ17, TJ17, 5)) rfl (c_J17_next (by decide) a3 h7) ⟨_, _, _, q799⟩ rfl rfl q670 (by decide +kernel) q797 q795 rfl (by decide) (zkR (fun r8 h9 => ?_)) zxo
          refine s_cast (pc := 32) dX2_blocksBeneathByMetres_32 q1972 zcs_java_lang_Integer ?_
          refine zS_ite (fun ht => ?_) (fun _ => zS_none)
          refine s_callV (pc := 35) (np := 0) (as := []) (rest := []) dX2_blocksBeneathByMetres_35 ht (q := (RJ24, TJ24, 1)) rfl (c_J24_intValue (by decide) r8 h9) rfl rfl q1973 q1678 q1679 rfl (by decide) (zkI (fun x18 h19 => ?_)) zxo
          refine s_ist (pc := 38) (L2 := [(0, va_rf a0), (2, .int a2), (3, va_rf a3)]) [0, 1, 2] dX2_blocksBeneathByMetres_38 (by decide) rfl rfl (zcB (j := 2) rfl (zcat_rf a3) rfl) ?_
          refine s_iload_n (pc := 40) 2 dX2_blocksBeneathByMetres_40 rfl rfl ?_
          refine s_aload_n (pc := 41) 1 dX2_blocksBeneathByMetres_41 rfl rfl ?_
          refine s_iload (pc := 42) 0 dX2_blocksBeneathByMetres_42 rfl ?_
          refine zS_ite (fun ht => ?_) (fun _ => zS_none)
          refine s_callV (pc := 44) (np := 1) (as := [.int x18]) (rest := [.int a2]) dX2_blocksBeneathByMetres_44 ht (q := (RX2, TX2, 10)) rfl (c_X2_hasBlock (by decide) a0 x18 h19) rfl rfl q1521 q1522 q1523 rfl (by simp [zcat_rf, zcat_i, zcat_l, zcat_f, zcat_d]) (zkI (fun x20 h21 => ?_)) zxo
          refine s_if_eq (pc := 47) (tgt := 54) dX2_blocksBeneathByMetres_47 (by decide) (fun _ => ?_) (fun _ => ?_)
          · refine s_iconst (pc := 54) (v := 0) dX2_blocksBeneathByMetres_54 (by decide) ?_
            exact s_sub (pc := 55) [1, 3] rfl (w_X2_blocksBeneathByMetres_55 (f_X2_blocksBeneathByMetres_17 n) ih a0 a3 0 a2 h21)
          · refine s_iconst (pc := 50) (v := 1) dX2_blocksBeneathByMetres_50 (by decide) ?_
            refine s_goto (pc := 51) (tgt := 55) dX2_blocksBeneathByMetres_51 (by decide) ?_
            exact s_sub (pc := 55) [1, 3] rfl (w_X2_blocksBeneathByMetres_55 (f_X2_blocksBeneathByMetres_17 n) ih a0 a3 1 a2 h21)
        refine zS_ite (fun ht => ?_) (fun _ => ?_)
        · refine s_callF (pc := 27) (np := 0) (as := []) (rest := []) dX2_blocksBeneathByMetres_27 ht (q := (RJ21, TJ21, 5)) rfl (c_J21_next (by decide) a3 h7) ⟨_, _, _, q812⟩ rfl rfl q670 (by decide +kernel) q810 q808 rfl (by decide) (zkR (fun r8 h9 => ?_)) zxo
          refine s_cast (pc := 32) dX2_blocksBeneathByMetres_32 q1972 zcs_java_lang_Integer ?_
          refine zS_ite (fun ht => ?_) (fun _ => zS_none)
          refine s_callV (pc := 35) (np := 0) (as := []) (rest := []) dX2_blocksBeneathByMetres_35 ht (q := (RJ24, TJ24, 1)) rfl (c_J24_intValue (by decide) r8 h9) rfl rfl q1973 q1678 q1679 rfl (by decide) (zkI (fun x22 h23 => ?_)) zxo
          refine s_ist (pc := 38) (L2 := [(0, va_rf a0), (2, .int a2), (3, va_rf a3)]) [0, 1, 2] dX2_blocksBeneathByMetres_38 (by decide) rfl rfl (zcB (j := 2) rfl (zcat_rf a3) rfl) ?_
          refine s_iload_n (pc := 40) 2 dX2_blocksBeneathByMetres_40 rfl rfl ?_
          refine s_aload_n (pc := 41) 1 dX2_blocksBeneathByMetres_41 rfl rfl ?_
          refine s_iload (pc := 42) 0 dX2_blocksBeneathByMetres_42 rfl ?_
          refine zS_ite (fun ht => ?_) (fun _ => zS_none)
          refine s_callV (pc := 44) (np := 1) (as := [.int x22]) (rest := [.int a2]) dX2_blocksBeneathByMetres_44 ht (q := (RX2, TX2, 10)) rfl (c_X2_hasBlock (by decide) a0 x22 h23) rfl rfl q1521 q1522 q1523 rfl (by simp [zcat_rf, zcat_i, zcat_l, zcat_f, zcat_d]) (zkI (fun x24 h25 => ?_)) zxo
          refine s_if_eq (pc := 47) (tgt := 54) dX2_blocksBeneathByMetres_47 (by decide) (fun _ => ?_) (fun _ => ?_)
          · refine s_iconst (pc := 54) (v := 0) dX2_blocksBeneathByMetres_54 (by decide) ?_
            exact s_sub (pc := 55) [1, 3] rfl (w_X2_blocksBeneathByMetres_55 (f_X2_blocksBeneathByMetres_17 n) ih a0 a3 0 a2 h25)
          · refine s_iconst (pc := 50) (v := 1) dX2_blocksBeneathByMetres_50 (by decide) ?_
            refine s_goto (pc := 51) (tgt := 55) dX2_blocksBeneathByMetres_51 (by decide) ?_
            exact s_sub (pc := 55) [1, 3] rfl (w_X2_blocksBeneathByMetres_55 (f_X2_blocksBeneathByMetres_17 n) ih a0 a3 1 a2 h25)
        refine zS_ite (fun ht => ?_) (fun _ => zS_none)
        refine s_callF (pc := 27) (np := 0) (as := []) (rest := []) dX2_blocksBeneathByMetres_27 ht (q := (RJ22, TJ22, 5)) rfl (c_J22_next (by decide) a3 h7) ⟨_, _, _, q832⟩ rfl rfl q670 (by decide +kernel) q830 q828 rfl (by decide) (zkR (fun r8 h9 => ?_)) zxo
        refine s_cast (pc := 32) dX2_blocksBeneathByMetres_32 q1972 zcs_java_lang_Integer ?_
        refine zS_ite (fun ht => ?_) (fun _ => zS_none)
        refine s_callV (pc := 35) (np := 0) (as := []) (rest := []) dX2_blocksBeneathByMetres_35 ht (q := (RJ24, TJ24, 1)) rfl (c_J24_intValue (by decide) r8 h9) rfl rfl q1973 q1678 q1679 rfl (by decide) (zkI (fun x26 h27 => ?_)) zxo
        refine s_ist (pc := 38) (L2 := [(0, va_rf a0), (2, .int a2), (3, va_rf a3)]) [0, 1, 2] dX2_blocksBeneathByMetres_38 (by decide) rfl rfl (zcB (j := 2) rfl (zcat_rf a3) rfl) ?_
        refine s_iload_n (pc := 40) 2 dX2_blocksBeneathByMetres_40 rfl rfl ?_
        refine s_aload_n (pc := 41) 1 dX2_blocksBeneathByMetres_41 rfl rfl ?_
        refine s_iload (pc := 42) 0 dX2_blocksBeneathByMetres_42 rfl ?_
        refine zS_ite (fun ht => ?_) (fun _ => zS_none)
        refine s_callV (pc := 44) (np := 1) (as := [.int x26]) (rest := [.int a2]) dX2_blocksBeneathByMetres_44 ht (q := (RX2, TX2, 10)) rfl (c_X2_hasBlock (by decide) a0 x26 h27) rfl rfl q1521 q1522 q1523 rfl (by simp [zcat_rf, zcat_i, zcat_l, zcat_f, zcat_d]) (zkI (fun x28 h29 => ?_)) zxo
        refine s_if_eq (pc := 47) (tgt := 54) dX2_blocksBeneathByMetres_47 (by decide) (fun _ => ?_) (fun _ => ?_)
        · refine s_iconst (pc := 54) (v := 0) dX2_blocksBeneathByMetres_54 (by decide) ?_
          exact s_sub (pc := 55) [1, 3] rfl (w_X2_blocksBeneathByMetres_55 (f_X2_blocksBeneathByMetres_17 n) ih a0 a3 0 a2 h29)
        · refine s_iconst (pc := 50) (v := 1) dX2_blocksBeneathByMetres_50 (by decide) ?_
          refine s_goto (pc := 51) (tgt := 55) dX2_blocksBeneathByMetres_51 (by decide) ?_
          exact s_sub (pc := 55) [1, 3] rfl (w_X2_blocksBeneathByMetres_55 (f_X2_blocksBeneathByMetres_17 n) ih a0 a3 1 a2 h29)
    refine zS_ite (fun ht => ?_) (fun _ => ?_)
    · refine s_callF (pc := 18) (np := 0) (as := []) (rest := []) dX2_blocksBeneathByMetres_18 ht (q := (RJ15, TJ15, 4)) rfl (c_J15_hasNext (by decide) a3 h) ⟨_, _, _, q653⟩ rfl rfl q629 (by decide +kernel) q651 q649 rfl (by decide) (zkI (fun x6 h7 => ?_)) zxo
      refine s_if_eq (pc := 23) (tgt := 60) dX2_blocksBeneathByMetres_23 (by decide) (fun _ => ?_) (fun _ => ?_)
      · refine s_iload_n (pc := 60) 1 dX2_blocksBeneathByMetres_60 rfl rfl ?_
        exact s_iret (pc := 61) dX2_blocksBeneathByMetres_61 rfl
      · refine s_aload_n (pc := 26) 2 dX2_blocksBeneathByMetres_26 rfl rfl ?_
        refine zS_ite (fun ht => ?_) (fun _ => ?_)
        · refine s_callF (pc := 27) (np := 0) (as := []) (rest := []) dX2_blocksBeneathByMetres_27 ht (q := (RX9, TX9, 2)) rfl (c_X9_next (by decide) a3 h7) ⟨_, _, _, q677⟩ rfl rfl q670 (by decide +kernel) q675 q673 rfl (by decide) (zkR (fun r30 h31 => ?_)) zxo
          refine s_cast (pc := 32) dX2_blocksBeneathByMetres_32 q1972 zcs_java_lang_Integer ?_
          refine zS_ite (fun ht => ?_) (fun _ => zS_none)
          refine s_callV (pc := 35) (np := 0) (as := []) (rest := []) dX2_blocksBeneathByMetres_35 ht (q := (RJ24, TJ24, 1)) rfl (c_J24_intValue (by decide) r30 h31) rfl rfl q1973 q1678 q1679 rfl (by decide) (zkI (fun x32 h33 => ?_)) zxo
          refine s_ist (pc := 38) (L2 := [(0, va_rf a0), (2, .int a2), (3, va_rf a3)]) [0, 1, 2] dX2_blocksBeneathByMetres_38 (by decide) rfl rfl (zcB (j := 2) rfl (zcat_rf a3) rfl) ?_
          refine s_iload_n (pc := 40) 2 dX2_blocksBeneathByMetres_40 rfl rfl ?_
          refine s_aload_n (pc := 41) 1 dX2_blocksBeneathByMetres_41 rfl rfl ?_
          refine s_iload (pc := 42) 0 dX2_blocksBeneathByMetres_42 rfl ?_
          refine zS_ite (fun ht => ?_) (fun _ => zS_none)
          refine s_callV (pc := 44) (np := 1) (as := [.int x32]) (rest := [.int a2]) dX2_blocksBeneathByMetres_44 ht (q := (RX2, TX2, 10)) rfl (c_X2_hasBlock (by decide) a0 x32 h33) rfl rfl q1521 q1522 q1523 rfl (by simp [zcat_rf, zcat_i, zcat_l, zcat_f, zcat_d]) (zkI (fun x34 h35 => ?_)) zxo
          refine s_if_eq (pc := 47) (tgt := 54) dX2_blocksBeneathByMetres_47 (by decide) (fun _ => ?_) (fun _ => ?_)
          · refine s_iconst (pc := 54) (v := 0) dX2_blocksBeneathByMetres_54 (by decide) ?_
            exact s_sub (pc := 55) [1, 3] rfl (w_X2_blocksBeneathByMetres_55 (f_X2_blocksBeneathByMetres_17 n) ih a0 a3 0 a2 h35)
          · refine s_iconst (pc := 50) (v := 1) dX2_blocksBeneathByMetres_50 (by decide) ?_
            refine s_goto (pc := 51) (tgt := 55) dX2_blocksBeneathByMetres_51 (by decide) ?_
            exact s_sub (pc := 55) [1, 3] rfl (w_X2_blocksBeneathByMetres_55 (f_X2_blocksBeneathByMetres_17 n) ih a0 a3 1 a2 h35)
        refine zS_ite (fun ht => ?_) (fun _ => ?_)
        · refine s_callF (pc := 27) (np := 0) (as := []) (rest := []) dX2_blocksBeneathByMetres_27 ht (q := (RJ15, TJ15, 4)) rfl (c_J15_next (by decide) a3 h7) ⟨_, _, _, q788⟩ rfl rfl q670 (by decide +kernel) q786 q784 rfl (by decide) (zkR (fun r30 h31 => ?_)) zxo
          refine s_cast (pc := 32) dX2_blocksBeneathByMetres_32 q1972 zcs_java_lang_Integer ?_
          refine zS_ite (fun ht => ?_) (fun _ => zS_none)
          refine s_callV (pc := 35) (np := 0) (as := []) (rest := []) dX2_blocksBeneathByMetres_35 ht (q := (RJ24, TJ24, 1)) rfl (c_J24_intValue (by decide) r30 h31) rfl rfl q1973 q1678 q1679 rfl (by decide) (zkI (fun x36 h37 => ?_)) zxo
          refine s_ist (pc := 38) (L2 := [(0, va_rf a0), (2, .int a2), (3, va_rf a3)]) [0, 1, 2] dX2_blocksBeneathByMetres_38 (by decide) rfl rfl (zcB (j := 2) rfl (zcat_rf a3) rfl) ?_
          refine s_iload_n (pc := 40) 2 dX2_blocksBeneathByMetres_40 rfl rfl ?_
          refine s_aload_n (pc := 41) 1 dX2_blocksBeneathByMetres_41 rfl rfl ?_
          refine s_iload (pc := 42) 0 dX2_blocksBeneathByMetres_42 rfl ?_
          refine zS_ite (fun ht => ?_) (fun _ => zS_none)
          refine s_callV (pc := 44) (np := 1) (as := [.int x36]) (rest := [.int a2]) dX2_blocksBeneathByMetres_44 ht (q := (RX2, TX2, 10)) rfl (c_X2_hasBlock (by decide) a0 x36 h37) rfl rfl q1521 q1522 q1523 rfl (by simp [zcat_rf, zcat_i, zcat_l, zcat_f, zcat_d]) (zkI (fun x38 h39 => ?_)) zxo
          refine s_if_eq (pc := 47) (tgt := 54) dX2_blocksBeneathByMetres_47 (by decide) (fun _ => ?_) (fun _ => ?_)
          · refine s_iconst (pc := 54) (v := 0) dX2_blocksBeneathByMetres_54 (by decide) ?_
            exact s_sub (pc := 55) [1, 3] rfl (w_X2_blocksBeneathByMetres_55 (f_X2_blocksBeneathByMetres_17 n) ih a0 a3 0 a2 h39)
          · refine s_iconst (pc := 50) (v := 1) dX2_blocksBeneathByMetres_50 (by decide) ?_
            refine s_goto (pc := 51) (tgt := 55) dX2_blocksBeneathByMetres_51 (by decide) ?_
            exact s_sub (pc := 55) [1, 3] rfl (w_X2_blocksBeneathByMetres_55 (f_X2_blocksBeneathByMetres_17 n) ih a0 a3 1 a2 h39)
        refine zS_ite (fun ht => ?_) (fun _ => ?_)
        · refine s_callF (pc := 27) (np := 0) (as := []) (rest := []) dX2_blocksBeneathByMetres_27 ht (q := (RJ17, TJ17, 5)) rfl (c_J17_next (by decide) a3 h7) ⟨_, _, _, q799⟩ rfl rfl q670 (by decide +kernel) q797 q795 rfl (by decide) (zkR (fun r30 h31 => ?_)) zxo
          refine s_cast (pc := 32) dX2_blocksBeneathByMetres_32 q1972 zcs_java_lang_Integer ?_
          refine zS_ite (fun ht => ?_) (fun _ => zS_none)
          refine s_callV (pc := 35) (np := 0) (as := []) (rest := []) dX2_blocksBeneathByMetres_35 ht (q := (RJ24, TJ24, 1)) rfl (c_J24_intValue (by decide) r30 h31) rfl rfl q1973 q1678 q1679 rfl (by decide) (zkI (fun x40 h41 => ?_)) zxo
          refine s_ist (pc := 38) (L2 := [(0, va_rf a0), (2, .int a2), (3, va_rf a3)]) [0, 1, 2] dX2_blocksBeneathByMetres_38 (by decide) rfl rfl (zcB (j := 2) rfl (zcat_rf a3) rfl) ?_
          refine s_iload_n (pc := 40) 2 dX2_blocksBeneathByMetres_40 rfl rfl ?_
          refine s_aload_n (pc := 41) 1 dX2_blocksBeneathByMetres_41 rfl rfl ?_
          refine s_iload (pc := 42) 0 dX2_blocksBeneathByMetres_42 rfl ?_
          refine zS_ite (fun ht => ?_) (fun _ => zS_none)
          refine s_callV (pc := 44) (np := 1) (as := [.int x40]) (rest := [.int a2]) dX2_blocksBeneathByMetres_44 ht (q := (RX2, TX2, 10)) rfl (c_X2_hasBlock (by decide) a0 x40 h41) rfl rfl q1521 q1522 q1523 rfl (by simp [zcat_rf, zcat_i, zcat_l, zcat_f, zcat_d]) (zkI (fun x42 h43 => ?_)) zxo
          refine s_if_eq (pc := 47) (tgt := 54) dX2_blocksBeneathByMetres_47 (by decide) (fun _ => ?_) (fun _ => ?_)
          · refine s_iconst (pc := 54) (v := 0) dX2_blocksBeneathByMetres_54 (by decide) ?_
            exact s_sub (pc := 55) [1, 3] rfl (w_X2_blocksBeneathByMetres_55 (f_X2_blocksBeneathByMetres_17 n) ih a0 a3 0 a2 h43)
          · refine s_iconst (pc := 50) (v := 1) dX2_blocksBeneathByMetres_50 (by decide) ?_
            refine s_goto (pc := 51) (tgt := 55) dX2_blocksBeneathByMetres_51 (by decide) ?_
            exact s_sub (pc := 55) [1, 3] rfl (w_X2_blocksBeneathByMetres_55 (f_X2_blocksBeneathByMetres_17 n) ih a0 a3 1 a2 h43)
        refine zS_ite (fun ht => ?_) (fun _ => ?_)
        · refine s_callF (pc := 27) (np := 0) (as := []) (rest := []) dX2_blocksBeneathByMetres_27 ht (q := (RJ21, TJ21, 5)) rfl (c_J21_next (by decide) a3 h7) ⟨_, _, _, q812⟩ rfl rfl q670 (by decide +kernel) q810 q808 rfl (by decide) (zkR (fun r30 h31 => ?_)) zxo
          refine s_cast (pc := 32) dX2_blocksBeneathByMetres_32 q1972 zcs_java_lang_Integer ?_
          refine zS_ite (fun ht => ?_) (fun _ => zS_none)
          refine s_callV (pc := 35) (np := 0) (as := []) (rest := []) dX2_blocksBeneathByMetres_35 ht (q := (RJ24, TJ24, 1)) rfl (c_J24_intValue (by decide) r30 h31) rfl rfl q1973 q1678 q1679 rfl (by decide) (zkI (fun x44 h45 => ?_)) zxo
          refine s_ist (pc := 38) (L2 := [(0, va_rf a0), (2, .int a2), (3, va_rf a3)]) [0, 1, 2] dX2_blocksBeneathByMetres_38 (by decide) rfl rfl (zcB (j := 2) rfl (zcat_rf a3) rfl) ?_
          refine s_iload_n (pc := 40) 2 dX2_blocksBeneathByMetres_40 rfl rfl ?_
          refine s_aload_n (pc := 41) 1 dX2_blocksBeneathByMetres_41 rfl rfl ?_
          refine s_iload (pc := 42) 0 dX2_blocksBeneathByMetres_42 rfl ?_
          refine zS_ite (fun ht => ?_) (fun _ => zS_none)
          refine s_callV (pc := 44) (np := 1) (as := [.int x44]) (rest := [.int a2]) dX2_blocksBeneathByMetres_44 ht (q := (RX2, TX2, 10)) rfl (c_X2_hasBlock (by decide) a0 x44 h45) rfl rfl q1521 q1522 q1523 rfl (by simp [zcat_rf, zcat_i, zcat_l, zcat_f, zcat_d]) (zkI (fun x46 h47 => ?_)) zxo
          refine s_if_eq (pc := 47) (tgt := 54) dX2_blocksBeneathByMetres_47 (by decide) (fun _ => ?_) (fun _ => ?_)
          · refine s_iconst (pc := 54) (v := 0) dX2_blocksBeneathByMetres_54 (by decide) ?_
            exact s_sub (pc := 55) [1, 3] rfl (w_X2_blocksBeneathByMetres_55 (f_X2_blocksBeneathByMetres_17 n) ih a0 a3 0 a2 h47)
          · refine s_iconst (pc := 50) (v := 1) dX2_blocksBeneathByMetres_50 (by decide) ?_
            refine s_goto (pc := 51) (tgt := 55) dX2_blocksBeneathByMetres_51 (by decide) ?_
            exact s_sub (pc := 55) [1, 3] rfl (w_X2_blocksBeneathByMetres_55 (f_X2_blocksBeneathByMetres_17 n) ih a0 a3 1 a2 h47)
        refine zS_ite (fun ht => ?_) (fun _ => zS_none)
        refine s_callF (pc := 27) (np := 0) (as := []) (rest := []) dX2_blocksBeneathByMetres_27 ht (q := (RJ22, TJ22, 5)) rfl (c_J22_next (by decide) a3 h7) ⟨_, _, _, q832⟩ rfl rfl q670 (by decide +kernel) q830 q828 rfl (by decide) (zkR (fun r30 h31 => ?_)) zxo
        refine s_cast (pc := 32) dX2_blocksBeneathByMetres_32 q1972 zcs_java_lang_Integer ?_
        refine zS_ite (fun ht => ?_) (fun _ => zS_none)
        refine s_callV (pc := 35) (np := 0) (as := []) (rest := []) dX2_blocksBeneathByMetres_35 ht (q := (RJ24, TJ24, 1)) rfl (c_J24_intValue (by decide) r30 h31) rfl rfl q1973 q1678 q1679 rfl (by decide) (zkI (fun x48 h49 => ?_)) zxo
        refine s_ist (pc := 38) (L2 := [(0, va_rf a0), (2, .int a2), (3, va_rf a3)]) [0, 1, 2] dX2_blocksBeneathByMetres_38 (by decide) rfl rfl (zcB (j := 2) rfl (zcat_rf a3) rfl) ?_
        refine s_iload_n (pc := 40) 2 dX2_blocksBeneathByMetres_40 rfl rfl ?_
        refine s_aload_n (pc := 41) 1 dX2_blocksBeneathByMetres_41 rfl rfl ?_
        refine s_iload (pc := 42) 0 dX2_blocksBeneathByMetres_42 rfl ?_
        refine zS_ite (fun ht => ?_) (fun _ => zS_none)
        refine s_callV (pc := 44) (np := 1) (as := [.int x48]) (rest := [.int a2]) dX2_blocksBeneathByMetres_44 ht (q := (RX2, TX2, 10)) rfl (c_X2_hasBlock (by decide) a0 x48 h49) rfl rfl q1521 q1522 q1523 rfl (by simp [zcat_rf, zcat_i, zcat_l, zcat_f, zcat_d]) (zkI (fun x50 h51 => ?_)) zxo
        refine s_if_eq (pc := 47) (tgt := 54) dX2_blocksBeneathByMetres_47 (by decide) (fun _ => ?_) (fun _ => ?_)
        · refine s_iconst (pc := 54) (v := 0) dX2_blocksBeneathByMetres_54 (by decide) ?_
          exact s_sub (pc := 55) [1, 3] rfl (w_X2_blocksBeneathByMetres_55 (f_X2_blocksBeneathByMetres_17 n) ih a0 a3 0 a2 h51)
        · refine s_iconst (pc := 50) (v := 1) dX2_blocksBeneathByMetres_50 (by decide) ?_
          refine s_goto (pc := 51) (tgt := 55) dX2_blocksBeneathByMetres_51 (by decide) ?_
          exact s_sub (pc := 55) [1, 3] rfl (w_X2_blocksBeneathByMetres_55 (f_X2_blocksBeneathByMetres_17 n) ih a0 a3 1 a2 h51)
    refine zS_ite (fun ht => ?_) (fun _ => ?_)
    · refine s_callF (pc := 18) (np := 0) (as := []) (rest := []) dX2_blocksBeneathByMetres_18 ht (q := (RJ17, TJ17, 5)) rfl (c_J16_hasNext (by decide) a3 h) ⟨_, _, _, q659⟩ rfl rfl q629 (by decide +kernel) q657 q655 rfl (by decide) (zkI (fun x6 h7 => ?_)) zxo
      refine s_if_eq (pc := 23) (tgt := 60) dX2_blocksBeneathByMetres_23 (by decide) (fun _ => ?_) (fun _ => ?_)
      · refine s_iload_n (pc := 60) 1 dX2_blocksBeneathByMetres_60 rfl rfl ?_
        exact s_iret (pc := 61) dX2_blocksBeneathByMetres_61 rfl
      · refine s_aload_n (pc := 26) 2 dX2_blocksBeneathByMetres_26 rfl rfl ?_
        refine zS_ite (fun ht => ?_) (fun _ => ?_)
        · refine s_callF (pc := 27) (np := 0) (as := []) (rest := []) dX2_blocksBeneathByMetres_27 ht (q := (RX9, TX9, 2)) rfl (c_X9_next (by decide) a3 h7) ⟨_, _, _, q677⟩ rfl rfl q670 (by decide +kernel) q675 q673 rfl (by decide) (zkR (fun r52 h53 => ?_)) zxo
          refine s_cast (pc := 32) dX2_blocksBeneathByMetres_32 q1972 zcs_java_lang_Integer ?_
          refine zS_ite (fun ht => ?_) (fun _ => zS_none)
          refine s_callV (pc := 35) (np := 0) (as := []) (rest := []) dX2_blocksBeneathByMetres_35 ht (q := (RJ24, TJ24, 1)) rfl (c_J24_intValue (by decide) r52 h53) rfl rfl q1973 q1678 q1679 rfl (by decide) (zkI (fun x54 h55 => ?_)) zxo
          refine s_ist (pc := 38) (L2 := [(0, va_rf a0), (2, .int a2), (3, va_rf a3)]) [0, 1, 2] dX2_blocksBeneathByMetres_38 (by decide) rfl rfl (zcB (j := 2) rfl (zcat_rf a3) rfl) ?_
          refine s_iload_n (pc := 40) 2 dX2_blocksBeneathByMetres_40 rfl rfl ?_
          refine s_aload_n (pc := 41) 1 dX2_blocksBeneathByMetres_41 rfl rfl ?_
          refine s_iload (pc := 42) 0 dX2_blocksBeneathByMetres_42 rfl ?_
          refine zS_ite (fun ht => ?_) (fun _ => zS_none)
          refine s_callV (pc := 44) (np := 1) (as := [.int x54]) (rest := [.int a2]) dX2_blocksBeneathByMetres_44 ht (q := (RX2, TX2, 10)) rfl (c_X2_hasBlock (by decide) a0 x54 h55) rfl rfl q1521 q1522 q1523 rfl (by simp [zcat_rf, zcat_i, zcat_l, zcat_f, zcat_d]) (zkI (fun x56 h57 => ?_)) zxo
          refine s_if_eq (pc := 47) (tgt := 54) dX2_blocksBeneathByMetres_47 (by decide) (fun _ => ?_) (fun _ => ?_)
          · refine s_iconst (pc := 54) (v := 0) dX2_blocksBeneathByMetres_54 (by decide) ?_
            exact s_sub (pc := 55) [1, 3] rfl (w_X2_blocksBeneathByMetres_55 (f_X2_blocksBeneathByMetres_17 n) ih a0 a3 0 a2 h57)
          · refine s_iconst (pc := 50) (v := 1) dX2_blocksBeneathByMetres_50 (by decide) ?_
            refine s_goto (pc := 51) (tgt := 55) dX2_blocksBeneathByMetres_51 (by decide) ?_
            exact s_sub (pc := 55) [1, 3] rfl (w_X2_blocksBeneathByMetres_55 (f_X2_blocksBeneathByMetres_17 n) ih a0 a3 1 a2 h57)
        refine zS_ite (fun ht => ?_) (fun _ => ?_)
        · refine s_callF (pc := 27) (np := 0) (as := []) (rest := []) dX2_blocksBeneathByMetres_27 ht (q := (RJ15, TJ15, 4)) rfl (c_J15_next (by decide) a3 h7) ⟨_, _, _, q788⟩ rfl rfl q670 (by decide +kernel) q786 q784 rfl (by decide) (zkR (fun r52 h53 => ?_)) zxo
          refine s_cast (pc := 32) dX2_blocksBeneathByMetres_32 q1972 zcs_java_lang_Integer ?_
          refine zS_ite (fun ht => ?_) (fun _ => zS_none)
          refine s_callV (pc := 35) (np := 0) (as := []) (rest := []) dX2_blocksBeneathByMetres_35 ht (q := (RJ24, TJ24, 1)) rfl (c_J24_intValue (by decide) r52 h53) rfl rfl q1973 q1678 q1679 rfl (by decide) (zkI (fun x58 h59 => ?_)) zxo
          refine s_ist (pc := 38) (L2 := [(0, va_rf a0), (2, .int a2), (3, va_rf a3)]) [0, 1, 2] dX2_blocksBeneathByMetres_38 (by decide) rfl rfl (zcB (j := 2) rfl (zcat_rf a3) rfl) ?_
          refine s_iload_n (pc := 40) 2 dX2_blocksBeneathByMetres_40 rfl rfl ?_
          refine s_aload_n (pc := 41) 1 dX2_blocksBeneathByMetres_41 rfl rfl ?_
          refine s_iload (pc := 42) 0 dX2_blocksBeneathByMetres_42 rfl ?_
          refine zS_ite (fun ht => ?_) (fun _ => zS_none)
          refine s_callV (pc := 44) (np := 1) (as := [.int x58]) (rest := [.int a2]) dX2_blocksBeneathByMetres_44 ht (q := (RX2, TX2, 10)) rfl (c_X2_hasBlock (by decide) a0 x58 h59) rfl rfl q1521 q1522 q1523 rfl (by simp [zcat_rf, zcat_i, zcat_l, zcat_f, zcat_d]) (zkI (fun x60 h61 => ?_)) zxo
          refine s_if_eq (pc := 47) (tgt := 54) dX2_blocksBeneathByMetres_47 (by decide) (fun _ => ?_) (fun _ => ?_)
          · refine s_iconst (pc := 54) (v := 0) dX2_blocksBeneathByMetres_54 (by decide) ?_
            exact s_sub (pc := 55) [1, 3] rfl (w_X2_blocksBeneathByMetres_55 (f_X2_blocksBeneathByMetres_17 n) ih a0 a3 0 a2 h61)
          · refine s_iconst (pc := 50) (v := 1) dX2_blocksBeneathByMetres_50 (by decide) ?_
            refine s_goto (pc := 51) (tgt := 55) dX2_blocksBeneathByMetres_51 (by decide) ?_
            exact s_sub (pc := 55) [1, 3] rfl (w_X2_blocksBeneathByMetres_55 (f_X2_blocksBeneathByMetres_17 n) ih a0 a3 1 a2 h61)
        refine zS_ite (fun ht => ?_) (fun _ => ?_)
        · refine s_callF (pc := 27) (np := 0) (as := []) (rest := []) dX2_blocksBeneathByMetres_27 ht (q := (RJ17, TJ17, 5)) rfl (c_J17_next (by decide) a3 h7) ⟨_, _, _, q799⟩ rfl rfl q670 (by decide +kernel) q797 q795 rfl (by decide) (zkR (fun r52 h53 => ?_)) zxo
          refine s_cast (pc := 32) dX2_blocksBeneathByMetres_32 q1972 zcs_java_lang_Integer ?_
          refine zS_ite (fun ht => ?_) (fun _ => zS_none)
          refine s_callV (pc := 35) (np := 0) (as := []) (rest := []) dX2_blocksBeneathByMetres_35 ht (q := (RJ24, TJ24, 1)) rfl (c_J24_intValue (by decide) r52 h53) rfl rfl q1973 q1678 q1679 rfl (by decide) (zkI (fun x62 h63 => ?_)) zxo
          refine s_ist (pc := 38) (L2 := [(0, va_rf a0), (2, .int a2), (3, va_rf a3)]) [0, 1, 2] dX2_blocksBeneathByMetres_38 (by decide) rfl rfl (zcB (j := 2) rfl (zcat_rf a3) rfl) ?_
          refine s_iload_n (pc := 40) 2 dX2_blocksBeneathByMetres_40 rfl rfl ?_
          refine s_aload_n (pc := 41) 1 dX2_blocksBeneathByMetres_41 rfl rfl ?_
          refine s_iload (pc := 42) 0 dX2_blocksBeneathByMetres_42 rfl ?_
          refine zS_ite (fun ht => ?_) (fun _ => zS_none)
          refine s_callV (pc := 44) (np := 1) (as := [.int x62]) (rest := [.int a2]) dX2_blocksBeneathByMetres_44 ht (q := (RX2, TX2, 10)) rfl (c_X2_hasBlock (by decide) a0 x62 h63) rfl rfl q1521 q1522 q1523 rfl (by simp [zcat_rf, zcat_i, zcat_l, zcat_f, zcat_d]) (zkI (fun x64 h65 => ?_)) zxo
          refine s_if_eq (pc := 47) (tgt := 54) dX2_blocksBeneathByMetres_47 (by decide) (fun _ => ?_) (fun _ => ?_)
          · refine s_iconst (pc := 54) (v := 0) dX2_blocksBeneathByMetres_54 (by decide) ?_
            exact s_sub (pc := 55) [1, 3] rfl (w_X2_blocksBeneathByMetres_55 (f_X2_blocksBeneathByMetres_17 n) ih a0 a3 0 a2 h65)
          · refine s_iconst (pc := 50) (v := 1) dX2_blocksBeneathByMetres_50 (by decide) ?_
            refine s_goto (pc := 51) (tgt := 55) dX2_blocksBeneathByMetres_51 (by decide) ?_
            exact s_sub (pc := 55) [1, 3] rfl (w_X2_blocksBeneathByMetres_55 (f_X2_blocksBeneathByMetres_17 n) ih a0 a3 1 a2 h65)
        refine zS_ite (fun ht => ?_) (fun _ => ?_)
        · refine s_callF (pc := 27) (np := 0) (as := []) (rest := []) dX2_blocksBeneathByMetres_27 ht (q := (RJ21, TJ21, 5)) rfl (c_J21_next (by decide) a3 h7) ⟨_, _, _, q812⟩ rfl rfl q670 (by decide +kernel) q810 q808 rfl (by decide) (zkR (fun r52 h53 => ?_)) zxo
          refine s_cast (pc := 32) dX2_blocksBeneathByMetres_32 q1972 zcs_java_lang_Integer ?_
          refine zS_ite (fun ht => ?_) (fun _ => zS_none)
          refine s_callV (pc := 35) (np := 0) (as := []) (rest := []) dX2_blocksBeneathByMetres_35 ht (q := (RJ24, TJ24, 1)) rfl (c_J24_intValue (by decide) r52 h53) rfl rfl q1973 q1678 q1679 rfl (by decide) (zkI (fun x66 h67 => ?_)) zxo
          refine s_ist (pc := 38) (L2 := [(0, va_rf a0), (2, .int a2), (3, va_rf a3)]) [0, 1, 2] dX2_blocksBeneathByMetres_38 (by decide) rfl rfl (zcB (j := 2) rfl (zcat_rf a3) rfl) ?_
          refine s_iload_n (pc := 40) 2 dX2_blocksBeneathByMetres_40 rfl rfl ?_
          refine s_aload_n (pc := 41) 1 dX2_blocksBeneathByMetres_41 rfl rfl ?_
          refine s_iload (pc := 42) 0 dX2_blocksBeneathByMetres_42 rfl ?_
          refine zS_ite (fun ht => ?_) (fun _ => zS_none)
          refine s_callV (pc := 44) (np := 1) (as := [.int x66]) (rest := [.int a2]) dX2_blocksBeneathByMetres_44 ht (q := (RX2, TX2, 10)) rfl (c_X2_hasBlock (by decide) a0 x66 h67) rfl rfl q1521 q1522 q1523 rfl (by simp [zcat_rf, zcat_i, zcat_l, zcat_f, zcat_d]) (zkI (fun x68 h69 => ?_)) zxo
          refine s_if_eq (pc := 47) (tgt := 54) dX2_blocksBeneathByMetres_47 (by decide) (fun _ => ?_) (fun _ => ?_)
          · refine s_iconst (pc := 54) (v := 0) dX2_blocksBeneathByMetres_54 (by decide) ?_
            exact s_sub (pc := 55) [1, 3] rfl (w_X2_blocksBeneathByMetres_55 (f_X2_blocksBeneathByMetres_17 n) ih a0 a3 0 a2 h69)
          · refine s_iconst (pc := 50) (v := 1) dX2_blocksBeneathByMetres_50 (by decide) ?_
            refine s_goto (pc := 51) (tgt := 55) dX2_blocksBeneathByMetres_51 (by decide) ?_
            exact s_sub (pc := 55) [1, 3] rfl (w_X2_blocksBeneathByMetres_55 (f_X2_blocksBeneathByMetres_17 n) ih a0 a3 1 a2 h69)
        refine zS_ite (fun ht => ?_) (fun _ => zS_none)
        refine s_callF (pc := 27) (np := 0) (as := []) (rest := []) dX2_blocksBeneathByMetres_27 ht (q := (RJ22, TJ22, 5)) rfl (c_J22_next (by decide) a3 h7) ⟨_, _, _, q832⟩ rfl rfl q670 (by decide +kernel) q830 q828 rfl (by decide) (zkR (fun r52 h53 => ?_)) zxo
        refine s_cast (pc := 32) dX2_blocksBeneathByMetres_32 q1972 zcs_java_lang_Integer ?_
        refine zS_ite (fun ht => ?_) (fun _ => zS_none)
        refine s_callV (pc := 35) (np := 0) (as := []) (rest := []) dX2_blocksBeneathByMetres_35 ht (q := (RJ24, TJ24, 1)) rfl (c_J24_intValue (by decide) r52 h53) rfl rfl q1973 q1678 q1679 rfl (by decide) (zkI (fun x70 h71 => ?_)) zxo
        refine s_ist (pc := 38) (L2 := [(0, va_rf a0), (2, .int a2), (3, va_rf a3)]) [0, 1, 2] dX2_blocksBeneathByMetres_38 (by decide) rfl rfl (zcB (j := 2) rfl (zcat_rf a3) rfl) ?_
        refine s_iload_n (pc := 40) 2 dX2_blocksBeneathByMetres_40 rfl rfl ?_
        refine s_aload_n (pc := 41) 1 dX2_blocksBeneathByMetres_41 rfl rfl ?_
        refine s_iload (pc := 42) 0 dX2_blocksBeneathByMetres_42 rfl ?_
        refine zS_ite (fun ht => ?_) (fun _ => zS_none)
        refine s_callV (pc := 44) (np := 1) (as := [.int x70]) (rest := [.int a2]) dX2_blocksBeneathByMetres_44 ht (q := (RX2, TX2, 10)) rfl (c_X2_hasBlock (by decide) a0 x70 h71) rfl rfl q1521 q1522 q1523 rfl (by simp [zcat_rf, zcat_i, zcat_l, zcat_f, zcat_d]) (zkI (fun x72 h73 => ?_)) zxo
        refine s_if_eq (pc := 47) (tgt := 54) dX2_blocksBeneathByMetres_47 (by decide) (fun _ => ?_) (fun _ => ?_)
        · refine s_iconst (pc := 54) (v := 0) dX2_blocksBeneathByMetres_54 (by decide) ?_
          exact s_sub (pc := 55) [1, 3] rfl (w_X2_blocksBeneathByMetres_55 (f_X2_blocksBeneathByMetres_17 n) ih a0 a3 0 a2 h73)
        · refine s_iconst (pc := 50) (v := 1) dX2_blocksBeneathByMetres_50 (by decide) ?_
          refine s_goto (pc := 51) (tgt := 55) dX2_blocksBeneathByMetres_51 (by decide) ?_
          exact s_sub (pc := 55) [1, 3] rfl (w_X2_blocksBeneathByMetres_55 (f_X2_blocksBeneathByMetres_17 n) ih a0 a3 1 a2 h73)
    refine zS_ite (fun ht => ?_) (fun _ => ?_)
    · refine s_callF (pc := 18) (np := 0) (as := []) (rest := []) dX2_blocksBeneathByMetres_18 ht (q := (RJ21, TJ21, 5)) rfl (c_J20_hasNext (by decide) a3 h) ⟨_, _, _, q665⟩ rfl rfl q629 (by decide +kernel) q663 q661 rfl (by decide) (zkI (fun x6 h7 => ?_)) zxo
      refine s_if_eq (pc := 23) (tgt := 60) dX2_blocksBeneathByMetres_23 (by decide) (fun _ => ?_) (fun _ => ?_)
      · refine s_iload_n (pc := 60) 1 dX2_blocksBeneathByMetres_60 rfl rfl ?_
        exact s_iret (pc := 61) dX2_blocksBeneathByMetres_61 rfl
      · refine s_aload_n (pc := 26) 2 dX2_blocksBeneathByMetres_26 rfl rfl ?_
        refine zS_ite (fun ht => ?_) (fun _ => ?_)
        · refine s_callF (pc := 27) (np := 0) (as := []) (rest := []) dX2_blocksBeneathByMetres_27 ht (q := (RX9, TX9, 2)) rfl (c_X9_next (by decide) a3 h7) ⟨_, _, _, q677⟩ rfl rfl q670 (by decide +kernel) q675 q673 rfl (by decide) (zkR (fun r74 h75 => ?_)) zxo
          refine s_cast (pc := 32) dX2_blocksBeneathByMetres_32 q1972 zcs_java_lang_Integer ?_
          refine zS_ite (fun ht => ?_) (fun _ => zS_none)
          refine s_callV (pc := 35) (np := 0) (as := []) (rest := []) dX2_blocksBeneathByMetres_35 ht (q := (RJ24, TJ24, 1)) rfl (c_J24_intValue (by decide) r74 h75) rfl rfl q1973 q1678 q1679 rfl (by decide) (zkI (fun x76 h77 => ?_)) zxo
          refine s_ist (pc := 38) (L2 := [(0, va_rf a0), (2, .int a2), (3, va_rf a3)]) [0, 1, 2] dX2_blocksBeneathByMetres_38 (by decide) rfl rfl (zcB (j := 2) rfl (zcat_rf a3) rfl) ?_
          refine s_iload_n (pc := 40) 2 dX2_blocksBeneathByMetres_40 rfl rfl ?_
          refine s_aload_n (pc := 41) 1 dX2_blocksBeneathByMetres_41 rfl rfl ?_
          refine s_iload (pc := 42) 0 dX2_blocksBeneathByMetres_42 rfl ?_
          refine zS_ite (fun ht => ?_) (fun _ => zS_none)
          refine s_callV (pc := 44) (np := 1) (as := [.int x76]) (rest := [.int a2]) dX2_blocksBeneathByMetres_44 ht (q := (RX2, TX2, 10)) rfl (c_X2_hasBlock (by decide) a0 x76 h77) rfl rfl q1521 q1522 q1523 rfl (by simp [zcat_rf, zcat_i, zcat_l, zcat_f, zcat_d]) (zkI (fun x78 h79 => ?_)) zxo
          refine s_if_eq (pc := 47) (tgt := 54) dX2_blocksBeneathByMetres_47 (by decide) (fun _ => ?_) (fun _ => ?_)
          · refine s_iconst (pc := 54) (v := 0) dX2_blocksBeneathByMetres_54 (by decide) ?_
            exact s_sub (pc := 55) [1, 3] rfl (w_X2_blocksBeneathByMetres_55 (f_X2_blocksBeneathByMetres_17 n) ih a0 a3 0 a2 h79)
          · refine s_iconst (pc := 50) (v := 1) dX2_blocksBeneathByMetres_50 (by decide) ?_
            refine s_goto (pc := 51) (tgt := 55) dX2_blocksBeneathByMetres_51 (by decide) ?_
            exact s_sub (pc := 55) [1, 3] rfl (w_X2_blocksBeneathByMetres_55 (f_X2_blocksBeneathByMetres_17 n) ih a0 a3 1 a2 h79)
        refine zS_ite (fun ht => ?_) (fun _ => ?_)
        · refine s_callF (pc := 27) (np := 0) (as := []) (rest := []) dX2_blocksBeneathByMetres_27 ht (q := (RJ15, TJ15, 4)) rfl (c_J15_next (by decide) a3 h7) ⟨_, _, _, q788⟩ rfl rfl q670 (by decide +kernel) q786 q784 rfl (by decide) (zkR (fun r74 h75 => ?_)) zxo
          refine s_cast (pc := 32) dX2_blocksBeneathByMetres_32 q1972 zcs_java_lang_Integer ?_
          refine zS_ite (fun ht => ?_) (fun _ => zS_none)
          refine s_callV (pc := 35) (np := 0) (as := []) (rest := []) dX2_blocksBeneathByMetres_35 ht (q := (RJ24, TJ24, 1)) rfl (c_J24_intValue (by decide) r74 h75) rfl rfl q1973 q1678 q1679 rfl (by decide) (zkI (fun x80 h81 => ?_)) zxo
          refine s_ist (pc := 38) (L2 := [(0, va_rf a0), (2, .int a2), (3, va_rf a3)]) [0, 1, 2] dX2_blocksBeneathByMetres_38 (by decide) rfl rfl (zcB (j := 2) rfl (zcat_rf a3) rfl) ?_
          refine s_iload_n (pc := 40) 2 dX2_blocksBeneathByMetres_40 rfl rfl ?_
          refine s_aload_n (pc := 41) 1 dX2_blocksBeneathByMetres_41 rfl rfl ?_
          refine s_iload (pc := 42) 0 dX2_blocksBeneathByMetres_42 rfl ?_
          refine zS_ite (fun ht => ?_) (fun _ => zS_none)
          refine s_callV (pc := 44) (np := 1) (as := [.int x80]) (rest := [.int a2]) dX2_blocksBeneathByMetres_44 ht (q := (RX2, TX2, 10)) rfl (c_X2_hasBlock (by decide) a0 x80 h81) rfl rfl q1521 q1522 q1523 rfl (by simp [zcat_rf, zcat_i, zcat_l, zcat_f, zcat_d]) (zkI (fun x82 h83 => ?_)) zxo
          refine s_if_eq (pc := 47) (tgt := 54) dX2_blocksBeneathByMetres_47 (by decide) (fun _ => ?_) (fun _ => ?_)
          · refine s_iconst (pc := 54) (v := 0) dX2_blocksBeneathByMetres_54 (by decide) ?_
            exact s_sub (pc := 55) [1, 3] rfl (w_X2_blocksBeneathByMetres_55 (f_X2_blocksBeneathByMetres_17 n) ih a0 a3 0 a2 h83)
          · refine s_iconst (pc := 50) (v := 1) dX2_blocksBeneathByMetres_50 (by decide) ?_
            refine s_goto (pc := 51) (tgt := 55) dX2_blocksBeneathByMetres_51 (by decide) ?_
            exact s_sub (pc := 55) [1, 3] rfl (w_X2_blocksBeneathByMetres_55 (f_X2_blocksBeneathByMetres_17 n) ih a0 a3 1 a2 h83)
        refine zS_ite (fun ht => ?_) (fun _ => ?_)
        · refine s_callF (pc := 27) (np := 0) (as := []) (rest := []) dX2_blocksBeneathByMetres_27 ht (q := (RJ17, TJ17, 5)) rfl (c_J17_next (by decide) a3 h7) ⟨_, _, _, q799⟩ rfl rfl q670 (by decide +kernel) q797 q795 rfl (by decide) (zkR (fun r74 h75 => ?_)) zxo
          refine s_cast (pc := 32) dX2_blocksBeneathByMetres_32 q1972 zcs_java_lang_Integer ?_
          refine zS_ite (fun ht => ?_) (fun _ => zS_none)
          refine s_callV (pc := 35) (np := 0) (as := []) (rest := []) dX2_blocksBeneathByMetres_35 ht (q := (RJ24, TJ24, 1)) rfl (c_J24_intValue (by decide) r74 h75) rfl rfl q1973 q1678 q1679 rfl (by decide) (zkI (fun x84 h85 => ?_)) zxo
          refine s_ist (pc := 38) (L2 := [(0, va_rf a0), (2, .int a2), (3, va_rf a3)]) [0, 1, 2] dX2_blocksBeneathByMetres_38 (by decide) rfl rfl (zcB (j := 2) rfl (zcat_rf a3) rfl) ?_
          refine s_iload_n (pc := 40) 2 dX2_blocksBeneathByMetres_40 rfl rfl ?_
          refine s_aload_n (pc := 41) 1 dX2_blocksBeneathByMetres_41 rfl rfl ?_
          refine s_iload (pc := 42) 0 dX2_blocksBeneathByMetres_42 rfl ?_
          refine zS_ite (fun ht => ?_) (fun _ => zS_none)
          refine s_callV (pc := 44) (np := 1) (as := [.int x84]) (rest := [.int a2]) dX2_blocksBeneathByMetres_44 ht (q := (RX2, TX2, 10)) rfl (c_X2_hasBlock (by decide) a0 x84 h85) rfl rfl q1521 q1522 q1523 rfl (by simp [zcat_rf, zcat_i, zcat_l, zcat_f, zcat_d]) (zkI (fun x86 h87 => ?_)) zxo
          refine s_if_eq (pc := 47) (tgt := 54) dX2_blocksBeneathByMetres_47 (by decide) (fun _ => ?_) (fun _ => ?_)
          · refine s_iconst (pc := 54) (v := 0) dX2_blocksBeneathByMetres_54 (by decide) ?_
            exact s_sub (pc := 55) [1, 3] rfl (w_X2_blocksBeneathByMetres_55 (f_X2_blocksBeneathByMetres_17 n) ih a0 a3 0 a2 h87)
          · refine s_iconst (pc := 50) (v := 1) dX2_blocksBeneathByMetres_50 (by decide) ?_
            refine s_goto (pc := 51) (tgt := 55) dX2_blocksBeneathByMetres_51 (by decide) ?_
            exact s_sub (pc := 55) [1, 3] rfl (w_X2_blocksBeneathByMetres_55 (f_X2_blocksBeneathByMetres_17 n) ih a0 a3 1 a2 h87)
        refine zS_ite (fun ht => ?_) (fun _ => ?_)
        · refine s_callF (pc := 27) (np := 0) (as := []) (rest := []) dX2_blocksBeneathByMetres_27 ht (q := (RJ21, TJ21, 5)) rfl (c_J21_next (by decide) a3 h7) ⟨_, _, _, q812⟩ rfl rfl q670 (by decide +kernel) q810 q808 rfl (by decide) (zkR (fun r74 h75 => ?_)) zxo
          refine s_cast (pc := 32) dX2_blocksBeneathByMetres_32 q1972 zcs_java_lang_Integer ?_
          refine zS_ite (fun ht => ?_) (fun _ => zS_none)
          refine s_callV (pc := 35) (np := 0) (as := []) (rest := []) dX2_blocksBeneathByMetres_35 ht (q := (RJ24, TJ24, 1)) rfl (c_J24_intValue (by decide) r74 h75) rfl rfl q1973 q1678 q1679 rfl (by decide) (zkI (fun x88 h89 => ?_)) zxo
          refine s_ist (pc := 38) (L2 := [(0, va_rf a0), (2, .int a2), (3, va_rf a3)]) [0, 1, 2] dX2_blocksBeneathByMetres_38 (by decide) rfl rfl (zcB (j := 2) rfl (zcat_rf a3) rfl) ?_
          refine s_iload_n (pc := 40) 2 dX2_blocksBeneathByMetres_40 rfl rfl ?_
          refine s_aload_n (pc := 41) 1 dX2_blocksBeneathByMetres_41 rfl rfl ?_
          refine s_iload (pc := 42) 0 dX2_blocksBeneathByMetres_42 rfl ?_
          refine zS_ite (fun ht => ?_) (fun _ => zS_none)
          refine s_callV (pc := 44) (np := 1) (as := [.int x88]) (rest := [.int a2]) dX2_blocksBeneathByMetres_44 ht (q := (RX2, TX2, 10)) rfl (c_X2_hasBlock (by decide) a0 x88 h89) rfl rfl q1521 q1522 q1523 rfl (by simp [zcat_rf, zcat_i, zcat_l, zcat_f, zcat_d]) (zkI (fun x90 h91 => ?_)) zxo
          refine s_if_eq (pc := 47) (tgt := 54) dX2_blocksBeneathByMetres_47 (by decide) (fun _ => ?_) (fun _ => ?_)
          · refine s_iconst (pc := 54) (v := 0) dX2_blocksBeneathByMetres_54 (by decide) ?_
            exact s_sub (pc := 55) [1, 3] rfl (w_X2_blocksBeneathByMetres_55 (f_X2_blocksBeneathByMetres_17 n) ih a0 a3 0 a2 h91)
          · refine s_iconst (pc := 50) (v := 1) dX2_blocksBeneathByMetres_50 (by decide) ?_
            refine s_goto (pc := 51) (tgt := 55) dX2_blocksBeneathByMetres_51 (by decide) ?_
            exact s_sub (pc := 55) [1, 3] rfl (w_X2_blocksBeneathByMetres_55 (f_X2_blocksBeneathByMetres_17 n) ih a0 a3 1 a2 h91)
        refine zS_ite (fun ht => ?_) (fun _ => zS_none)
        refine s_callF (pc := 27) (np := 0) (as := []) (rest := []) dX2_blocksBeneathByMetres_27 ht (q := (RJ22, TJ22, 5)) rfl (c_J22_next (by decide) a3 h7) ⟨_, _, _, q832⟩ rfl rfl q670 (by decide +kernel) q830 q828 rfl (by decide) (zkR (fun r74 h75 => ?_)) zxo
        refine s_cast (pc := 32) dX2_blocksBeneathByMetres_32 q1972 zcs_java_lang_Integer ?_
        refine zS_ite (fun ht => ?_) (fun _ => zS_none)
        refine s_callV (pc := 35) (np := 0) (as := []) (rest := []) dX2_blocksBeneathByMetres_35 ht (q := (RJ24, TJ24, 1)) rfl (c_J24_intValue (by decide) r74 h75) rfl rfl q1973 q1678 q1679 rfl (by decide) (zkI (fun x92 h93 => ?_)) zxo
        refine s_ist (pc := 38) (L2 := [(0, va_rf a0), (2, .int a2), (3, va_rf a3)]) [0, 1, 2] dX2_blocksBeneathByMetres_38 (by decide) rfl rfl (zcB (j := 2) rfl (zcat_rf a3) rfl) ?_
        refine s_iload_n (pc := 40) 2 dX2_blocksBeneathByMetres_40 rfl rfl ?_
        refine s_aload_n (pc := 41) 1 dX2_blocksBeneathByMetres_41 rfl rfl ?_
        refine s_iload (pc := 42) 0 dX2_blocksBeneathByMetres_42 rfl ?_
        refine zS_ite (fun ht => ?_) (fun _ => zS_none)
        refine s_callV (pc := 44) (np := 1) (as := [.int x92]) (rest := [.int a2]) dX2_blocksBeneathByMetres_44 ht (q := (RX2, TX2, 10)) rfl (c_X2_hasBlock (by decide) a0 x92 h93) rfl rfl q1521 q1522 q1523 rfl (by simp [zcat_rf, zcat_i, zcat_l, zcat_f, zcat_d]) (zkI (fun x94 h95 => ?_)) zxo
        refine s_if_eq (pc := 47) (tgt := 54) dX2_blocksBeneathByMetres_47 (by decide) (fun _ => ?_) (fun _ => ?_)
        · refine s_iconst (pc := 54) (v := 0) dX2_blocksBeneathByMetres_54 (by decide) ?_
          exact s_sub (pc := 55) [1, 3] rfl (w_X2_blocksBeneathByMetres_55 (f_X2_blocksBeneathByMetres_17 n) ih a0 a3 0 a2 h95)
        · refine s_iconst (pc := 50) (v := 1) dX2_blocksBeneathByMetres_50 (by decide) ?_
          refine s_goto (pc := 51) (tgt := 55) dX2_blocksBeneathByMetres_51 (by decide) ?_
          exact s_sub (pc := 55) [1, 3] rfl (w_X2_blocksBeneathByMetres_55 (f_X2_blocksBeneathByMetres_17 n) ih a0 a3 1 a2 h95)
    refine zS_ite (fun ht => ?_) (fun _ => zS_none)
    refine s_callF (pc := 18) (np := 0) (as := []) (rest := []) dX2_blocksBeneathByMetres_18 ht (q := (RJ22, TJ22, 5)) rfl (c_J20_hasNext (by decide) a3 h) ⟨_, _, _, q665⟩ rfl rfl q629 (by decide +kernel) q663 q667 rfl (by decide) (zkI (fun x6 h7 => ?_)) zxo
    refine s_if_eq (pc := 23) (tgt := 60) dX2_blocksBeneathByMetres_23 (by decide) (fun _ => ?_) (fun _ => ?_)
    · refine s_iload_n (pc := 60) 1 dX2_blocksBeneathByMetres_60 rfl rfl ?_
      exact s_iret (pc := 61) dX2_blocksBeneathByMetres_61 rfl
    · refine s_aload_n (pc := 26) 2 dX2_blocksBeneathByMetres_26 rfl rfl ?_
      refine zS_ite (fun ht => ?_) (fun _ => ?_)
      · refine s_callF (pc := 27) (np := 0) (as := []) (rest := []) dX2_blocksBeneathByMetres_27 ht (q := (RX9, TX9, 2)) rfl (c_X9_next (by decide) a3 h7) ⟨_, _, _, q677⟩ rfl rfl q670 (by decide +kernel) q675 q673 rfl (by decide) (zkR (fun r96 h97 => ?_)) zxo
        refine s_cast (pc := 32) dX2_blocksBeneathByMetres_32 q1972 zcs_java_lang_Integer ?_
        refine zS_ite (fun ht => ?_) (fun _ => zS_none)
        refine s_callV (pc := 35) (np := 0) (as := []) (rest := []) dX2_blocksBeneathByMetres_35 ht (q := (RJ24, TJ24, 1)) rfl (c_J24_intValue (by decide) r96 h97) rfl rfl q1973 q1678 q1679 rfl (by decide) (zkI (fun x98 h99 => ?_)) zxo
        refine s_ist (pc := 38) (L2 := [(0, va_rf a0), (2, .int a2), (3, va_rf a3)]) [0, 1, 2] dX2_blocksBeneathByMetres_38 (by decide) rfl rfl (zcB (j := 2) rfl (zcat_rf a3) rfl) ?_
        refine s_iload_n (pc := 40) 2 dX2_blocksBeneathByMetres_40 rfl rfl ?_
        refine s_aload_n (pc := 41) 1 dX2_blocksBeneathByMetres_41 rfl rfl ?_
        refine s_iload (pc := 42) 0 dX2_blocksBeneathByMetres_42 rfl ?_
        refine zS_ite (fun ht => ?_) (fun _ => zS_none)
        refine s_callV (pc := 44) (np := 1) (as := [.int x98]) (rest := [.int a2]) dX2_blocksBeneathByMetres_44 ht (q := (RX2, TX2, 10)) rfl (c_X2_hasBlock (by decide) a0 x98 h99) rfl rfl q1521 q1522 q1523 rfl (by simp [zcat_rf, zcat_i, zcat_l, zcat_f, zcat_d]) (zkI (fun x100 h101 => ?_)) zxo
        refine s_if_eq (pc := 47) (tgt := 54) dX2_blocksBeneathByMetres_47 (by decide) (fun _ => ?_) (fun _ => ?_)
        · refine s_iconst (pc := 54) (v := 0) dX2_blocksBeneathByMetres_54 (by decide) ?_
          exact s_sub (pc := 55) [1, 3] rfl (w_X2_blocksBeneathByMetres_55 (f_X2_blocksBeneathByMetres_17 n) ih a0 a3 0 a2 h101)
        · refine s_iconst (pc := 50) (v := 1) dX2_blocksBeneathByMetres_50 (by decide) ?_
          refine s_goto (pc := 51) (tgt := 55) dX2_blocksBeneathByMetres_51 (by decide) ?_
          exact s_sub (pc := 55) [1, 3] rfl (w_X2_blocksBeneathByMetres_55 (f_X2_blocksBeneathByMetres_17 n) ih a0 a3 1 a2 h101)
      refine zS_ite (fun ht => ?_) (fun _ => ?_)
      · refine s_callF (pc := 27) (np := 0) (as := []) (rest := []) dX2_blocksBeneathByMetres_27 ht (q := (RJ15, TJ15, 4)) rfl (c_J15_next (by decide) a3 h7) ⟨_, _, _, q788⟩ rfl rfl q670 (by decide +kernel) q786 q784 rfl (by decide) (zkR (fun r96 h97 => ?_)) zxo
        refine s_cast (pc := 32) dX2_blocksBeneathByMetres_32 q1972 zcs_java_lang_Integer ?_
        refine zS_ite (fun ht => ?_) (fun _ => zS_none)
        refine s_callV (pc := 35) (np := 0) (as := []) (rest := []) dX2_blocksBeneathByMetres_35 ht (q := (RJ24, TJ24, 1)) rfl (c_J24_intValue (by decide) r96 h97) rfl rfl q1973 q1678 q1679 rfl (by decide) (zkI (fun x102 h103 => ?_)) zxo
        refine s_ist (pc := 38) (L2 := [(0, va_rf a0), (2, .int a2), (3, va_rf a3)]) [0, 1, 2] dX2_blocksBeneathByMetres_38 (by decide) rfl rfl (zcB (j := 2) rfl (zcat_rf a3) rfl) ?_
        refine s_iload_n (pc := 40) 2 dX2_blocksBeneathByMetres_40 rfl rfl ?_
        refine s_aload_n (pc := 41) 1 dX2_blocksBeneathByMetres_41 rfl rfl ?_
        refine s_iload (pc := 42) 0 dX2_blocksBeneathByMetres_42 rfl ?_
        refine zS_ite (fun ht => ?_) (fun _ => zS_none)
        refine s_callV (pc := 44) (np := 1) (as := [.int x102]) (rest := [.int a2]) dX2_blocksBeneathByMetres_44 ht (q := (RX2, TX2, 10)) rfl (c_X2_hasBlock (by decide) a0 x102 h103) rfl rfl q1521 q1522 q1523 rfl (by simp [zcat_rf, zcat_i, zcat_l, zcat_f, zcat_d]) (zkI (fun x104 h105 => ?_)) zxo
        refine s_if_eq (pc := 47) (tgt := 54) dX2_blocksBeneathByMetres_47 (by decide) (fun _ => ?_) (fun _ => ?_)
        · refine s_iconst (pc := 54) (v := 0) dX2_blocksBeneathByMetres_54 (by decide) ?_
          exact s_sub (pc := 55) [1, 3] rfl (w_X2_blocksBeneathByMetres_55 (f_X2_blocksBeneathByMetres_17 n) ih a0 a3 0 a2 h105)
        · refine s_iconst (pc := 50) (v := 1) dX2_blocksBeneathByMetres_50 (by decide) ?_
          refine s_goto (pc := 51) (tgt := 55) dX2_blocksBeneathByMetres_51 (by decide) ?_
          exact s_sub (pc := 55) [1, 3] rfl (w_X2_blocksBeneathByMetres_55 (f_X2_blocksBeneathByMetres_17 n) ih a0 a3 1 a2 h105)
      refine zS_ite (fun ht => ?_) (fun _ => ?_)
      · refine s_callF (pc := 27) (np := 0) (as := []) (rest := []) dX2_blocksBeneathByMetres_27 ht (q := (RJ17, TJ17, 5)) rfl (c_J17_next (by decide) a3 h7) ⟨_, _, _, q799⟩ rfl rfl q670 (by decide +kernel) q797 q795 rfl (by decide) (zkR (fun r96 h97 => ?_)) zxo
        refine s_cast (pc := 32) dX2_blocksBeneathByMetres_32 q1972 zcs_java_lang_Integer ?_
        refine zS_ite (fun ht => ?_) (fun _ => zS_none)
        refine s_callV (pc := 35) (np := 0) (as := []) (rest := []) dX2_blocksBeneathByMetres_35 ht (q := (RJ24, TJ24, 1)) rfl (c_J24_intValue (by decide) r96 h97) rfl rfl q1973 q1678 q1679 rfl (by decide) (zkI (fun x106 h107 => ?_)) zxo
        refine s_ist (pc := 38) (L2 := [(0, va_rf a0), (2, .int a2), (3, va_rf a3)]) [0, 1, 2] dX2_blocksBeneathByMetres_38 (by decide) rfl rfl (zcB (j := 2) rfl (zcat_rf a3) rfl) ?_
        refine s_iload_n (pc := 40) 2 dX2_blocksBeneathByMetres_40 rfl rfl ?_
        refine s_aload_n (pc := 41) 1 dX2_blocksBeneathByMetres_41 rfl rfl ?_
        refine s_iload (pc := 42) 0 dX2_blocksBeneathByMetres_42 rfl ?_
        refine zS_ite (fun ht => ?_) (fun _ => zS_none)
        refine s_callV (pc := 44) (np := 1) (as := [.int x106]) (rest := [.int a2]) dX2_blocksBeneathByMetres_44 ht (q := (RX2, TX2, 10)) rfl (c_X2_hasBlock (by decide) a0 x106 h107) rfl rfl q1521 q1522 q1523 rfl (by simp [zcat_rf, zcat_i, zcat_l, zcat_f, zcat_d]) (zkI (fun x108 h109 => ?_)) zxo
        refine s_if_eq (pc := 47) (tgt := 54) dX2_blocksBeneathByMetres_47 (by decide) (fun _ => ?_) (fun _ => ?_)
        · refine s_iconst (pc := 54) (v := 0) dX2_blocksBeneathByMetres_54 (by decide) ?_
          exact s_sub (pc := 55) [1, 3] rfl (w_X2_blocksBeneathByMetres_55 (f_X2_blocksBeneathByMetres_17 n) ih a0 a3 0 a2 h109)
        · refine s_iconst (pc := 50) (v := 1) dX2_blocksBeneathByMetres_50 (by decide) ?_
          refine s_goto (pc := 51) (tgt := 55) dX2_blocksBeneathByMetres_51 (by decide) ?_
          exact s_sub (pc := 55) [1, 3] rfl (w_X2_blocksBeneathByMetres_55 (f_X2_blocksBeneathByMetres_17 n) ih a0 a3 1 a2 h109)
      refine zS_ite (fun ht => ?_) (fun _ => ?_)
      · refine s_callF (pc := 27) (np := 0) (as := []) (rest := []) dX2_blocksBeneathByMetres_27 ht (q := (RJ21, TJ21, 5)) rfl (c_J21_next (by decide) a3 h7) ⟨_, _, _, q812⟩ rfl rfl q670 (by decide +kernel) q810 q808 rfl (by decide) (zkR (fun r96 h97 => ?_)) zxo
        refine s_cast (pc := 32) dX2_blocksBeneathByMetres_32 q1972 zcs_java_lang_Integer ?_
        refine zS_ite (fun ht => ?_) (fun _ => zS_none)
        refine s_callV (pc := 35) (np := 0) (as := []) (rest := []) dX2_blocksBeneathByMetres_35 ht (q := (RJ24, TJ24, 1)) rfl (c_J24_intValue (by decide) r96 h97) rfl rfl q1973 q1678 q1679 rfl (by decide) (zkI (fun x110 h111 => ?_)) zxo
        refine s_ist (pc := 38) (L2 := [(0, va_rf a0), (2, .int a2), (3, va_rf a3)]) [0, 1, 2] dX2_blocksBeneathByMetres_38 (by decide) rfl rfl (zcB (j := 2) rfl (zcat_rf a3) rfl) ?_
        refine s_iload_n (pc := 40) 2 dX2_blocksBeneathByMetres_40 rfl rfl ?_
        refine s_aload_n (pc := 41) 1 dX2_blocksBeneathByMetres_41 rfl rfl ?_
        refine s_iload (pc := 42) 0 dX2_blocksBeneathByMetres_42 rfl ?_
        refine zS_ite (fun ht => ?_) (fun _ => zS_none)
        refine s_callV (pc := 44) (np := 1) (as := [.int x110]) (rest := [.int a2]) dX2_blocksBeneathByMetres_44 ht (q := (RX2, TX2, 10)) rfl (c_X2_hasBlock (by decide) a0 x110 h111) rfl rfl q1521 q1522 q1523 rfl (by simp [zcat_rf, zcat_i, zcat_l, zcat_f, zcat_d]) (zkI (fun x112 h113 => ?_)) zxo
        refine s_if_eq (pc := 47) (tgt := 54) dX2_blocksBeneathByMetres_47 (by decide) (fun _ => ?_) (fun _ => ?_)
        · refine s_iconst (pc := 54) (v := 0) dX2_blocksBeneathByMetres_54 (by decide) ?_
          exact s_sub (pc := 55) [1, 3] rfl (w_X2_blocksBeneathByMetres_55 (f_X2_blocksBeneathByMetres_17 n) ih a0 a3 0 a2 h113)
        · refine s_iconst (pc := 50) (v := 1) dX2_blocksBeneathByMetres_50 (by decide) ?_
          refine s_goto (pc := 51) (tgt := 55) dX2_blocksBeneathByMetres_51 (by decide) ?_
          exact s_sub (pc := 55) [1, 3] rfl (w_X2_blocksBeneathByMetres_55 (f_X2_blocksBeneathByMetres_17 n) ih a0 a3 1 a2 h113)
      refine zS_ite (fun ht => ?_) (fun _ => zS_none)
      refine s_callF (pc := 27) (np := 0) (as := []) (rest := []) dX2_blocksBeneathByMetres_27 ht (q := (RJ22, TJ22, 5)) rfl (c_J22_next (by decide) a3 h7) ⟨_, _, _, q832⟩ rfl rfl q670 (by decide +kernel) q830 q828 rfl (by decide) (zkR (fun r96 h97 => ?_)) zxo
      refine s_cast (pc := 32) dX2_blocksBeneathByMetres_32 q1972 zcs_java_lang_Integer ?_
      refine zS_ite (fun ht => ?_) (fun _ => zS_none)
      refine s_callV (pc := 35) (np := 0) (as := []) (rest := []) dX2_blocksBeneathByMetres_35 ht (q := (RJ24, TJ24, 1)) rfl (c_J24_intValue (by decide) r96 h97) rfl rfl q1973 q1678 q1679 rfl (by decide) (zkI (fun x114 h115 => ?_)) zxo
      refine s_ist (pc := 38) (L2 := [(0, va_rf a0), (2, .int a2), (3, va_rf a3)]) [0, 1, 2] dX2_blocksBeneathByMetres_38 (by decide) rfl rfl (zcB (j := 2) rfl (zcat_rf a3) rfl) ?_
      refine s_iload_n (pc := 40) 2 dX2_blocksBeneathByMetres_40 rfl rfl ?_
      refine s_aload_n (pc := 41) 1 dX2_blocksBeneathByMetres_41 rfl rfl ?_
      refine s_iload (pc := 42) 0 dX2_blocksBeneathByMetres_42 rfl ?_
      refine zS_ite (fun ht => ?_) (fun _ => zS_none)
      refine s_callV (pc := 44) (np := 1) (as := [.int x114]) (rest := [.int a2]) dX2_blocksBeneathByMetres_44 ht (q := (RX2, TX2, 10)) rfl (c_X2_hasBlock (by decide) a0 x114 h115) rfl rfl q1521 q1522 q1523 rfl (by simp [zcat_rf, zcat_i, zcat_l, zcat_f, zcat_d]) (zkI (fun x116 h117 => ?_)) zxo
      refine s_if_eq (pc := 47) (tgt := 54) dX2_blocksBeneathByMetres_47 (by decide) (fun _ => ?_) (fun _ => ?_)
      · refine s_iconst (pc := 54) (v := 0) dX2_blocksBeneathByMetres_54 (by decide) ?_
        exact s_sub (pc := 55) [1, 3] rfl (w_X2_blocksBeneathByMetres_55 (f_X2_blocksBeneathByMetres_17 n) ih a0 a3 0 a2 h117)
      · refine s_iconst (pc := 50) (v := 1) dX2_blocksBeneathByMetres_50 (by decide) ?_
        refine s_goto (pc := 51) (tgt := 55) dX2_blocksBeneathByMetres_51 (by decide) ?_
        exact s_sub (pc := 55) [1, 3] rfl (w_X2_blocksBeneathByMetres_55 (f_X2_blocksBeneathByMetres_17 n) ih a0 a3 1 a2 h117)
theorem w_X2_blocksBeneathByMetres (v0 : Option Nat) (v1 : Option Nat) (h : zH) : zS D z yX2_blocksBeneathByMetres cX2_blocksBeneathByMetres 5 (some .int) [] 10 h 0 [(0, va_rf v0), (1, va_rf v1)] [] (f_X2_blocksBeneathByMetres v0 v1 h) := by
  unfold f_X2_blocksBeneathByMetres
  refine s_iconst (pc := 0) (v := 0) dX2_blocksBeneathByMetres_0 (by decide) ?_
  refine s_ist_n (pc := 1) (L2 := [(0, va_rf v0), (1, va_rf v1)]) [0, 1] dX2_blocksBeneathByMetres_1 rfl (by decide) rfl rfl (zcB (j := 1) rfl (zcat_rf v1) rfl) ?_
  refine s_aload_n (pc := 2) 2 dX2_blocksBeneathByMetres_2 rfl rfl ?_
  refine zS_ite (fun ht => ?_) (fun _ => zS_none)
  refine s_callV (pc := 3) (np := 0) (as := []) (rest := []) dX2_blocksBeneathByMetres_3 ht (q := (RX6, TX6, 9)) rfl (c_X6_isInDock (by decide) v1 h) rfl rfl q837 q367 q368 rfl (by decide) (zkI (fun x1 h2 => ?_)) zxo
  refine s_if_eq (pc := 6) (tgt := 60) dX2_blocksBeneathByMetres_6 (by decide) (fun _ => ?_) (fun _ => ?_)
  · refine s_iload_n (pc := 60) 0 dX2_blocksBeneathByMetres_60 rfl rfl ?_
    exact s_iret (pc := 61) dX2_blocksBeneathByMetres_61 rfl
  · refine s_aload_n (pc := 9) 2 dX2_blocksBeneathByMetres_9 rfl rfl ?_
    refine s_gR (pc := 10) dX2_blocksBeneathByMetres_10 gf_X2_144 (fun r3 => ?_)
    refine zS_ite (fun ht => ?_) (fun _ => zS_none)
    refine s_callV (pc := 13) (np := 0) (as := []) (rest := []) dX2_blocksBeneathByMetres_13 ht (q := (RX3, TX3, 2)) rfl (c_X3_iterator (by decide) r3 h2) rfl rfl q1955 q1956 q1957 rfl (by decide) (zkR (fun r4 h5 => ?_)) zxo
    refine s_ast_n (pc := 16) (L2 := [(2, .int 0), (0, va_rf v0)]) [0, 1] dX2_blocksBeneathByMetres_16 rfl (by decide) rfl rfl (zcB (j := 0) rfl rfl rfl) ?_
    exact s_sub (pc := 17) [2, 1, 0] rfl (w_X2_blocksBeneathByMetres_17 zfuel v0 0 r4 h5)
theorem c_X2_blocksBeneathByMetres {d0 : Nat} (hd0 : 10 < d0) (v0 : Option Nat) (v1 : Option Nat) (h : zH) : zCal D z d0 h yX2_blocksBeneathByMetres [va_rf v0, va_rf v1] (f_X2_blocksBeneathByMetres v0 v1 h) :=
  ⟨cX2_blocksBeneathByMetres, 5, (some .int), [], 10, (show lv_args 0 [va_rf v0, va_rf v1] = [(0, va_rf v0), (1, va_rf v1)] by simp [lv_args, zcat_rf, zcat_i, zcat_l, zcat_f, zcat_d]) ▸ w_X2_blocksBeneathByMetres v0 v1 h, (plainFor_of_name (by decide)), by simp [lg_sl, zcat_rf, zcat_i, zcat_l, zcat_f, zcat_d], q1954, q96, hd0, by decide, by decide⟩
theorem w_X1_blocksBeneath (v0 : Option Nat) (v1 : Int32) (h : zH) : zS D z yX1_blocksBeneath cX1_blocksBeneath 2 (some .int) [] 11 h 0 [(0, va_rf v0), (1, .int v1)] [] (f_X1_blocksBeneath v0 v1 h) := by
  unfold f_X1_blocksBeneath
  refine s_aload_n (pc := 0) 0 dX1_blocksBeneath_0 rfl rfl ?_
  refine s_gR (pc := 1) dX1_blocksBeneath_1 gf_X1_30 (fun r1 => ?_)
  refine s_aload_n (pc := 4) 0 dX1_blocksBeneath_4 rfl rfl ?_
  refine s_gR (pc := 5) dX1_blocksBeneath_5 gf_X1_30 (fun r2 => ?_)
  refine s_iload_n (pc := 8) 1 dX1_blocksBeneath_8 rfl rfl ?_
  refine zS_ite (fun ht => ?_) (fun _ => zS_none)
  refine s_callV (pc := 9) (np := 1) (as := [.int v1]) (rest := [va_rf r1]) dX1_blocksBeneath_9 ht (q := (RX2, TX2, 10)) rfl (c_X2_ship (by decide) r2 v1 h) rfl rfl q2564 q2387 q2388 rfl (by simp [zcat_rf, zcat_i, zcat_l, zcat_f, zcat_d]) (zkR (fun r3 h4 => ?_)) zxo
  refine zS_ite (fun ht => ?_) (fun _ => zS_none)
  refine s_callV (pc := 12) (np := 1) (as := [va_rf r3]) (rest := []) dX1_blocksBeneath_12 ht (q := (RX2, TX2, 10)) rfl (c_X2_blocksBeneathByMetres (by decide) r1 r3 h4) rfl rfl q2781 q1952 q1953 rfl (by decide) (zkI (fun x5 h6 => ?_)) zxo
  exact s_iret (pc := 15) dX1_blocksBeneath_15 rfl
theorem c_X1_blocksBeneath {d0 : Nat} (hd0 : 11 < d0) (v0 : Option Nat) (v1 : Int32) (h : zH) : zCal D z d0 h yX1_blocksBeneath [va_rf v0, .int v1] (f_X1_blocksBeneath v0 v1 h) :=
  ⟨cX1_blocksBeneath, 2, (some .int), [], 11, (show lv_args 0 [va_rf v0, .int v1] = [(0, va_rf v0), (1, .int v1)] by simp [lv_args, zcat_rf, zcat_i, zcat_l, zcat_f, zcat_d]) ▸ w_X1_blocksBeneath v0 v1 h, (plainFor_of_name (by decide)), by simp [lg_sl, zcat_rf, zcat_i, zcat_l, zcat_f, zcat_d], q2780, q95, hd0, by decide, by decide⟩
theorem w_X0_blocksBeneath_12 (s0 : Option Nat) (h : zH) : zS D z yX0_blocksBeneath cX0_blocksBeneath 4 (some .int) [(0, 9, 12, 21)] 12 h 12 [] [va_rf s0] (f_X0_blocksBeneath_12 s0 h) := by
  unfold f_X0_blocksBeneath_12
  refine s_ast_n (pc := 12) (L2 := []) [] dX0_blocksBeneath_12 rfl (by decide) rfl rfl (zcA rfl) ?_
  refine s_iconst (pc := 13) (v := 1) dX0_blocksBeneath_13 (by decide) ?_
  exact s_iret (pc := 14) dX0_blocksBeneath_14 rfl
theorem w_X0_blocksBeneath (v0 : Option Nat) (v1 : Int32) (v2 : Option Nat) (h : zH) : zS D z yX0_blocksBeneath cX0_blocksBeneath 4 (some .int) [(0, 9, 12, 21)] 12 h 0 [(0, va_rf v0), (1, .int v1), (2, va_rf v2)] [] (f_X0_blocksBeneath v0 v1 v2 h) := by
  unfold f_X0_blocksBeneath
  refine s_aload_n (pc := 0) 2 dX0_blocksBeneath_0 rfl rfl ?_
  refine s_iconst (pc := 1) (v := 0) dX0_blocksBeneath_1 (by decide) ?_
  refine s_aload_n (pc := 2) 0 dX0_blocksBeneath_2 rfl rfl ?_
  refine s_iload_n (pc := 3) 1 dX0_blocksBeneath_3 rfl rfl ?_
  refine zS_ite (fun ht => ?_) (fun _ => zS_none)
  refine s_callV (pc := 4) (np := 1) (as := [.int v1]) (rest := [.int 0, va_rf v2]) dX0_blocksBeneath_4 ht (q := (RX1, TX1, 11)) rfl (c_X1_blocksBeneath (by decide) v0 v1 h) rfl rfl q2777 q2778 q2779 rfl (by simp [zcat_rf, zcat_i, zcat_l, zcat_f, zcat_d]) (zkI (fun x3 h4 => ?_)) (fun e2 h1 => zT_ite (fun hx => (zT_out (fun q hq => by rw [hx] at hq; cases hq; exact (zpn (by decide) q2375 (by decide +kernel) zp0)))) (fun _ => zT_ite (fun hx => (zT_out (fun q hq => by rw [hx] at hq; cases hq; exact (zpn (by decide) q2375 (by decide +kernel) zp0)))) (fun _ => zT_ite (fun hx => (zT_catch (q := (RJ28, TJ28, 0)) [] (0, 9, 12, 21) [] rfl (by rw [hx]; rfl) zp0 rfl (by decide) q2375 (Or.inl rfl) rfl (by exact s_sub (pc := 12) [] rfl (w_X0_blocksBeneath_12 (some e2.2) h1)))) (fun _ => zT_ite (fun hx => (zT_out (fun q hq => by rw [hx] at hq; cases hq; exact (zpn (by decide) q2375 (by decide +kernel) zp0)))) (fun _ => zT_ite (fun hx => (zT_out (fun q hq => by rw [hx] at hq; cases hq; exact (zpn (by decide) q2375 (by decide +kernel) zp0)))) (fun _ => zT_ite (fun hx => (zT_out (fun q hq => by rw [hx] at hq; cases hq; exact (zpn (by decide) q2375 (by decide +kernel) zp0)))) (fun _ => zT_ite (fun hx => (zT_out (fun q hq => by rw [hx] at hq; cases hq; exact (zpn (by decide) q2375 (by decide +kernel) zp0)))) (fun _ => zT_ite (fun hx => (zT_out (fun q hq => by rw [hx] at hq; cases hq; exact (zpn (by decide) q2375 (by decide +kernel) zp0)))) (fun _ => zT_none)))))))))
  refine s_i2l (pc := 7) dX0_blocksBeneath_7 ?_
  refine s_last (pc := 8) dX0_blocksBeneath_8 (ztc rfl zt0) (fun h5 => ?_)
  refine s_goto (pc := 9) (tgt := 15) dX0_blocksBeneath_9 (by decide) ?_
  refine s_iconst (pc := 15) (v := 0) dX0_blocksBeneath_15 (by decide) ?_
  exact s_iret (pc := 16) dX0_blocksBeneath_16 rfl
theorem c_X0_blocksBeneath {d0 : Nat} (hd0 : 12 < d0) (v0 : Option Nat) (v1 : Int32) (v2 : Option Nat) (h : zH) : zCal D z d0 h yX0_blocksBeneath [va_rf v0, .int v1, va_rf v2] (f_X0_blocksBeneath v0 v1 v2 h) :=
  ⟨cX0_blocksBeneath, 4, (some .int), [(0, 9, 12, 21)], 12, (show lv_args 0 [va_rf v0, .int v1, va_rf v2] = [(0, va_rf v0), (1, .int v1), (2, va_rf v2)] by simp [lv_args, zcat_rf, zcat_i, zcat_l, zcat_f, zcat_d]) ▸ w_X0_blocksBeneath v0 v1 v2 h, (plainFor_of_name (by decide)), by simp [lg_sl, zcat_rf, zcat_i, zcat_l, zcat_f, zcat_d], q2776, q94, hd0, by decide, by decide⟩
theorem w_X1_blocksBeneathByBlocks (v0 : Option Nat) (v1 : Int32) (h : zH) : zS D z yX1_blocksBeneathByBlocks cX1_blocksBeneathByBlocks 2 (some .int) [] 11 h 0 [(0, va_rf v0), (1, .int v1)] [] (f_X1_blocksBeneathByBlocks v0 v1 h) := by
  unfold f_X1_blocksBeneathByBlocks
  refine s_aload_n (pc := 0) 0 dX1_blocksBeneathByBlocks_0 rfl rfl ?_
  refine s_gR (pc := 1) dX1_blocksBeneathByBlocks_1 gf_X1_30 (fun r1 => ?_)
  refine s_aload_n (pc := 4) 0 dX1_blocksBeneathByBlocks_4 rfl rfl ?_
  refine s_gR (pc := 5) dX1_blocksBeneathByBlocks_5 gf_X1_30 (fun r2 => ?_)
  refine s_iload_n (pc := 8) 1 dX1_blocksBeneathByBlocks_8 rfl rfl ?_
  refine zS_ite (fun ht => ?_) (fun _ => zS_none)
  refine s_callV (pc := 9) (np := 1) (as := [.int v1]) (rest := [va_rf r1]) dX1_blocksBeneathByBlocks_9 ht (q := (RX2, TX2, 10)) rfl (c_X2_ship (by decide) r2 v1 h) rfl rfl q2564 q2387 q2388 rfl (by simp [zcat_rf, zcat_i, zcat_l, zcat_f, zcat_d]) (zkR (fun r3 h4 => ?_)) zxo
  refine zS_ite (fun ht => ?_) (fun _ => zS_none)
  refine s_callV (pc := 12) (np := 1) (as := [va_rf r3]) (rest := []) dX1_blocksBeneathByBlocks_12 ht (q := (RX2, TX2, 10)) rfl (c_X2_blocksBeneath (by decide) r1 r3 h4) rfl rfl q2789 q1947 q1948 rfl (by decide) (zkI (fun x5 h6 => ?_)) zxo
  exact s_iret (pc := 15) dX1_blocksBeneathByBlocks_15 rfl
theorem c_X1_blocksBeneathByBlocks {d0 : Nat} (hd0 : 11 < d0) (v0 : Option Nat) (v1 : Int32) (h : zH) : zCal D z d0 h yX1_blocksBeneathByBlocks [va_rf v0, .int v1] (f_X1_blocksBeneathByBlocks v0 v1 h) :=
  ⟨cX1_blocksBeneathByBlocks, 2, (some .int), [], 11, (show lv_args 0 [va_rf v0, .int v1] = [(0, va_rf v0), (1, .int v1)] by simp [lv_args, zcat_rf, zcat_i, zcat_l, zcat_f, zcat_d]) ▸ w_X1_blocksBeneathByBlocks v0 v1 h, (plainFor_of_name (by decide)), by simp [lg_sl, zcat_rf, zcat_i, zcat_l, zcat_f, zcat_d], q2788, q95, hd0, by decide, by decide⟩
theorem w_X0_blocksBeneathByBlocks_12 (s0 : Option Nat) (h : zH) : zS D z yX0_blocksBeneathByBlocks cX0_blocksBeneathByBlocks 4 (some .int) [(0, 9, 12, 21)] 12 h 12 [] [va_rf s0] (f_X0_blocksBeneathByBlocks_12 s0 h) := by
  unfold f_X0_blocksBeneathByBlocks_12
  refine s_ast_n (pc := 12) (L2 := []) [] dX0_blocksBeneathByBlocks_12 rfl (by decide) rfl rfl (zcA rfl) ?_
  refine s_iconst (pc := 13) (v := 1) dX0_blocksBeneathByBlocks_13 (by decide) ?_
  exact s_iret (pc := 14) dX0_blocksBeneathByBlocks_14 rfl
theorem w_X0_blocksBeneathByBlocks (v0 : Option Nat) (v1 : Int32) (v2 : Option Nat) (h : zH) : zS D z yX0_blocksBeneathByBlocks cX0_blocksBeneathByBlocks 4 (some .int) [(0, 9, 12, 21)] 12 h 0 [(0, va_rf v0), (1, .int v1), (2, va_rf v2)] [] (f_X0_blocksBeneathByBlocks v0 v1 v2 h) := by
  unfold f_X0_blocksBeneathByBlocks
  refine s_aload_n (pc := 0) 2 dX0_blocksBeneathByBlocks_0 rfl rfl ?_
  refine s_iconst (pc := 1) (v := 0) dX0_blocksBeneathByBlocks_1 (by decide) ?_
  refine s_aload_n (pc := 2) 0 dX0_blocksBeneathByBlocks_2 rfl rfl ?_
  refine s_iload_n (pc := 3) 1 dX0_blocksBeneathByBlocks_3 rfl rfl ?_
  refine zS_ite (fun ht => ?_) (fun _ => zS_none)
  refine s_callV (pc := 4) (np := 1) (as := [.int v1]) (rest := [.int 0, va_rf v2]) dX0_blocksBeneathByBlocks_4 ht (q := (RX1, TX1, 11)) rfl (c_X1_blocksBeneathByBlocks (by decide) v0 v1 h) rfl rfl q2785 q2786 q2787 rfl (by simp [zcat_rf, zcat_i, zcat_l, zcat_f, zcat_d]) (zkI (fun x3 h4 => ?_)) (fun e2 h1 => zT_ite (fun hx => (zT_out (fun q hq => by rw [hx] at hq; cases hq; exact (zpn (by decide) q2375 (by decide +kernel) zp0)))) (fun _ => zT_ite (fun hx => (zT_out (fun q hq => by rw [hx] at hq; cases hq; exact (zpn (by decide) q2375 (by decide +kernel) zp0)))) (fun _ => zT_ite (fun hx => (zT_catch (q := (RJ28, TJ28, 0)) [] (0, 9, 12, 21) [] rfl (by rw [hx]; rfl) zp0 rfl (by decide) q2375 (Or.inl rfl) rfl (by exact s_sub (pc := 12) [] rfl (w_X0_blocksBeneathByBlocks_12 (some e2.2) h1)))) (fun _ => zT_ite (fun hx => (zT_out (fun q hq => by rw [hx] at hq; cases hq; exact (zpn (by decide) q2375 (by decide +kernel) zp0)))) (fun _ => zT_ite (fun hx => (zT_out (fun q hq => by rw [hx] at hq; cases hq; exact (zpn (by decide) q2375 (by decide +kernel) zp0)))) (fun _ => zT_ite (fun hx => (zT_out (fun q hq => by rw [hx] at hq; cases hq; exact (zpn (by decide) q2375 (by decide +kernel) zp0)))) (fun _ => zT_ite (fun hx => (zT_out (fun q hq => by rw [hx] at hq; cases hq; exact (zpn (by decide) q2375 (by decide +kernel) zp0)))) (fun _ => zT_ite (fun hx => (zT_out (fun q hq => by rw [hx] at hq; cases hq; exact (zpn (by decide) q2375 (by decide +kernel) zp0)))) (fun _ => zT_none)))))))))
  refine s_i2l (pc := 7) dX0_blocksBeneathByBlocks_7 ?_
  refine s_last (pc := 8) dX0_blocksBeneathByBlocks_8 (ztc rfl zt0) (fun h5 => ?_)
  refine s_goto (pc := 9) (tgt := 15) dX0_blocksBeneathByBlocks_9 (by decide) ?_
  refine s_iconst (pc := 15) (v := 0) dX0_blocksBeneathByBlocks_15 (by decide) ?_
  exact s_iret (pc := 16) dX0_blocksBeneathByBlocks_16 rfl
theorem c_X0_blocksBeneathByBlocks {d0 : Nat} (hd0 : 12 < d0) (v0 : Option Nat) (v1 : Int32) (v2 : Option Nat) (h : zH) : zCal D z d0 h yX0_blocksBeneathByBlocks [va_rf v0, .int v1, va_rf v2] (f_X0_blocksBeneathByBlocks v0 v1 v2 h) :=
  ⟨cX0_blocksBeneathByBlocks, 4, (some .int), [(0, 9, 12, 21)], 12, (show lv_args 0 [va_rf v0, .int v1, va_rf v2] = [(0, va_rf v0), (1, .int v1), (2, va_rf v2)] by simp [lv_args, zcat_rf, zcat_i, zcat_l, zcat_f, zcat_d]) ▸ w_X0_blocksBeneathByBlocks v0 v1 v2 h, (plainFor_of_name (by decide)), by simp [lg_sl, zcat_rf, zcat_i, zcat_l, zcat_f, zcat_d], q2784, q94, hd0, by decide, by decide⟩
theorem w_X1_shipAtPosition_25 (a2 : Option Nat) (s0 : Int32) (h : zH) : zS D z yX1_shipAtPosition cX1_shipAtPosition 3 (some .int) [] 11 h 25 [(2, va_rf a2)] [.int s0] (f_X1_shipAtPosition_25 a2 s0 h) := by
  unfold f_X1_shipAtPosition_25
  refine s_callSS (pc := 25) (np := 1) (as := [.int s0]) (rest := []) dX1_shipAtPosition_25 (c_X1_checkElement (by decide) s0 h) rfl rfl q2612 q2395 rfl (by decide) (zkV (fun h7 => ?_)) zxo
  refine s_aload_n (pc := 28) 0 dX1_shipAtPosition_28 rfl rfl ?_
  refine s_gI (pc := 29) dX1_shipAtPosition_29 gf_X1_243 (fun x8 => ?_)
  exact s_iret (pc := 32) dX1_shipAtPosition_32 rfl
theorem w_X1_shipAtPosition (v0 : Option Nat) (v1 : Int32) (h : zH) : zS D z yX1_shipAtPosition cX1_shipAtPosition 3 (some .int) [] 11 h 0 [(0, va_rf v0), (1, .int v1)] [] (f_X1_shipAtPosition v0 v1 h) := by
  unfold f_X1_shipAtPosition
  refine s_iload_n (pc := 0) 1 dX1_shipAtPosition_0 rfl rfl ?_
  refine s_callSS (pc := 1) (np := 1) (as := [.int v1]) (rest := []) dX1_shipAtPosition_1 (c_X1_isPosition (by decide) v1 h) rfl rfl q2772 q2736 rfl (by decide) (zkI (fun x1 h2 => ?_)) zxo
  refine s_callSS (pc := 4) (np := 1) (as := [.int x1]) (rest := []) dX1_shipAtPosition_4 (c_X1_checkArgument (by decide) x1 h2) rfl rfl q2652 q2280 rfl (by decide) (zkV (fun h3 => ?_)) zxo
  refine s_aload_n (pc := 7) 0 dX1_shipAtPosition_7 rfl rfl ?_
  refine s_gR (pc := 8) dX1_shipAtPosition_8 gf_X1_30 (fun r4 => ?_)
  refine s_iload_n (pc := 11) 1 dX1_shipAtPosition_11 rfl rfl ?_
  refine zS_ite (fun ht => ?_) (fun _ => zS_none)
  refine s_callV (pc := 12) (np := 1) (as := [.int v1]) (rest := []) dX1_shipAtPosition_12 ht (q := (RX2, TX2, 10)) rfl (c_X2_shipAtPosition (by decide) r4 v1 h3) rfl rfl q2797 q1505 q1506 rfl (by decide) (zkR (fun r5 h6 => ?_)) zxo
  refine s_ast_n (pc := 15) (L2 := []) [] dX1_shipAtPosition_15 rfl (by decide) rfl rfl (zcA rfl) ?_
  refine s_aload_n (pc := 16) 0 dX1_shipAtPosition_16 rfl rfl ?_
  refine s_ifnull (pc := 17) (tgt := 24) dX1_shipAtPosition_17 (by decide) (fun _ => ?_) (fun _ => ?_)
  · refine s_iconst (pc := 24) (v := 0) dX1_shipAtPosition_24 (by decide) ?_
    exact s_sub (pc := 25) [0] rfl (w_X1_shipAtPosition_25 r5 0 h6)
  · refine s_iconst (pc := 20) (v := 1) dX1_shipAtPosition_20 (by decide) ?_
    refine s_goto (pc := 21) (tgt := 25) dX1_shipAtPosition_21 (by decide) ?_
    exact s_sub (pc := 25) [0] rfl (w_X1_shipAtPosition_25 r5 1 h6)
theorem c_X1_shipAtPosition {d0 : Nat} (hd0 : 11 < d0) (v0 : Option Nat) (v1 : Int32) (h : zH) : zCal D z d0 h yX1_shipAtPosition [va_rf v0, .int v1] (f_X1_shipAtPosition v0 v1 h) :=
  ⟨cX1_shipAtPosition, 3, (some .int), [], 11, (show lv_args 0 [va_rf v0, .int v1] = [(0, va_rf v0), (1, .int v1)] by simp [lv_args, zcat_rf, zcat_i, zcat_l, zcat_f, zcat_d]) ▸ w_X1_shipAtPosition v0 v1 h, (plainFor_of_name (by decide)), by simp [lg_sl, zcat_rf, zcat_i, zcat_l, zcat_f, zcat_d], q2796, q95, hd0, by decide, by decide⟩
theorem w_X0_shipAtPosition_12 (s0 : Option Nat) (h : zH) : zS D z yX0_shipAtPosition cX0_shipAtPosition 4 (some .int) [(0, 9, 12, 13), (0, 9, 15, 21)] 12 h 12 [] [va_rf s0] (f_X0_shipAtPosition_12 s0 h) := by
  unfold f_X0_shipAtPosition_12
  refine s_ast_n (pc := 12) (L2 := []) [] dX0_shipAtPosition_12 rfl (by decide) rfl rfl (zcA rfl) ?_
  refine s_iconst (pc := 13) (v := 1) dX0_shipAtPosition_13 (by decide) ?_
  exact s_iret (pc := 14) dX0_shipAtPosition_14 rfl
theorem w_X0_shipAtPosition_15 (s0 : Option Nat) (h : zH) : zS D z yX0_shipAtPosition cX0_shipAtPosition 4 (some .int) [(0, 9, 12, 13), (0, 9, 15, 21)] 12 h 15 [] [va_rf s0] (f_X0_shipAtPosition_15 s0 h) := by
  unfold f_X0_shipAtPosition_15
  refine s_ast_n (pc := 15) (L2 := []) [] dX0_shipAtPosition_15 rfl (by decide) rfl rfl (zcA rfl) ?_
  refine s_iconst (pc := 16) (v := 2) dX0_shipAtPosition_16 (by decide) ?_
  exact s_iret (pc := 17) dX0_shipAtPosition_17 rfl
theorem w_X0_shipAtPosition (v0 : Option Nat) (v1 : Int32) (v2 : Option Nat) (h : zH) : zS D z yX0_shipAtPosition cX0_shipAtPosition 4 (some .int) [(0, 9, 12, 13), (0, 9, 15, 21)] 12 h 0 [(0, va_rf v0), (1, .int v1), (2, va_rf v2)] [] (f_X0_shipAtPosition v0 v1 v2 h) := by
  unfold f_X0_shipAtPosition
  refine s_aload_n (pc := 0) 2 dX0_shipAtPosition_0 rfl rfl ?_
  refine s_iconst (pc := 1) (v := 0) dX0_shipAtPosition_1 (by decide) ?_
  refine s_aload_n (pc := 2) 0 dX0_shipAtPosition_2 rfl rfl ?_
  refine s_iload_n (pc := 3) 1 dX0_shipAtPosition_3 rfl rfl ?_
  refine zS_ite (fun ht => ?_) (fun _ => zS_none)
  refine s_callV (pc := 4) (np := 1) (as := [.int v1]) (rest := [.int 0, va_rf v2]) dX0_shipAtPosition_4 ht (q := (RX1, TX1, 11)) rfl (c_X1_shipAtPosition (by decide) v0 v1 h) rfl rfl q2793 q2794 q2795 rfl (by simp [zcat_rf, zcat_i, zcat_l, zcat_f, zcat_d]) (zkI (fun x3 h4 => ?_)) (fun e2 h1 => zT_ite (fun hx => (zT_catch (q := (RJ34, TJ34, 0)) [] (0, 9, 12, 13) [(0, 9, 15, 21)] rfl (by rw [hx]; rfl) zp0 rfl (by decide) q2266 (Or.inl rfl) rfl (by exact s_sub (pc := 12) [] rfl (w_X0_shipAtPosition_12 (some e2.2) h1)))) (fun _ => zT_ite (fun hx => (zT_out (fun q hq => by rw [hx] at hq; cases hq; exact (zpn (by decide) q2266 (by decide +kernel) (zpn (by decide) q2375 (by decide +kernel) zp0))))) (fun _ => zT_ite (fun hx => (zT_catch (q := (RJ28, TJ28, 0)) [(0, 9, 12, 13)] (0, 9, 15, 21) [] rfl (by rw [hx]; rfl) (zpn (by decide) q2266 (by decide +kernel) zp0) rfl (by decide) q2375 (Or.inl rfl) rfl (by exact s_sub (pc := 15) [] rfl (w_X0_shipAtPosition_15 (some e2.2) h1)))) (fun _ => zT_ite (fun hx => (zT_out (fun q hq => by rw [hx] at hq; cases hq; exact (zpn (by decide) q2266 (by decide +kernel) (zpn (by decide) q2375 (by decide +kernel) zp0))))) (fun _ => zT_ite (fun hx => (zT_out (fun q hq => by rw [hx] at hq; cases hq; exact (zpn (by decide) q2266 (by decide +kernel) (zpn (by decide) q2375 (by decide +kernel) zp0))))) (fun _ => zT_ite (fun hx => (zT_out (fun q hq => by rw [hx] at hq; cases hq; exact (zpn (by decide) q2266 (by decide +kernel) (zpn (by decide) q2375 (by decide +kernel) zp0))))) (fun _ => zT_ite (fun hx => (zT_out (fun q hq => by rw [hx] at hq; cases hq; exact (zpn (by decide) q2266 (by decide +kernel) (zpn (by decide) q2375 (by decide +kernel) zp0))))) (fun _ => zT_ite (fun hx => (zT_out (fun q hq => by rw [hx] at hq; cases hq; exact (zpn (by decide) q2266 (by decide +kernel) (zpn (by decide) q2375 (by decide +kernel) zp0))))) (fun _ => zT_none)))))))))
  refine s_i2l (pc := 7) dX0_shipAtPosition_7 ?_
  refine s_last (pc := 8) dX0_shipAtPosition_8 (ztc rfl zt0) (fun h5 => ?_)
  refine s_goto (pc := 9) (tgt := 18) dX0_shipAtPosition_9 (by decide) ?_
  refine s_iconst (pc := 18) (v := 0) dX0_shipAtPosition_18 (by decide) ?_
  exact s_iret (pc := 19) dX0_shipAtPosition_19 rfl
theorem c_X0_shipAtPosition {d0 : Nat} (hd0 : 12 < d0) (v0 : Option Nat) (v1 : Int32) (v2 : Option Nat) (h : zH) : zCal D z d0 h yX0_shipAtPosition [va_rf v0, .int v1, va_rf v2] (f_X0_shipAtPosition v0 v1 v2 h) :=
  ⟨cX0_shipAtPosition, 4, (some .int), [(0, 9, 12, 13), (0, 9, 15, 21)], 12, (show lv_args 0 [va_rf v0, .int v1, va_rf v2] = [(0, va_rf v0), (1, .int v1), (2, va_rf v2)] by simp [lv_args, zcat_rf, zcat_i, zcat_l, zcat_f, zcat_d]) ▸ w_X0_shipAtPosition v0 v1 v2 h, (plainFor_of_name (by decide)), by simp [lg_sl, zcat_rf, zcat_i, zcat_l, zcat_f, zcat_d], q2792, q94, hd0, by decide, by decide⟩
theorem w_J7_init (v0 : Option Nat) (v1 : Int32) (h : zH) : zS D z yJ7_init cJ7_init 2 none [] 1 h 0 [(0, va_rf v0), (1, .int v1)] [] (f_J7_init v0 v1 h) := by
  unfold f_J7_init
  refine s_aload_n (pc := 0) 0 dJ7_init_0 rfl rfl ?_
  refine zS_ite (fun hr => ?_) (fun _ => zS_none)
  refine s_objinit (pc := 1) dJ7_init_1 hr q332 q164 q165 (by decide) (by decide) ?_
  refine s_getsI (pc := 4) (n := "COMPACT_STRINGS") (v := 1) dJ7_init_4 (List.mem_of_getElem? (i := 7) rfl) q333 ?_
  refine s_if_eq (pc := 7) (tgt := 25) dJ7_init_7 (by decide) (fun _ => ?_) (fun _ => ?_)
  · refine s_aload_n (pc := 25) 0 dJ7_init_25 rfl rfl ?_
    refine s_iload_n (pc := 26) 1 dJ7_init_26 rfl rfl ?_
    exact zS_none
  · refine s_aload_n (pc := 10) 0 dJ7_init_10 rfl rfl ?_
    refine s_iload_n (pc := 11) 1 dJ7_init_11 rfl rfl ?_
    refine s_newa (pc := 12) (ty := .byte) dJ7_init_12 rfl ⟨rfl, by decide⟩ q356 rfl rfl (fun r3 h4 => ?_)
    refine s_putA (pc := 14) dJ7_init_14 pf_J7_15 (fun h5 => ?_)
    refine s_aload_n (pc := 17) 0 dJ7_init_17 rfl rfl ?_
    refine s_iconst (pc := 18) (v := 0) dJ7_init_18 (by decide) ?_
    refine s_putN (pc := 19) dJ7_init_19 pf_J7_22 (fun h6 => ?_)
    refine s_goto (pc := 22) (tgt := 38) dJ7_init_22 (by decide) ?_
    exact s_vret (pc := 38) dJ7_init_38 rfl
theorem c_J7_init {d0 : Nat} (hd0 : 1 < d0) (v0 : Option Nat) (v1 : Int32) (h : zH) : zCal D z d0 h yJ7_init [va_rf v0, .int v1] (f_J7_init v0 v1 h) :=
  ⟨cJ7_init, 2, none, [], 1, (show lv_args 0 [va_rf v0, .int v1] = [(0, va_rf v0), (1, .int v1)] by simp [lv_args, zcat_rf, zcat_i, zcat_l, zcat_f, zcat_d]) ▸ w_J7_init v0 v1 h, (plainFor_of_name (by decide)), by simp [lg_sl, zcat_rf, zcat_i, zcat_l, zcat_f, zcat_d], q331, q104, hd0, by decide, by decide⟩
theorem w_J8_init (v0 : Option Nat) (h : zH) : zS D z yJ8_init cJ8_init 1 none [] 2 h 0 [(0, va_rf v0)] [] (f_J8_init v0 h) := by
  unfold f_J8_init
  refine s_aload_n (pc := 0) 0 dJ8_init_0 rfl rfl ?_
  refine s_bipush (pc := 1) (v := 16) dJ8_init_1 (by decide) ?_
  refine zS_ite (fun hr => ?_) (fun _ => zS_none)
  refine s_callC (pc := 3) (np := 1) (as := [.int 16]) (rest := []) dJ8_init_3 hr (c_J7_init (by decide) v0 16 h) ⟨_, _, q331⟩ rfl rfl rfl q329 q330 rfl (by decide) (zkV (fun h1 => ?_)) zxo
  exact s_vret (pc := 6) dJ8_init_6 rfl
theorem c_J8_init {d0 : Nat} (hd0 : 2 < d0) (v0 : Option Nat) (h : zH) : zCal D z d0 h yJ8_init [va_rf v0] (f_J8_init v0 h) :=
  ⟨cJ8_init, 1, none, [], 2, (show lv_args 0 [va_rf v0] = [(0, va_rf v0)] by simp [lv_args, zcat_rf, zcat_i, zcat_l, zcat_f, zcat_d]) ▸ w_J8_init v0 h, (plainFor_of_name (by decide)), by simp [lg_sl, zcat_rf, zcat_i, zcat_l, zcat_f, zcat_d], q328, q105, hd0, by decide, by decide⟩
theorem w_J9_coder (v0 : Option Nat) (h : zH) : zS D z yJ9_coder cJ9_coder 1 (some .byte) [] 1 h 0 [(0, va_rf v0)] [] (f_J9_coder v0 h) := by
  unfold f_J9_coder
  refine s_getsI (pc := 0) (n := "COMPACT_STRINGS") (v := 1) dJ9_coder_0 (List.mem_of_getElem? (i := 7) rfl) q941 ?_
  refine s_if_eq (pc := 3) (tgt := 13) dJ9_coder_3 (by decide) (fun _ => ?_) (fun _ => ?_)
  · refine s_iconst (pc := 13) (v := 1) dJ9_coder_13 (by decide) ?_
    exact s_nret (pc := 14) dJ9_coder_14 rfl
  · refine s_aload_n (pc := 6) 0 dJ9_coder_6 rfl rfl ?_
    refine s_gI (pc := 7) dJ9_coder_7 gf_J9_15 (fun x1 => ?_)
    refine s_goto (pc := 10) (tgt := 14) dJ9_coder_10 (by decide) ?_
    exact s_nret (pc := 14) dJ9_coder_14 rfl
theorem c_J9_coder {d0 : Nat} (hd0 : 1 < d0) (v0 : Option Nat) (h : zH) : zCal D z d0 h yJ9_coder [va_rf v0] (f_J9_coder v0 h) :=
  ⟨cJ9_coder, 1, (some .byte), [], 1, (show lv_args 0 [va_rf v0] = [(0, va_rf v0)] by simp [lv_args, zcat_rf, zcat_i, zcat_l, zcat_f, zcat_d]) ▸ w_J9_coder v0 h, (plainFor_of_name (by decide)), by simp [lg_sl, zcat_rf, zcat_i, zcat_l, zcat_f, zcat_d], q940, q106, hd0, by decide, by decide⟩
theorem w_J9_length (v0 : Option Nat) (h : zH) : zS D z yJ9_length cJ9_length 1 (some .int) [] 2 h 0 [(0, va_rf v0)] [] (f_J9_length v0 h) := by
  unfold f_J9_length
  refine s_aload_n (pc := 0) 0 dJ9_length_0 rfl rfl ?_
  refine s_gR (pc := 1) dJ9_length_1 gf_J9_9 (fun r1 => ?_)
  refine s_alen (pc := 4) dJ9_length_4 zarrs_ok (fun x2 => ?_)
  refine s_aload_n (pc := 5) 0 dJ9_length_5 rfl rfl ?_
  refine zS_ite (fun ht => ?_) (fun _ => zS_none)
  refine s_callV (pc := 6) (np := 0) (as := []) (rest := [.int x2]) dJ9_length_6 ht (q := (RJ9, TJ9, 4)) rfl (c_J9_coder (by decide) v0 h) rfl rfl q937 q938 q939 rfl (by simp [zcat_rf, zcat_i, zcat_l, zcat_f, zcat_d]) (zkI (fun x3 h4 => ?_)) zxo
  refine s_ishr (pc := 9) dJ9_length_9 ?_
  exact s_iret (pc := 10) dJ9_length_10 rfl
theorem c_J9_length {d0 : Nat} (hd0 : 2 < d0) (v0 : Option Nat) (h : zH) : zCal D z d0 h yJ9_length [va_rf v0] (f_J9_length v0 h) :=
  ⟨cJ9_length, 1, (some .int), [], 2, (show lv_args 0 [va_rf v0] = [(0, va_rf v0)] by simp [lv_args, zcat_rf, zcat_i, zcat_l, zcat_f, zcat_d]) ▸ w_J9_length v0 h, (plainFor_of_name (by decide)), by simp [lg_sl, zcat_rf, zcat_i, zcat_l, zcat_f, zcat_d], q936, q106, hd0, by decide, by decide⟩
theorem w_J30_newLength_21 (a0 : Int32) (a1 : Int32) (h : zH) : zS D z yJ30_newLength cJ30_newLength 4 (some .int) [] 2 h 21 [(0, .int a0), (1, .int a1)] [] (f_J30_newLength_21 a0 a1 h) := by
  unfold f_J30_newLength_21
  refine s_iload_n (pc := 21) 0 dJ30_newLength_21 rfl rfl ?_
  refine s_iload_n (pc := 22) 1 dJ30_newLength_22 rfl rfl ?_
  exact zS_none
theorem w_J30_newLength (v0 : Int32) (v1 : Int32) (v2 : Int32) (h : zH) : zS D z yJ30_newLength cJ30_newLength 4 (some .int) [] 2 h 0 [(0, .int v0), (1, .int v1), (2, .int v2)] [] (f_J30_newLength v0 v1 v2 h) := by
  unfold f_J30_newLength
  refine s_iload_n (pc := 0) 0 dJ30_newLength_0 rfl rfl ?_
  refine s_iload_n (pc := 1) 1 dJ30_newLength_1 rfl rfl ?_
  refine s_iload_n (pc := 2) 2 dJ30_newLength_2 rfl rfl ?_
  refine s_callSS (pc := 3) (np := 2) (as := [.int v1, .int v2]) (rest := [.int v0]) dJ30_newLength_3 (c_J11_max (by decide) v1 v2 h) rfl rfl q880 q881 rfl (by simp [zcat_rf, zcat_i, zcat_l, zcat_f, zcat_d]) (zkI (fun x1 h2 => ?_)) zxo
  refine s_iadd (pc := 6) dJ30_newLength_6 ?_
  refine s_nm (pc := 7) Value.int (fun x3 => ?_)
  refine s_ist_n (pc := 7) (L2 := [(0, .int v0), (1, .int v1)]) [0, 1] dJ30_newLength_7 rfl (by decide) rfl rfl (zcA rfl) ?_
  refine s_iconst (pc := 8) (v := 0) dJ30_newLength_8 (by decide) ?_
  refine s_iload_n (pc := 9) 0 dJ30_newLength_9 rfl rfl ?_
  refine s_icmp_ge (pc := 10) (tgt := 21) dJ30_newLength_10 (by decide) (fun _ => ?_) (fun _ => ?_)
  · exact s_sub (pc := 21) [1, 2] rfl (w_J30_newLength_21 v0 v1 h2)
  · refine s_iload_n (pc := 13) 0 dJ30_newLength_13 rfl rfl ?_
    refine s_ldc (pc := 14) (v := 2147483639) dJ30_newLength_14 q883 ?_
    refine s_icmp_gt (pc := 16) (tgt := 21) dJ30_newLength_16 (by decide) (fun _ => ?_) (fun _ => ?_)
    · exact s_sub (pc := 21) [1, 2] rfl (w_J30_newLength_21 v0 v1 h2)
    · refine s_iload_n (pc := 19) 0 dJ30_newLength_19 rfl rfl ?_
      exact s_iret (pc := 20) dJ30_newLength_20 rfl
theorem c_J30_newLength {d0 : Nat} (hd0 : 2 < d0) (v0 : Int32) (v1 : Int32) (v2 : Int32) (h : zH) : zCal D z d0 h yJ30_newLength [.int v0, .int v1, .int v2] (f_J30_newLength v0 v1 v2 h) :=
  ⟨cJ30_newLength, 4, (some .int), [], 2, (show lv_args 0 [.int v0, .int v1, .int v2] = [(0, .int v0), (1, .int v1), (2, .int v2)] by simp [lv_args, zcat_rf, zcat_i, zcat_l, zcat_f, zcat_d]) ▸ w_J30_newLength v0 v1 v2 h, (plainFor_of_name (by decide)), by simp [lg_sl, zcat_rf, zcat_i, zcat_l, zcat_f, zcat_d], q879, q128, hd0, by decide, by decide⟩
theorem w_J7_newCapacity (v0 : Option Nat) (v1 : Int32) (h : zH) : zS D z yJ7_newCapacity cJ7_newCapacity 6 (some .int) [] 3 h 0 [(0, va_rf v0), (1, .int v1)] [] (f_J7_newCapacity v0 v1 h) := by
  unfold f_J7_newCapacity
  refine s_aload_n (pc := 0) 0 dJ7_newCapacity_0 rfl rfl ?_
  refine s_gR (pc := 1) dJ7_newCapacity_1 gf_J7_15 (fun r1 => ?_)
  refine s_alen (pc := 4) dJ7_newCapacity_4 zarrs_ok (fun x2 => ?_)
  refine s_ist_n (pc := 5) (L2 := [(0, va_rf v0), (1, .int v1)]) [0, 1] dJ7_newCapacity_5 rfl (by decide) rfl rfl (zcB (j := 1) rfl rfl rfl) ?_
  refine s_iload_n (pc := 6) 2 dJ7_newCapacity_6 rfl rfl ?_
  refine s_aload_n (pc := 7) 1 dJ7_newCapacity_7 rfl rfl ?_
  refine s_gI (pc := 8) dJ7_newCapacity_8 gf_J7_22 (fun x3 => ?_)
  refine s_ishl (pc := 11) dJ7_newCapacity_11 ?_
  refine s_nm (pc := 12) Value.int (fun x4 => ?_)
  refine s_ist_n (pc := 12) (L2 := [(2, .int x2), (0, va_rf v0)]) [0, 1] dJ7_newCapacity_12 rfl (by decide) rfl rfl (zcB (j := 0) rfl rfl rfl) ?_
  refine s_iload_n (pc := 13) 0 dJ7_newCapacity_13 rfl rfl ?_
  refine s_iload_n (pc := 14) 1 dJ7_newCapacity_14 rfl rfl ?_
  refine s_isub (pc := 15) dJ7_newCapacity_15 ?_
  refine s_nm (pc := 16) Value.int (fun x5 => ?_)
  refine s_ist (pc := 16) (L2 := [(2, .int x2), (0, va_rf v0)]) [1, 2] dJ7_newCapacity_16 (by decide) rfl rfl (zcA rfl) ?_
  refine s_iload_n (pc := 18) 1 dJ7_newCapacity_18 rfl rfl ?_
  refine s_iload (pc := 19) 0 dJ7_newCapacity_19 rfl ?_
  refine s_iload_n (pc := 21) 1 dJ7_newCapacity_21 rfl rfl ?_
  refine s_iconst (pc := 22) (v := 2) dJ7_newCapacity_22 (by decide) ?_
  refine s_aload_n (pc := 23) 2 dJ7_newCapacity_23 rfl rfl ?_
  refine s_gI (pc := 24) dJ7_newCapacity_24 gf_J7_22 (fun x6 => ?_)
  refine s_ishl (pc := 27) dJ7_newCapacity_27 ?_
  refine s_iadd (pc := 28) dJ7_newCapacity_28 ?_
  refine s_callSS (pc := 29) (np := 3) (as := [.int x2, .int x5, .int (x2 + ((2 : Int32) <<< (x6 &&& 31)))]) (rest := []) dJ7_newCapacity_29 (c_J30_newLength (by decide) x2 x5 (x2 + ((2 : Int32) <<< (x6 &&& 31))) h) rfl rfl q877 q878 rfl (by decide) (zkI (fun x7 h8 => ?_)) zxo
  refine s_ist (pc := 32) (L2 := [(0, va_rf v0)]) [2] dJ7_newCapacity_32 (by decide) rfl rfl (zcA rfl) ?_
  refine s_iload (pc := 34) 0 dJ7_newCapacity_34 rfl ?_
  refine s_ldc (pc := 36) (v := 2147483647) dJ7_newCapacity_36 q887 ?_
  refine s_icmp_ne (pc := 38) (tgt := 51) dJ7_newCapacity_38 (by decide) (fun _ => ?_) (fun _ => ?_)
  · refine s_iload (pc := 51) 0 dJ7_newCapacity_51 rfl ?_
    refine s_aload_n (pc := 53) 1 dJ7_newCapacity_53 rfl rfl ?_
    refine s_gI (pc := 54) dJ7_newCapacity_54 gf_J7_22 (fun x9 => ?_)
    refine s_ishr (pc := 57) dJ7_newCapacity_57 ?_
    exact s_iret (pc := 58) dJ7_newCapacity_58 rfl
  · exact zS_none
theorem c_J7_newCapacity {d0 : Nat} (hd0 : 3 < d0) (v0 : Option Nat) (v1 : Int32) (h : zH) : zCal D z d0 h yJ7_newCapacity [va_rf v0, .int v1] (f_J7_newCapacity v0 v1 h) :=
  ⟨cJ7_newCapacity, 6, (some .int), [], 3, (show lv_args 0 [va_rf v0, .int v1] = [(0, va_rf v0), (1, .int v1)] by simp [lv_args, zcat_rf, zcat_i, zcat_l, zcat_f, zcat_d]) ▸ w_J7_newCapacity v0 v1 h, (plainFor_of_name (by decide)), by simp [lg_sl, zcat_rf, zcat_i, zcat_l, zcat_f, zcat_d], q876, q104, hd0, by decide, by decide⟩
theorem w_J31_copyOf (v0 : Option Nat) (v1 : Int32) (h : zH) : zS D z yJ31_copyOf cJ31_copyOf 3 (some (.array (.byte))) [] 2 h 0 [(0, va_rf v0), (1, .int v1)] [] (f_J31_copyOf v0 v1 h) := by
  unfold f_J31_copyOf
  refine s_iload_n (pc := 0) 1 dJ31_copyOf_0 rfl rfl ?_
  refine s_aload_n (pc := 1) 0 dJ31_copyOf_1 rfl rfl ?_
  refine s_alen (pc := 2) dJ31_copyOf_2 zarrs_ok (fun x1 => ?_)
  refine s_icmp_ne (pc := 3) (tgt := 14) dJ31_copyOf_3 (by decide) (fun _ => ?_) (fun _ => ?_)
  · refine s_iload_n (pc := 14) 1 dJ31_copyOf_14 rfl rfl ?_
    refine s_newa (pc := 15) (ty := .byte) dJ31_copyOf_15 rfl ⟨rfl, by decide⟩ q356 rfl rfl (fun r2 h3 => ?_)
    refine s_ast_n (pc := 17) (L2 := [(0, va_rf v0), (1, .int v1)]) [0, 1] dJ31_copyOf_17 rfl (by decide) rfl rfl (zcB (j := 1) rfl rfl rfl) ?_
    refine s_aload_n (pc := 18) 1 dJ31_copyOf_18 rfl rfl ?_
    refine s_iconst (pc := 19) (v := 0) dJ31_copyOf_19 (by decide) ?_
    refine s_aload_n (pc := 20) 0 dJ31_copyOf_20 rfl rfl ?_
    refine s_iconst (pc := 21) (v := 0) dJ31_copyOf_21 (by decide) ?_
    refine s_aload_n (pc := 22) 1 dJ31_copyOf_22 rfl rfl ?_
    refine s_alen (pc := 23) dJ31_copyOf_23 zarrs_ok (fun x4 => ?_)
    refine s_iload_n (pc := 24) 2 dJ31_copyOf_24 rfl rfl ?_
    refine s_callSS (pc := 25) (np := 2) (as := [.int x4, .int v1]) (rest := [.int 0, va_rf r2, .int 0, va_rf v0]) dJ31_copyOf_25 (c_J11_min (by decide) x4 v1 h3) rfl rfl q898 q377 rfl (by simp [zcat_rf, zcat_i, zcat_l, zcat_f, zcat_d]) (zkI (fun x5 h6 => ?_)) zxo
    refine s_acpB (pc := 28) dJ31_copyOf_28 q899 (by decide) (by decide) (fun h7 => ?_)
    refine s_aload_n (pc := 31) 0 dJ31_copyOf_31 rfl rfl ?_
    exact s_aret (pc := 32) dJ31_copyOf_32 rfl (Or.inr ⟨_, rfl⟩)
  · refine s_aload_n (pc := 6) 0 dJ31_copyOf_6 rfl rfl ?_
    refine s_cloneB (pc := 7) dJ31_copyOf_7 q891 q892 q893 q894 q895 q896 (by decide) (by decide) (fun r8 h9 => ?_)
    refine s_castB (pc := 10) dJ31_copyOf_10 q897 ?_
    exact s_aret (pc := 13) dJ31_copyOf_13 rfl (Or.inr ⟨_, rfl⟩)
theorem c_J31_copyOf {d0 : Nat} (hd0 : 2 < d0) (v0 : Option Nat) (v1 : Int32) (h : zH) : zCal D z d0 h yJ31_copyOf [va_rf v0, .int v1] (f_J31_copyOf v0 v1 h) :=
  ⟨cJ31_copyOf, 3, (some (.array (.byte))), [], 2, (show lv_args 0 [va_rf v0, .int v1] = [(0, va_rf v0), (1, .int v1)] by simp [lv_args, zcat_rf, zcat_i, zcat_l, zcat_f, zcat_d]) ▸ w_J31_copyOf v0 v1 h, (plainFor_of_name (by decide)), by simp [lg_sl, zcat_rf, zcat_i, zcat_l, zcat_f, zcat_d], q890, q129, hd0, by decide, by decide⟩
theorem w_J7_ensureCapacityInternal (v0 : Option Nat) (v1 : Int32) (h : zH) : zS D z yJ7_ensureCapacityInternal cJ7_ensureCapacityInternal 3 none [] 4 h 0 [(0, va_rf v0), (1, .int v1)] [] (f_J7_ensureCapacityInternal v0 v1 h) := by
  unfold f_J7_ensureCapacityInternal
  refine s_aload_n (pc := 0) 0 dJ7_ensureCapacityInternal_0 rfl rfl ?_
  refine s_gR (pc := 1) dJ7_ensureCapacityInternal_1 gf_J7_15 (fun r1 => ?_)
  refine s_alen (pc := 4) dJ7_ensureCapacityInternal_4 zarrs_ok (fun x2 => ?_)
  refine s_aload_n (pc := 5) 0 dJ7_ensureCapacityInternal_5 rfl rfl ?_
  refine s_gI (pc := 6) dJ7_ensureCapacityInternal_6 gf_J7_22 (fun x3 => ?_)
  refine s_ishr (pc := 9) dJ7_ensureCapacityInternal_9 ?_
  refine s_nm (pc := 10) Value.int (fun x4 => ?_)
  refine s_ist_n (pc := 10) (L2 := [(0, va_rf v0), (1, .int v1)]) [0, 1] dJ7_ensureCapacityInternal_10 rfl (by decide) rfl rfl (zcB (j := 1) rfl rfl rfl) ?_
  refine s_iload_n (pc := 11) 2 dJ7_ensureCapacityInternal_11 rfl rfl ?_
  refine s_iload_n (pc := 12) 0 dJ7_ensureCapacityInternal_12 rfl rfl ?_
  refine s_isub (pc := 13) dJ7_ensureCapacityInternal_13 ?_
  refine s_if_le (pc := 14) (tgt := 38) dJ7_ensureCapacityInternal_14 (by decide) (fun _ => ?_) (fun _ => ?_)
  · exact s_vret (pc := 38) dJ7_ensureCapacityInternal_38 rfl
  · refine s_aload_n (pc := 17) 1 dJ7_ensureCapacityInternal_17 rfl rfl ?_
    refine s_aload_n (pc := 18) 1 dJ7_ensureCapacityInternal_18 rfl rfl ?_
    refine s_gR (pc := 19) dJ7_ensureCapacityInternal_19 gf_J7_15 (fun r5 => ?_)
    refine s_aload_n (pc := 22) 1 dJ7_ensureCapacityInternal_22 rfl rfl ?_
    refine s_iload_n (pc := 23) 2 dJ7_ensureCapacityInternal_23 rfl rfl ?_
    refine zS_ite (fun ht => ?_) (fun _ => zS_none)
    refine s_callVP (pc := 24) (np := 1) (as := [.int v1]) (rest := [va_rf r5, va_rf v0]) dJ7_ensureCapacityInternal_24 ht (q := (RJ8, TJ8, 4)) rfl (c_J7_newCapacity (by decide) v0 v1 h) ⟨_, _, _, q876⟩ rfl rfl q873 q875 q874 q905 rfl rfl (by simp [zcat_rf, zcat_i, zcat_l, zcat_f, zcat_d]) (zkI (fun x6 h7 => ?_)) zxo
    refine s_aload_n (pc := 27) 1 dJ7_ensureCapacityInternal_27 rfl rfl ?_
    refine s_gI (pc := 28) dJ7_ensureCapacityInternal_28 gf_J7_22 (fun x8 => ?_)
    refine s_ishl (pc := 31) dJ7_ensureCapacityInternal_31 ?_
    refine s_callSS (pc := 32) (np := 2) (as := [va_rf r5, .int (x6 <<< (x8 &&& 31))]) (rest := [va_rf v0]) dJ7_ensureCapacityInternal_32 (c_J31_copyOf (by decide) r5 (x6 <<< (x8 &&& 31)) h7) rfl rfl q888 q889 rfl (by simp [zcat_rf, zcat_i, zcat_l, zcat_f, zcat_d]) (zkR (fun r9 h10 => ?_)) zxo
    refine s_putA (pc := 35) dJ7_ensureCapacityInternal_35 pf_J7_15 (fun h11 => ?_)
    exact s_vret (pc := 38) dJ7_ensureCapacityInternal_38 rfl
theorem c_J7_ensureCapacityInternal {d0 : Nat} (hd0 : 4 < d0) (v0 : Option Nat) (v1 : Int32) (h : zH) : zCal D z d0 h yJ7_ensureCapacityInternal [va_rf v0, .int v1] (f_J7_ensureCapacityInternal v0 v1 h) :=
  ⟨cJ7_ensureCapacityInternal, 3, none, [], 4, (show lv_args 0 [va_rf v0, .int v1] = [(0, va_rf v0), (1, .int v1)] by simp [lv_args, zcat_rf, zcat_i, zcat_l, zcat_f, zcat_d]) ▸ w_J7_ensureCapacityInternal v0 v1 h, (plainFor_of_name (by decide)), by simp [lg_sl, zcat_rf, zcat_i, zcat_l, zcat_f, zcat_d], q872, q104, hd0, by decide, by decide⟩
theorem w_J33_inflate (v0 : Option Nat) (v1 : Int32) (v2 : Option Nat) (v3 : Int32) (v4 : Int32) (h : zH) : zS D z yJ33_inflate cJ33_inflate 5 none [] 1 h 0 [(0, va_rf v0), (1, .int v1), (2, va_rf v2), (3, .int v3), (4, .int v4)] [] (f_J33_inflate v0 v1 v2 v3 v4 h) := by
  unfold f_J33_inflate
  refine s_aload_n (pc := 0) 0 dJ33_inflate_0 rfl rfl ?_
  refine s_iload_n (pc := 1) 1 dJ33_inflate_1 rfl rfl ?_
  refine s_aload_n (pc := 2) 2 dJ33_inflate_2 rfl rfl ?_
  refine s_iload_n (pc := 3) 3 dJ33_inflate_3 rfl rfl ?_
  refine s_iload (pc := 4) 4 dJ33_inflate_4 rfl ?_
  exact zS_none
theorem c_J33_inflate {d0 : Nat} (hd0 : 1 < d0) (v0 : Option Nat) (v1 : Int32) (v2 : Option Nat) (v3 : Int32) (v4 : Int32) (h : zH) : zCal D z d0 h yJ33_inflate [va_rf v0, .int v1, va_rf v2, .int v3, .int v4] (f_J33_inflate v0 v1 v2 v3 v4 h) :=
  ⟨cJ33_inflate, 5, none, [], 1, (show lv_args 0 [va_rf v0, .int v1, va_rf v2, .int v3, .int v4] = [(0, va_rf v0), (1, .int v1), (2, va_rf v2), (3, .int v3), (4, .int v4)] by simp [lv_args, zcat_rf, zcat_i, zcat_l, zcat_f, zcat_d]) ▸ w_J33_inflate v0 v1 v2 v3 v4 h, (plainFor_of_name (by decide)), by simp [lg_sl, zcat_rf, zcat_i, zcat_l, zcat_f, zcat_d], q957, q132, hd0, by decide, by decide⟩
theorem w_J9_getBytes (v0 : Option Nat) (v1 : Option Nat) (v2 : Int32) (v3 : Int32) (h : zH) : zS D z yJ9_getBytes cJ9_getBytes 4 none [] 2 h 0 [(0, va_rf v0), (1, va_rf v1), (2, .int v2), (3, .int v3)] [] (f_J9_getBytes v0 v1 v2 v3 h) := by
  unfold f_J9_getBytes
  refine s_aload_n (pc := 0) 0 dJ9_getBytes_0 rfl rfl ?_
  refine zS_ite (fun ht => ?_) (fun _ => zS_none)
  refine s_callV (pc := 1) (np := 0) (as := []) (rest := []) dJ9_getBytes_1 ht (q := (RJ9, TJ9, 4)) rfl (c_J9_coder (by decide) v0 h) rfl rfl q937 q938 q939 rfl (by decide) (zkI (fun x1 h2 => ?_)) zxo
  refine s_iload_n (pc := 4) 3 dJ9_getBytes_4 rfl rfl ?_
  refine s_icmp_ne (pc := 5) (tgt := 28) dJ9_getBytes_5 (by decide) (fun _ => ?_) (fun _ => ?_)
  · refine s_aload_n (pc := 28) 0 dJ9_getBytes_28 rfl rfl ?_
    refine s_gR (pc := 29) dJ9_getBytes_29 gf_J9_9 (fun r3 => ?_)
    refine s_iconst (pc := 32) (v := 0) dJ9_getBytes_32 (by decide) ?_
    refine s_aload_n (pc := 33) 1 dJ9_getBytes_33 rfl rfl ?_
    refine s_iload_n (pc := 34) 2 dJ9_getBytes_34 rfl rfl ?_
    refine s_aload_n (pc := 35) 0 dJ9_getBytes_35 rfl rfl ?_
    refine s_gR (pc := 36) dJ9_getBytes_36 gf_J9_9 (fun r4 => ?_)
    refine s_alen (pc := 39) dJ9_getBytes_39 zarrs_ok (fun x5 => ?_)
    refine s_callSS (pc := 40) (np := 5) (as := [va_rf r3, .int 0, va_rf v1, .int v2, .int x5]) (rest := []) dJ9_getBytes_40 (c_J33_inflate (by decide) r3 0 v1 v2 x5 h2) rfl rfl q975 q956 rfl (by decide) (zkV (fun h6 => ?_)) zxo
    exact s_vret (pc := 43) dJ9_getBytes_43 rfl
  · refine s_aload_n (pc := 8) 0 dJ9_getBytes_8 rfl rfl ?_
    refine s_gR (pc := 9) dJ9_getBytes_9 gf_J9_9 (fun r7 => ?_)
    refine s_iconst (pc := 12) (v := 0) dJ9_getBytes_12 (by decide) ?_
    refine s_aload_n (pc := 13) 1 dJ9_getBytes_13 rfl rfl ?_
    refine s_iload_n (pc := 14) 2 dJ9_getBytes_14 rfl rfl ?_
    refine s_iload_n (pc := 15) 3 dJ9_getBytes_15 rfl rfl ?_
    refine s_ishl (pc := 16) dJ9_getBytes_16 ?_
    refine s_aload_n (pc := 17) 0 dJ9_getBytes_17 rfl rfl ?_
    refine s_gR (pc := 18) dJ9_getBytes_18 gf_J9_9 (fun r8 => ?_)
    refine s_alen (pc := 21) dJ9_getBytes_21 zarrs_ok (fun x9 => ?_)
    refine s_acpB (pc := 22) dJ9_getBytes_22 q974 (by decide) (by decide) (fun h10 => ?_)
    refine s_goto (pc := 25) (tgt := 43) dJ9_getBytes_25 (by decide) ?_
    exact s_vret (pc := 43) dJ9_getBytes_43 rfl
theorem c_J9_getBytes {d0 : Nat} (hd0 : 2 < d0) (v0 : Option Nat) (v1 : Option Nat) (v2 : Int32) (v3 : Int32) (h : zH) : zCal D z d0 h yJ9_getBytes [va_rf v0, va_rf v1, .int v2, .int v3] (f_J9_getBytes v0 v1 v2 v3 h) :=
  ⟨cJ9_getBytes, 4, none, [], 2, (show lv_args 0 [va_rf v0, va_rf v1, .int v2, .int v3] = [(0, va_rf v0), (1, va_rf v1), (2, .int v2), (3, .int v3)] by simp [lv_args, zcat_rf, zcat_i, zcat_l, zcat_f, zcat_d]) ▸ w_J9_getBytes v0 v1 v2 v3 h, (plainFor_of_name (by decide)), by simp [lg_sl, zcat_rf, zcat_i, zcat_l, zcat_f, zcat_d], q973, q106, hd0, by decide, by decide⟩
theorem w_J7_putStringAt (v0 : Option Nat) (v1 : Int32) (v2 : Option Nat) (h : zH) : zS D z yJ7_putStringAt cJ7_putStringAt 3 none [] 1 h 0 [(0, va_rf v0), (1, .int v1), (2, va_rf v2)] [] (f_J7_putStringAt v0 v1 v2 h) := by
  unfold f_J7_putStringAt
  refine s_aload_n (pc := 0) 0 dJ7_putStringAt_0 rfl rfl ?_
  refine s_aload_n (pc := 1) 2 dJ7_putStringAt_1 rfl rfl ?_
  exact zS_none
theorem c_J7_putStringAt {d0 : Nat} (hd0 : 1 < d0) (v0 : Option Nat) (v1 : Int32) (v2 : Option Nat) (h : zH) : zCal D z d0 h yJ7_putStringAt [va_rf v0, .int v1, va_rf v2] (f_J7_putStringAt v0 v1 v2 h) :=
  ⟨cJ7_putStringAt, 3, none, [], 1, (show lv_args 0 [va_rf v0, .int v1, va_rf v2] = [(0, va_rf v0), (1, .int v1), (2, va_rf v2)] by simp [lv_args, zcat_rf, zcat_i, zcat_l, zcat_f, zcat_d]) ▸ w_J7_putStringAt v0 v1 v2 h, (plainFor_of_name (by decide)), by simp [lg_sl, zcat_rf, zcat_i, zcat_l, zcat_f, zcat_d], q945, q104, hd0, by decide, by decide⟩
theorem w_J7_append (v0 : Option Nat) (v1 : Option Nat) (h : zH) : zS D z yJ7_append cJ7_append 3 (some (.object "java/lang/AbstractStringBuilder")) [] 5 h 0 [(0, va_rf v0), (1, va_rf v1)] [] (f_J7_append v0 v1 h) := by
  unfold f_J7_append
  refine s_aload_n (pc := 0) 1 dJ7_append_0 rfl rfl ?_
  refine s_ifnonnull (pc := 1) (tgt := 9) dJ7_append_1 (by decide) (fun _ => ?_) (fun _ => ?_)
  · refine s_aload_n (pc := 9) 1 dJ7_append_9 rfl rfl ?_
    refine zS_ite (fun ht => ?_) (fun _ => zS_none)
    refine s_callV (pc := 10) (np := 0) (as := []) (rest := []) dJ7_append_10 ht (q := (RJ9, TJ9, 4)) rfl (c_J9_length (by decide) v1 h) rfl rfl q933 q934 q935 rfl (by decide) (zkI (fun x1 h2 => ?_)) zxo
    refine s_ist_n (pc := 13) (L2 := [(0, va_rf v0), (1, va_rf v1)]) [0, 1] dJ7_append_13 rfl (by decide) rfl rfl (zcB (j := 1) rfl (zcat_rf v1) rfl) ?_
    refine s_aload_n (pc := 14) 1 dJ7_append_14 rfl rfl ?_
    refine s_aload_n (pc := 15) 1 dJ7_append_15 rfl rfl ?_
    refine s_gI (pc := 16) dJ7_append_16 gf_J7_79 (fun x3 => ?_)
    refine s_iload_n (pc := 19) 0 dJ7_append_19 rfl rfl ?_
    refine s_iadd (pc := 20) dJ7_append_20 ?_
    refine zS_ite (fun ht => ?_) (fun _ => zS_none)
    refine s_callVP (pc := 21) (np := 1) (as := [.int (x3 + x1)]) (rest := []) dJ7_append_21 ht (q := (RJ8, TJ8, 4)) rfl (c_J7_ensureCapacityInternal (by decide) v0 (x3 + x1) h2) ⟨_, _, _, q872⟩ rfl rfl q869 q871 q870 q905 rfl rfl (by decide) (zkV (fun h4 => ?_)) zxo
    refine s_aload_n (pc := 24) 1 dJ7_append_24 rfl rfl ?_
    refine s_aload_n (pc := 25) 1 dJ7_append_25 rfl rfl ?_
    refine s_gI (pc := 26) dJ7_append_26 gf_J7_79 (fun x5 => ?_)
    refine s_aload_n (pc := 29) 2 dJ7_append_29 rfl rfl ?_
    refine zS_ite (fun ht => ?_) (fun _ => zS_none)
    refine s_callVP (pc := 30) (np := 2) (as := [.int x5, va_rf v1]) (rest := []) dJ7_append_30 ht (q := (RJ8, TJ8, 4)) rfl (c_J7_putStringAt (by decide) v0 x5 v1 h4) ⟨_, _, _, q945⟩ rfl rfl q942 q944 q943 q905 rfl rfl (by decide) (zkV (fun h6 => ?_)) zxo
    refine s_aload_n (pc := 33) 1 dJ7_append_33 rfl rfl ?_
    refine s_dup (pc := 34) dJ7_append_34 (zcat_rf _) ?_
    refine s_gI (pc := 35) dJ7_append_35 gf_J7_79 (fun x7 => ?_)
    refine s_iload_n (pc := 38) 0 dJ7_append_38 rfl rfl ?_
    refine s_iadd (pc := 39) dJ7_append_39 ?_
    refine s_putI (pc := 40) dJ7_append_40 pf_J7_79 (fun h8 => ?_)
    refine s_aload_n (pc := 43) 1 dJ7_append_43 rfl rfl ?_
    exact s_aret (pc := 44) dJ7_append_44 rfl (Or.inl ⟨_, rfl⟩)
  · refine s_aload_n (pc := 4) 0 dJ7_append_4 rfl rfl ?_
    exact zS_none
theorem c_J7_append {d0 : Nat} (hd0 : 5 < d0) (v0 : Option Nat) (v1 : Option Nat) (h : zH) : zCal D z d0 h yJ7_append [va_rf v0, va_rf v1] (f_J7_append v0 v1 h) :=
  ⟨cJ7_append, 3, (some (.object "java/lang/AbstractStringBuilder")), [], 5, (show lv_args 0 [va_rf v0, va_rf v1] = [(0, va_rf v0), (1, va_rf v1)] by simp [lv_args, zcat_rf, zcat_i, zcat_l, zcat_f, zcat_d]) ▸ w_J7_append v0 v1 h, (plainFor_of_name (by decide)), by simp [lg_sl, zcat_rf, zcat_i, zcat_l, zcat_f, zcat_d], q864, q104, hd0, by decide, by decide⟩
theorem w_J8_append (v0 : Option Nat) (v1 : Option Nat) (h : zH) : zS D z yJ8_append cJ8_append 2 (some (.object "java/lang/StringBuilder")) [] 6 h 0 [(0, va_rf v0), (1, va_rf v1)] [] (f_J8_append v0 v1 h) := by
  unfold f_J8_append
  refine s_aload_n (pc := 0) 0 dJ8_append_0 rfl rfl ?_
  refine s_aload_n (pc := 1) 1 dJ8_append_1 rfl rfl ?_
  refine zS_ite (fun ht => ?_) (fun _ => zS_none)
  refine s_callSU (pc := 2) (np := 1) (as := [va_rf v1]) (rest := []) dJ8_append_2 ht (q := (RJ8, TJ8, 4)) rfl (c_J7_append (by decide) v0 v1 h) ⟨_, _, _, q864⟩ (by decide) rfl rfl q862 q3754 q355 q863 rfl (by decide) (zkR (fun r1 h2 => ?_)) zxo
  refine s_pop (pc := 5) dJ8_append_5 (zcat_rf _) ?_
  refine s_aload_n (pc := 6) 0 dJ8_append_6 rfl rfl ?_
  exact s_aret (pc := 7) dJ8_append_7 rfl (Or.inl ⟨_, rfl⟩)
theorem c_J8_append {d0 : Nat} (hd0 : 6 < d0) (v0 : Option Nat) (v1 : Option Nat) (h : zH) : zCal D z d0 h yJ8_append [va_rf v0, va_rf v1] (f_J8_append v0 v1 h) :=
  ⟨cJ8_append, 2, (some (.object "java/lang/StringBuilder")), [], 6, (show lv_args 0 [va_rf v0, va_rf v1] = [(0, va_rf v0), (1, va_rf v1)] by simp [lv_args, zcat_rf, zcat_i, zcat_l, zcat_f, zcat_d]) ▸ w_J8_append v0 v1 h, (plainFor_of_name (by decide)), by simp [lg_sl, zcat_rf, zcat_i, zcat_l, zcat_f, zcat_d], q861, q105, hd0, by decide, by decide⟩
theorem w_J24_stringSize_16 : ∀ (n : Nat) (a0 : Int32) (a1 : Int32) (a2 : Int32) (a3 : Int32) (h : zH), zS D z yJ24_stringSize cJ24_stringSize 4 (some .int) [] 1 h 16 [(0, .int a0), (1, .int a1), (2, .int a2), (3, .int a3)] [] (f_J24_stringSize_16 n a0 a1 a2 a3 h) := by
  intro n
  induction n with
  | zero => intros; exact zS_none
  | succ n ih =>
    intro a0 a1 a2 a3 h
    rw [f_J24_stringSize_16.eq_2]
    refine s_iload_n (pc := 16) 3 dJ24_stringSize_16 rfl rfl ?_
    refine s_bipush (pc := 17) (v := 10) dJ24_stringSize_17 (by decide) ?_
    refine s_icmp_ge (pc := 19) (tgt := 42) dJ24_stringSize_19 (by decide) (fun _ => ?_) (fun _ => ?_)
    · refine s_bipush (pc := 42) (v := 10) dJ24_stringSize_42 (by decide) ?_
      refine s_iload_n (pc := 44) 1 dJ24_stringSize_44 rfl rfl ?_
      refine s_iadd (pc := 45) dJ24_stringSize_45 ?_
      exact s_iret (pc := 46) dJ24_stringSize_46 rfl
    · refine s_iload_n (pc := 22) 0 dJ24_stringSize_22 rfl rfl ?_
      refine s_iload_n (pc := 23) 2 dJ24_stringSize_23 rfl rfl ?_
      refine s_icmp_le (pc := 24) (tgt := 31) dJ24_stringSize_24 (by decide) (fun _ => ?_) (fun _ => ?_)
      · refine s_bipush (pc := 31) (v := 10) dJ24_stringSize_31 (by decide) ?_
        refine s_iload_n (pc := 33) 2 dJ24_stringSize_33 rfl rfl ?_
        refine s_imul (pc := 34) dJ24_stringSize_34 ?_
        refine s_nm (pc := 35) Value.int (fun x2 => ?_)
        refine s_ist_n (pc := 35) (L2 := [(0, .int a0), (1, .int a1), (3, .int a3)]) [0, 1, 3] dJ24_stringSize_35 rfl (by decide) rfl rfl (zcB (j := 1) rfl rfl rfl) ?_
        refine s_inc (pc := 36) (v := 1) (L2 := [(2, .int x2), (0, .int a0), (1, .int a1)]) 3 [0, 1, 2] dJ24_stringSize_36 rfl (by decide) (by decide) rfl rfl (zcB (j := 0) rfl rfl rfl) (fun x3 => ?_)
        refine s_goto (pc := 39) (tgt := 16) dJ24_stringSize_39 (by decide) ?_
        exact s_sub (pc := 16) [2, 3, 1, 0] rfl (ih a0 a1 x2 x3 h)
      · refine s_iload_n (pc := 27) 3 dJ24_stringSize_27 rfl rfl ?_
        refine s_iload_n (pc := 28) 1 dJ24_stringSize_28 rfl rfl ?_
        refine s_iadd (pc := 29) dJ24_stringSize_29 ?_
        exact s_iret (pc := 30) dJ24_stringSize_30 rfl
theorem w_J24_stringSize_11 (a0 : Int32) (a1 : Int32) (h : zH) : zS D z yJ24_stringSize cJ24_stringSize 4 (some .int) [] 1 h 11 [(0, .int a0), (1, .int a1)] [] (f_J24_stringSize_11 a0 a1 h) := by
  unfold f_J24_stringSize_11
  refine s_bipush (pc := 11) (v := -10) dJ24_stringSize_11 (by decide) ?_
  refine s_ist_n (pc := 13) (L2 := [(0, .int a0), (1, .int a1)]) [0, 1] dJ24_stringSize_13 rfl (by decide) rfl rfl (zcB (j := 1) rfl rfl rfl) ?_
  refine s_iconst (pc := 14) (v := 1) dJ24_stringSize_14 (by decide) ?_
  refine s_ist_n (pc := 15) (L2 := [(2, .int (-10)), (0, .int a0), (1, .int a1)]) [0, 1, 2] dJ24_stringSize_15 rfl (by decide) rfl rfl (zcB (j := 0) rfl rfl rfl) ?_
  exact s_sub (pc := 16) [2, 3, 1, 0] rfl (w_J24_stringSize_16 zfuel a0 a1 (-10) 1 h)
theorem w_J24_stringSize (v0 : Int32) (h : zH) : zS D z yJ24_stringSize cJ24_stringSize 4 (some .int) [] 1 h 0 [(0, .int v0)] [] (f_J24_stringSize v0 h) := by
  unfold f_J24_stringSize
  refine s_iconst (pc := 0) (v := 1) dJ24_stringSize_0 (by decide) ?_
  refine s_ist_n (pc := 1) (L2 := [(0, .int v0)]) [0] dJ24_stringSize_1 rfl (by decide) rfl rfl (zcB (j := 0) rfl rfl rfl) ?_
  refine s_iload_n (pc := 2) 1 dJ24_stringSize_2 rfl rfl ?_
  refine s_if_lt (pc := 3) (tgt := 11) dJ24_stringSize_3 (by decide) (fun _ => ?_) (fun _ => ?_)
  · exact s_sub (pc := 11) [1, 0] rfl (w_J24_stringSize_11 v0 1 h)
  · refine s_iconst (pc := 6) (v := 0) dJ24_stringSize_6 (by decide) ?_
    refine s_ist_n (pc := 7) (L2 := [(0, .int v0)]) [1] dJ24_stringSize_7 rfl (by decide) rfl rfl (zcB (j := 0) rfl rfl rfl) ?_
    refine s_iload_n (pc := 8) 1 dJ24_stringSize_8 rfl rfl ?_
    refine s_ineg (pc := 9) dJ24_stringSize_9 ?_
    refine s_nm (pc := 10) Value.int (fun x1 => ?_)
    refine s_ist_n (pc := 10) (L2 := [(1, .int 0)]) [0] dJ24_stringSize_10 rfl (by decide) rfl rfl (zcA rfl) ?_
    exact s_sub (pc := 11) [0, 1] rfl (w_J24_stringSize_11 x1 0 h)
theorem c_J24_stringSize {d0 : Nat} (hd0 : 1 < d0) (v0 : Int32) (h : zH) : zCal D z d0 h yJ24_stringSize [.int v0] (f_J24_stringSize v0 h) :=
  ⟨cJ24_stringSize, 4, (some .int), [], 1, (show lv_args 0 [.int v0] = [(0, .int v0)] by simp [lv_args, zcat_rf, zcat_i, zcat_l, zcat_f, zcat_d]) ▸ w_J24_stringSize v0 h, (plainFor_of_name (by decide)), by simp [lg_sl, zcat_rf, zcat_i, zcat_l, zcat_f, zcat_d], q985, q121, hd0, by decide, by decide⟩
theorem w_J7_isLatin1 (v0 : Option Nat) (h : zH) : zS D z yJ7_isLatin1 cJ7_isLatin1 1 (some .boolean) [] 1 h 0 [(0, va_rf v0)] [] (f_J7_isLatin1 v0 h) := by
  unfold f_J7_isLatin1
  refine s_getsI (pc := 0) (n := "COMPACT_STRINGS") (v := 1) dJ7_isLatin1_0 (List.mem_of_getElem? (i := 7) rfl) q333 ?_
  refine s_if_eq (pc := 3) (tgt := 17) dJ7_isLatin1_3 (by decide) (fun _ => ?_) (fun _ => ?_)
  · refine s_iconst (pc := 17) (v := 0) dJ7_isLatin1_17 (by decide) ?_
    exact s_nret (pc := 18) dJ7_isLatin1_18 rfl
  · refine s_aload_n (pc := 6) 0 dJ7_isLatin1_6 rfl rfl ?_
    refine s_gI (pc := 7) dJ7_isLatin1_7 gf_J7_22 (fun x1 => ?_)
    refine s_if_ne (pc := 10) (tgt := 17) dJ7_isLatin1_10 (by decide) (fun _ => ?_) (fun _ => ?_)
    · refine s_iconst (pc := 17) (v := 0) dJ7_isLatin1_17 (by decide) ?_
      exact s_nret (pc := 18) dJ7_isLatin1_18 rfl
    · refine s_iconst (pc := 13) (v := 1) dJ7_isLatin1_13 (by decide) ?_
      refine s_goto (pc := 14) (tgt := 18) dJ7_isLatin1_14 (by decide) ?_
      exact s_nret (pc := 18) dJ7_isLatin1_18 rfl
theorem c_J7_isLatin1 {d0 : Nat} (hd0 : 1 < d0) (v0 : Option Nat) (h : zH) : zCal D z d0 h yJ7_isLatin1 [va_rf v0] (f_J7_isLatin1 v0 h) :=
  ⟨cJ7_isLatin1, 1, (some .boolean), [], 1, (show lv_args 0 [va_rf v0] = [(0, va_rf v0)] by simp [lv_args, zcat_rf, zcat_i, zcat_l, zcat_f, zcat_d]) ▸ w_J7_isLatin1 v0 h, (plainFor_of_name (by decide)), by simp [lg_sl, zcat_rf, zcat_i, zcat_l, zcat_f, zcat_d], q906, q104, hd0, by decide, by decide⟩
theorem w_J24_getChars_104 (a2 : Option Nat) (a5 : Int32) (a6 : Int32) (h : zH) : zS D z yJ24_getChars cJ24_getChars 7 (some .int) [] 1 h 104 [(2, va_rf a2), (5, .int a5), (6, .int a6)] [] (f_J24_getChars_104 a2 a5 a6 h) := by
  unfold f_J24_getChars_104
  refine s_iload (pc := 104) 2 dJ24_getChars_104 rfl ?_
  refine s_if_eq (pc := 106) (tgt := 118) dJ24_getChars_106 (by decide) (fun _ => ?_) (fun _ => ?_)
  · refine s_iload (pc := 118) 1 dJ24_getChars_118 rfl ?_
    exact s_iret (pc := 120) dJ24_getChars_120 rfl
  · refine s_aload_n (pc := 109) 0 dJ24_getChars_109 rfl rfl ?_
    refine s_inc (pc := 110) (v := -1) (L2 := []) 1 [] dJ24_getChars_110 rfl (by decide) (by decide) rfl rfl (zcA rfl) (fun x16 => ?_)
    refine s_iload (pc := 113) 0 dJ24_getChars_113 rfl ?_
    refine s_bipush (pc := 115) (v := 45) dJ24_getChars_115 (by decide) ?_
    refine s_bast (pc := 117) dJ24_getChars_117 (ztc rfl zt0) (fun h17 => ?_)
    refine s_iload (pc := 118) 0 dJ24_getChars_118 rfl ?_
    exact s_iret (pc := 120) dJ24_getChars_120 rfl
theorem w_J24_getChars_72 (a0 : Int32) (a2 : Option Nat) (a5 : Int32) (a6 : Int32) (h : zH) : zS D z yJ24_getChars cJ24_getChars 7 (some .int) [] 1 h 72 [(0, .int a0), (2, va_rf a2), (5, .int a5), (6, .int a6)] [] (f_J24_getChars_72 a0 a2 a5 a6 h) := by
  unfold f_J24_getChars_72
  refine s_aload_n (pc := 72) 1 dJ24_getChars_72 rfl rfl ?_
  refine s_inc (pc := 73) (v := -1) (L2 := [(0, .int a0), (2, va_rf a2), (6, .int a6)]) 2 [0, 1, 3] dJ24_getChars_73 rfl (by decide) (by decide) rfl rfl (zcA rfl) (fun x10 => ?_)
  refine s_iload (pc := 76) 0 dJ24_getChars_76 rfl ?_
  refine s_getsR (pc := 78) (n := "DigitOnes") (i := 1) dJ24_getChars_78 (List.mem_of_getElem? (i := 2) rfl) q989 ?_
  refine s_iload_n (pc := 81) 1 dJ24_getChars_81 rfl rfl ?_
  refine s_ineg (pc := 82) dJ24_getChars_82 ?_
  refine s_bald (pc := 83) dJ24_getChars_83 (ztc rfl zt0) (fun x11 => ?_)
  refine s_bast (pc := 84) dJ24_getChars_84 (ztc rfl zt0) (fun h12 => ?_)
  refine s_iload_n (pc := 85) 1 dJ24_getChars_85 rfl rfl ?_
  refine s_bipush (pc := 86) (v := -9) dJ24_getChars_86 (by decide) ?_
  refine s_icmp_ge (pc := 88) (tgt := 104) dJ24_getChars_88 (by decide) (fun _ => ?_) (fun _ => ?_)
  · exact s_sub (pc := 104) [2, 0, 3] rfl (w_J24_getChars_104 a2 x10 a6 h12)
  · refine s_aload_n (pc := 91) 2 dJ24_getChars_91 rfl rfl ?_
    refine s_inc (pc := 92) (v := -1) (L2 := [(0, .int a0), (2, va_rf a2), (6, .int a6)]) 0 [1, 2, 3] dJ24_getChars_92 rfl (by decide) (by decide) rfl rfl (zcA rfl) (fun x13 => ?_)
    refine s_iload (pc := 95) 0 dJ24_getChars_95 rfl ?_
    refine s_getsR (pc := 97) (n := "DigitTens") (i := 2) dJ24_getChars_97 (List.mem_of_getElem? (i := 3) rfl) q991 ?_
    refine s_iload_n (pc := 100) 1 dJ24_getChars_100 rfl rfl ?_
    refine s_ineg (pc := 101) dJ24_getChars_101 ?_
    refine s_bald (pc := 102) dJ24_getChars_102 (ztc rfl zt0) (fun x14 => ?_)
    refine s_bast (pc := 103) dJ24_getChars_103 (ztc rfl zt0) (fun h15 => ?_)
    exact s_sub (pc := 104) [2, 0, 3] rfl (w_J24_getChars_104 a2 x13 a6 h15)
theorem w_J24_getChars_22 : ∀ (n : Nat) (a0 : Int32) (a2 : Option Nat) (a5 : Int32) (a6 : Int32) (h : zH), zS D z yJ24_getChars cJ24_getChars 7 (some .int) [] 1 h 22 [(0, .int a0), (2, va_rf a2), (5, .int a5), (6, .int a6)] [] (f_J24_getChars_22 n a0 a2 a5 a6 h) := by
  intro n
  induction n with
  | zero => intros; exact zS_none
  | succ n ih =>
    intro a0 a2 a5 a6 h
    rw [f_J24_getChars_22.eq_2]
    refine s_iload_n (pc := 22) 0 dJ24_getChars_22 rfl rfl ?_
    refine s_bipush (pc := 23) (v := -100) dJ24_getChars_23 (by decide) ?_
    refine s_icmp_gt (pc := 25) (tgt := 72) dJ24_getChars_25 (by decide) (fun _ => ?_) (fun _ => ?_)
    · exact s_sub (pc := 72) [0, 1, 2, 3] rfl (w_J24_getChars_72 a0 a2 a5 a6 h)
    · refine s_iload_n (pc := 28) 0 dJ24_getChars_28 rfl rfl ?_
      refine s_bipush (pc := 29) (v := 100) dJ24_getChars_29 (by decide) ?_
      refine s_idiv (pc := 31) dJ24_getChars_31 (fun _ => ?_)
      refine s_nm (pc := 32) Value.int (fun x2 => ?_)
      refine s_ist_n (pc := 32) (L2 := [(0, .int a0), (2, va_rf a2), (5, .int a5), (6, .int a6)]) [0, 1, 2, 3] dJ24_getChars_32 rfl (by decide) rfl rfl (zcB (j := 1) rfl (zcat_rf a2) rfl) ?_
      refine s_iload_n (pc := 33) 0 dJ24_getChars_33 rfl rfl ?_
      refine s_bipush (pc := 34) (v := 100) dJ24_getChars_34 (by decide) ?_
      refine s_imul (pc := 36) dJ24_getChars_36 ?_
      refine s_iload_n (pc := 37) 1 dJ24_getChars_37 rfl rfl ?_
      refine s_isub (pc := 38) dJ24_getChars_38 ?_
      refine s_nm (pc := 39) Value.int (fun x3 => ?_)
      refine s_ist (pc := 39) (L2 := [(3, .int x2), (2, va_rf a2), (5, .int a5), (6, .int a6)]) [0, 2, 3, 4] dJ24_getChars_39 (by decide) rfl rfl (zcB (j := 0) rfl rfl rfl) ?_
      refine s_iload_n (pc := 41) 1 dJ24_getChars_41 rfl rfl ?_
      refine s_ist_n (pc := 42) (L2 := [(4, .int x3), (2, va_rf a2), (5, .int a5), (6, .int a6)]) [0, 2, 3, 4] dJ24_getChars_42 rfl (by decide) rfl rfl (zcA rfl) ?_
      refine s_aload_n (pc := 43) 2 dJ24_getChars_43 rfl rfl ?_
      refine s_inc (pc := 44) (v := -1) (L2 := [(0, .int x2), (4, .int x3), (2, va_rf a2), (6, .int a6)]) 3 [0, 1, 2, 4] dJ24_getChars_44 rfl (by decide) (by decide) rfl rfl (zcB (j := 1) rfl rfl rfl) (fun x4 => ?_)
      refine s_iload (pc := 47) 0 dJ24_getChars_47 rfl ?_
      refine s_getsR (pc := 49) (n := "DigitOnes") (i := 1) dJ24_getChars_49 (List.mem_of_getElem? (i := 2) rfl) q989 ?_
      refine s_iload (pc := 52) 2 dJ24_getChars_52 rfl ?_
      refine s_bald (pc := 54) dJ24_getChars_54 (ztc rfl zt0) (fun x5 => ?_)
      refine s_bast (pc := 55) dJ24_getChars_55 (ztc rfl zt0) (fun h6 => ?_)
      refine s_aload_n (pc := 56) 3 dJ24_getChars_56 rfl rfl ?_
      refine s_inc (pc := 57) (v := -1) (L2 := [(0, .int x2), (4, .int x3), (2, va_rf a2), (6, .int a6)]) 0 [1, 2, 3, 4] dJ24_getChars_57 rfl (by decide) (by decide) rfl rfl (zcB (j := 1) rfl rfl rfl) (fun x7 => ?_)
      refine s_iload (pc := 60) 0 dJ24_getChars_60 rfl ?_
      refine s_getsR (pc := 62) (n := "DigitTens") (i := 2) dJ24_getChars_62 (List.mem_of_getElem? (i := 3) rfl) q991 ?_
      refine s_iload (pc := 65) 2 dJ24_getChars_65 rfl ?_
      refine s_bald (pc := 67) dJ24_getChars_67 (ztc rfl zt0) (fun x8 => ?_)
      refine s_bast (pc := 68) dJ24_getChars_68 (ztc rfl zt0) (fun h9 => ?_)
      refine s_goto (pc := 69) (tgt := 22) dJ24_getChars_69 (by decide) ?_
      exact s_sub (pc := 22) [1, 3, 0, 4] rfl (ih x2 a2 x7 a6 h9)
theorem w_J24_getChars_12 (a0 : Int32) (a2 : Option Nat) (a5 : Int32) (s0 : Int32) (h : zH) : zS D z yJ24_getChars cJ24_getChars 7 (some .int) [] 1 h 12 [(0, .int a0), (2, va_rf a2), (5, .int a5)] [.int s0] (f_J24_getChars_12 a0 a2 a5 s0 h) := by
  unfold f_J24_getChars_12
  refine s_ist (pc := 12) (L2 := [(0, .int a0), (2, va_rf a2), (5, .int a5)]) [0, 1, 2] dJ24_getChars_12 (by decide) rfl rfl (zcB (j := 2) rfl rfl rfl) ?_
  refine s_iload (pc := 14) 0 dJ24_getChars_14 rfl ?_
  refine s_if_ne (pc := 16) (tgt := 22) dJ24_getChars_16 (by decide) (fun _ => ?_) (fun _ => ?_)
  · exact s_sub (pc := 22) [1, 2, 3, 0] rfl (w_J24_getChars_22 zfuel a0 a2 a5 s0 h)
  · refine s_iload_n (pc := 19) 1 dJ24_getChars_19 rfl rfl ?_
    refine s_ineg (pc := 20) dJ24_getChars_20 ?_
    refine s_nm (pc := 21) Value.int (fun x1 => ?_)
    refine s_ist_n (pc := 21) (L2 := [(6, .int s0), (2, va_rf a2), (5, .int a5)]) [0, 2, 3] dJ24_getChars_21 rfl (by decide) rfl rfl (zcA rfl) ?_
    exact s_sub (pc := 22) [0, 2, 3, 1] rfl (w_J24_getChars_22 zfuel x1 a2 a5 s0 h)
theorem w_J24_getChars (v0 : Int32) (v1 : Int32) (v2 : Option Nat) (h : zH) : zS D z yJ24_getChars cJ24_getChars 7 (some .int) [] 1 h 0 [(0, .int v0), (1, .int v1), (2, va_rf v2)] [] (f_J24_getChars v0 v1 v2 h) := by
  unfold f_J24_getChars
  refine s_iload_n (pc := 0) 1 dJ24_getChars_0 rfl rfl ?_
  refine s_ist (pc := 1) (L2 := [(0, .int v0), (2, va_rf v2)]) [0, 2] dJ24_getChars_1 (by decide) rfl rfl (zcA rfl) ?_
  refine s_iload_n (pc := 3) 1 dJ24_getChars_3 rfl rfl ?_
  refine s_if_ge (pc := 4) (tgt := 11) dJ24_getChars_4 (by decide) (fun _ => ?_) (fun _ => ?_)
  · refine s_iconst (pc := 11) (v := 0) dJ24_getChars_11 (by decide) ?_
    exact s_sub (pc := 12) [1, 2, 0] rfl (w_J24_getChars_12 v0 v2 v1 0 h)
  · refine s_iconst (pc := 7) (v := 1) dJ24_getChars_7 (by decide) ?_
    refine s_goto (pc := 8) (tgt := 12) dJ24_getChars_8 (by decide) ?_
    exact s_sub (pc := 12) [1, 2, 0] rfl (w_J24_getChars_12 v0 v2 v1 1 h)
theorem c_J24_getChars {d0 : Nat} (hd0 : 1 < d0) (v0 : Int32) (v1 : Int32) (v2 : Option Nat) (h : zH) : zCal D z d0 h yJ24_getChars [.int v0, .int v1, va_rf v2] (f_J24_getChars v0 v1 v2 h) :=
  ⟨cJ24_getChars, 7, (some .int), [], 1, (show lv_args 0 [.int v0, .int v1, va_rf v2] = [(0, .int v0), (1, .int v1), (2, va_rf v2)] by simp [lv_args, zcat_rf, zcat_i, zcat_l, zcat_f, zcat_d]) ▸ w_J24_getChars v0 v1 v2 h, (plainFor_of_name (by decide)), by simp [lg_sl, zcat_rf, zcat_i, zcat_l, zcat_f, zcat_d], q988, q121, hd0, by decide, by decide⟩
theorem w_J7_append_2_48 (a0 : Option Nat) (a3 : Int32) (h : zH) : zS D z yJ7_append_2 cJ7_append_2 4 (some (.object "java/lang/AbstractStringBuilder")) [] 5 h 48 [(0, va_rf a0), (3, .int a3)] [] (f_J7_append_2_48 a0 a3 h) := by
  unfold f_J7_append_2_48
  refine s_aload_n (pc := 48) 0 dJ7_append_2_48 rfl rfl ?_
  refine s_iload_n (pc := 49) 1 dJ7_append_2_49 rfl rfl ?_
  refine s_putI (pc := 50) dJ7_append_2_50 pf_J7_79 (fun h14 => ?_)
  refine s_aload_n (pc := 53) 0 dJ7_append_2_53 rfl rfl ?_
  exact s_aret (pc := 54) dJ7_append_2_54 rfl (Or.inl ⟨_, rfl⟩)
theorem w_J7_append_2 (v0 : Option Nat) (v1 : Int32) (h : zH) : zS D z yJ7_append_2 cJ7_append_2 4 (some (.object "java/lang/AbstractStringBuilder")) [] 5 h 0 [(0, va_rf v0), (1, .int v1)] [] (f_J7_append_2 v0 v1 h) := by
  unfold f_J7_append_2
  refine s_aload_n (pc := 0) 0 dJ7_append_2_0 rfl rfl ?_
  refine s_gI (pc := 1) dJ7_append_2_1 gf_J7_79 (fun x1 => ?_)
  refine s_ist_n (pc := 4) (L2 := [(0, va_rf v0), (1, .int v1)]) [0, 1] dJ7_append_2_4 rfl (by decide) rfl rfl (zcB (j := 1) rfl rfl rfl) ?_
  refine s_iload_n (pc := 5) 0 dJ7_append_2_5 rfl rfl ?_
  refine s_iload_n (pc := 6) 2 dJ7_append_2_6 rfl rfl ?_
  refine s_callSS (pc := 7) (np := 1) (as := [.int v1]) (rest := [.int x1]) dJ7_append_2_7 (c_J24_stringSize (by decide) v1 h) rfl rfl q983 q984 rfl (by simp [zcat_rf, zcat_i, zcat_l, zcat_f, zcat_d]) (zkI (fun x2 h3 => ?_)) zxo
  refine s_iadd (pc := 10) dJ7_append_2_10 ?_
  refine s_nm (pc := 11) Value.int (fun x4 => ?_)
  refine s_ist_n (pc := 11) (L2 := [(2, .int x1), (0, va_rf v0), (1, .int v1)]) [0, 1, 2] dJ7_append_2_11 rfl (by decide) rfl rfl (zcB (j := 0) rfl rfl rfl) ?_
  refine s_aload_n (pc := 12) 2 dJ7_append_2_12 rfl rfl ?_
  refine s_iload_n (pc := 13) 0 dJ7_append_2_13 rfl rfl ?_
  refine zS_ite (fun ht => ?_) (fun _ => zS_none)
  refine s_callVP (pc := 14) (np := 1) (as := [.int x4]) (rest := []) dJ7_append_2_14 ht (q := (RJ8, TJ8, 4)) rfl (c_J7_ensureCapacityInternal (by decide) v0 x4 h3) ⟨_, _, _, q872⟩ rfl rfl q869 q871 q870 q905 rfl rfl (by decide) (zkV (fun h5 => ?_)) zxo
  refine s_aload_n (pc := 17) 2 dJ7_append_2_17 rfl rfl ?_
  refine zS_ite (fun ht => ?_) (fun _ => zS_none)
  refine s_callVU (pc := 18) (np := 0) (as := []) (rest := []) (owner := "java/lang/AbstractStringBuilder") dJ7_append_2_18 ht (q := (RJ8, TJ8, 4)) rfl (c_J7_isLatin1 (by decide) v0 h5) ⟨_, _, _, q906⟩ rfl rfl q902 q904 (Or.inl ⟨_, _, _, q903, q906⟩) (by decide) q903 q905 rfl (by decide) (zkI (fun x6 h7 => ?_)) zxo
  refine s_if_eq (pc := 21) (tgt := 37) dJ7_append_2_21 (by decide) (fun _ => ?_) (fun _ => ?_)
  · refine s_iload_n (pc := 37) 3 dJ7_append_2_37 rfl rfl ?_
    refine s_iload_n (pc := 38) 1 dJ7_append_2_38 rfl rfl ?_
    refine s_iload_n (pc := 39) 0 dJ7_append_2_39 rfl rfl ?_
    refine s_aload_n (pc := 40) 2 dJ7_append_2_40 rfl rfl ?_
    refine s_gR (pc := 41) dJ7_append_2_41 gf_J7_15 (fun r8 => ?_)
    exact zS_none
  · refine s_iload_n (pc := 24) 3 dJ7_append_2_24 rfl rfl ?_
    refine s_iload_n (pc := 25) 0 dJ7_append_2_25 rfl rfl ?_
    refine s_aload_n (pc := 26) 2 dJ7_append_2_26 rfl rfl ?_
    refine s_gR (pc := 27) dJ7_append_2_27 gf_J7_15 (fun r11 => ?_)
    refine s_callSS (pc := 30) (np := 3) (as := [.int v1, .int x4, va_rf r11]) (rest := []) dJ7_append_2_30 (c_J24_getChars (by decide) v1 x4 r11 h7) rfl rfl q986 q987 rfl (by decide) (zkI (fun x12 h13 => ?_)) zxo
    refine s_pop (pc := 33) dJ7_append_2_33 rfl ?_
    refine s_goto (pc := 34) (tgt := 48) dJ7_append_2_34 (by decide) ?_
    exact s_sub (pc := 48) [2, 0] rfl (w_J7_append_2_48 v0 x4 h13)
theorem c_J7_append_2 {d0 : Nat} (hd0 : 5 < d0) (v0 : Option Nat) (v1 : Int32) (h : zH) : zCal D z d0 h yJ7_append_2 [va_rf v0, .int v1] (f_J7_append_2 v0 v1 h) :=
  ⟨cJ7_append_2, 4, (some (.object "java/lang/AbstractStringBuilder")), [], 5, (show lv_args 0 [va_rf v0, .int v1] = [(0, va_rf v0), (1, .int v1)] by simp [lv_args, zcat_rf, zcat_i, zcat_l, zcat_f, zcat_d]) ▸ w_J7_append_2 v0 v1 h, (plainFor_of_name (by decide)), by simp [lg_sl, zcat_rf, zcat_i, zcat_l, zcat_f, zcat_d], q982, q104, hd0, by decide, by decide⟩
theorem w_J8_append_2 (v0 : Option Nat) (v1 : Int32) (h : zH) : zS D z yJ8_append_2 cJ8_append_2 2 (some (.object "java/lang/StringBuilder")) [] 6 h 0 [(0, va_rf v0), (1, .int v1)] [] (f_J8_append_2 v0 v1 h) := by
  unfold f_J8_append_2
  refine s_aload_n (pc := 0) 0 dJ8_append_2_0 rfl rfl ?_
  refine s_iload_n (pc := 1) 1 dJ8_append_2_1 rfl rfl ?_
  refine zS_ite (fun ht => ?_) (fun _ => zS_none)
  refine s_callSU (pc := 2) (np := 1) (as := [.int v1]) (rest := []) dJ8_append_2_2 ht (q := (RJ8, TJ8, 4)) rfl (c_J7_append_2 (by decide) v0 v1 h) ⟨_, _, _, q982⟩ (by decide) rfl rfl q980 q3761 q355 q981 rfl (by decide) (zkR (fun r1 h2 => ?_)) zxo
  refine s_pop (pc := 5) dJ8_append_2_5 (zcat_rf _) ?_
  refine s_aload_n (pc := 6) 0 dJ8_append_2_6 rfl rfl ?_
  exact s_aret (pc := 7) dJ8_append_2_7 rfl (Or.inl ⟨_, rfl⟩)
theorem c_J8_append_2 {d0 : Nat} (hd0 : 6 < d0) (v0 : Option Nat) (v1 : Int32) (h : zH) : zCal D z d0 h yJ8_append_2 [va_rf v0, .int v1] (f_J8_append_2 v0 v1 h) :=
  ⟨cJ8_append_2, 2, (some (.object "java/lang/StringBuilder")), [], 6, (show lv_args 0 [va_rf v0, .int v1] = [(0, va_rf v0), (1, .int v1)] by simp [lv_args, zcat_rf, zcat_i, zcat_l, zcat_f, zcat_d]) ▸ w_J8_append_2 v0 v1 h, (plainFor_of_name (by decide)), by simp [lg_sl, zcat_rf, zcat_i, zcat_l, zcat_f, zcat_d], q979, q105, hd0, by decide, by decide⟩
theorem w_J7_getValue (v0 : Option Nat) (h : zH) : zS D z yJ7_getValue cJ7_getValue 1 (some (.array (.byte))) [] 1 h 0 [(0, va_rf v0)] [] (f_J7_getValue v0 h) := by
  unfold f_J7_getValue
  refine s_aload_n (pc := 0) 0 dJ7_getValue_0 rfl rfl ?_
  refine s_gR (pc := 1) dJ7_getValue_1 gf_J7_15 (fun r1 => ?_)
  exact s_aret (pc := 4) dJ7_getValue_4 rfl (Or.inr ⟨_, rfl⟩)
theorem c_J7_getValue {d0 : Nat} (hd0 : 1 < d0) (v0 : Option Nat) (h : zH) : zCal D z d0 h yJ7_getValue [va_rf v0] (f_J7_getValue v0 h) :=
  ⟨cJ7_getValue, 1, (some (.array (.byte))), [], 1, (show lv_args 0 [va_rf v0] = [(0, va_rf v0)] by simp [lv_args, zcat_rf, zcat_i, zcat_l, zcat_f, zcat_d]) ▸ w_J7_getValue v0 h, (plainFor_of_name (by decide)), by simp [lg_sl, zcat_rf, zcat_i, zcat_l, zcat_f, zcat_d], q1018, q104, hd0, by decide, by decide⟩
theorem w_J7_length (v0 : Option Nat) (h : zH) : zS D z yJ7_length cJ7_length 1 (some .int) [] 1 h 0 [(0, va_rf v0)] [] (f_J7_length v0 h) := by
  unfold f_J7_length
  refine s_aload_n (pc := 0) 0 dJ7_length_0 rfl rfl ?_
  refine s_gI (pc := 1) dJ7_length_1 gf_J7_79 (fun x1 => ?_)
  exact s_iret (pc := 4) dJ7_length_4 rfl
theorem c_J7_length {d0 : Nat} (hd0 : 1 < d0) (v0 : Option Nat) (h : zH) : zCal D z d0 h yJ7_length [va_rf v0] (f_J7_length v0 h) :=
  ⟨cJ7_length, 1, (some .int), [], 1, (show lv_args 0 [va_rf v0] = [(0, va_rf v0)] by simp [lv_args, zcat_rf, zcat_i, zcat_l, zcat_f, zcat_d]) ▸ w_J7_length v0 h, (plainFor_of_name (by decide)), by simp [lg_sl, zcat_rf, zcat_i, zcat_l, zcat_f, zcat_d], q1026, q104, hd0, by decide, by decide⟩
theorem w_J8_length (v0 : Option Nat) (h : zH) : zS D z yJ8_length cJ8_length 1 (some .int) [] 2 h 0 [(0, va_rf v0)] [] (f_J8_length v0 h) := by
  unfold f_J8_length
  refine s_aload_n (pc := 0) 0 dJ8_length_0 rfl rfl ?_
  refine zS_ite (fun ht => ?_) (fun _ => zS_none)
  refine s_callSU (pc := 1) (np := 0) (as := []) (rest := []) dJ8_length_1 ht (q := (RJ8, TJ8, 4)) rfl (c_J7_length (by decide) v0 h) ⟨_, _, _, q1026⟩ (by decide) rfl rfl q1025 q1021 q355 q1020 rfl (by decide) (zkI (fun x1 h2 => ?_)) zxo
  exact s_iret (pc := 4) dJ8_length_4 rfl
theorem c_J8_length {d0 : Nat} (hd0 : 2 < d0) (v0 : Option Nat) (h : zH) : zCal D z d0 h yJ8_length [va_rf v0] (f_J8_length v0 h) :=
  ⟨cJ8_length, 1, (some .int), [], 2, (show lv_args 0 [va_rf v0] = [(0, va_rf v0)] by simp [lv_args, zcat_rf, zcat_i, zcat_l, zcat_f, zcat_d]) ▸ w_J8_length v0 h, (plainFor_of_name (by decide)), by simp [lg_sl, zcat_rf, zcat_i, zcat_l, zcat_f, zcat_d], q1024, q105, hd0, by decide, by decide⟩
theorem w_J25_init_2 (v0 : Option Nat) (v1 : Option Nat) (h : zH) : zS D z yJ25_init_2 cJ25_init_2 2 none [] 1 h 0 [(0, va_rf v0), (1, va_rf v1)] [] (f_J25_init_2 v0 v1 h) := by
  unfold f_J25_init_2
  refine s_aload_n (pc := 0) 0 dJ25_init_2_0 rfl rfl ?_
  refine zS_ite (fun hr => ?_) (fun _ => zS_none)
  refine s_objinit (pc := 1) dJ25_init_2_1 hr q732 q164 q165 (by decide) (by decide) ?_
  refine s_aload_n (pc := 4) 0 dJ25_init_2_4 rfl rfl ?_
  refine s_aload_n (pc := 5) 0 dJ25_init_2_5 rfl rfl ?_
  refine s_putR (pc := 6) dJ25_init_2_6 pf_J25_7 (fun h1 => ?_)
  refine s_aload_n (pc := 9) 0 dJ25_init_2_9 rfl rfl ?_
  refine s_getsQ (pc := 10) (n := "UNASSIGNED_STACK") (i := 7) dJ25_init_2_10 (List.mem_of_getElem? (i := 9) rfl) q733 ?_
  refine s_putA (pc := 13) dJ25_init_2_13 pf_J25_17 (fun h2 => ?_)
  refine s_aload_n (pc := 16) 0 dJ25_init_2_16 rfl rfl ?_
  refine s_getsQ (pc := 17) (n := "SUPPRESSED_SENTINEL") (i := 8) dJ25_init_2_17 (List.mem_of_getElem? (i := 10) rfl) q735 ?_
  refine s_putR (pc := 20) dJ25_init_2_20 pf_J25_24 (fun h3 => ?_)
  refine s_aload_n (pc := 23) 0 dJ25_init_2_23 rfl rfl ?_
  exact zS_none
theorem c_J25_init_2 {d0 : Nat} (hd0 : 1 < d0) (v0 : Option Nat) (v1 : Option Nat) (h : zH) : zCal D z d0 h yJ25_init_2 [va_rf v0, va_rf v1] (f_J25_init_2 v0 v1 h) :=
  ⟨cJ25_init_2, 2, none, [], 1, (show lv_args 0 [va_rf v0, va_rf v1] = [(0, va_rf v0), (1, va_rf v1)] by simp [lv_args, zcat_rf, zcat_i, zcat_l, zcat_f, zcat_d]) ▸ w_J25_init_2 v0 v1 h, (plainFor_of_name (by decide)), by simp [lg_sl, zcat_rf, zcat_i, zcat_l, zcat_f, zcat_d], q1063, q123, hd0, by decide, by decide⟩
theorem w_J26_init_2 (v0 : Option Nat) (v1 : Option Nat) (h : zH) : zS D z yJ26_init_2 cJ26_init_2 2 none [] 2 h 0 [(0, va_rf v0), (1, va_rf v1)] [] (f_J26_init_2 v0 v1 h) := by
  unfold f_J26_init_2
  refine s_aload_n (pc := 0) 0 dJ26_init_2_0 rfl rfl ?_
  refine s_aload_n (pc := 1) 1 dJ26_init_2_1 rfl rfl ?_
  refine zS_ite (fun hr => ?_) (fun _ => zS_none)
  refine s_callC (pc := 2) (np := 1) (as := [va_rf v1]) (rest := []) dJ26_init_2_2 hr (c_J25_init_2 (by decide) v0 v1 h) ⟨_, _, q1063⟩ rfl rfl rfl q1061 q1062 rfl (by decide) (zkV (fun h1 => ?_)) zxo
  exact s_vret (pc := 5) dJ26_init_2_5 rfl
theorem c_J26_init_2 {d0 : Nat} (hd0 : 2 < d0) (v0 : Option Nat) (v1 : Option Nat) (h : zH) : zCal D z d0 h yJ26_init_2 [va_rf v0, va_rf v1] (f_J26_init_2 v0 v1 h) :=
  ⟨cJ26_init_2, 2, none, [], 2, (show lv_args 0 [va_rf v0, va_rf v1] = [(0, va_rf v0), (1, va_rf v1)] by simp [lv_args, zcat_rf, zcat_i, zcat_l, zcat_f, zcat_d]) ▸ w_J26_init_2 v0 v1 h, (plainFor_of_name (by decide)), by simp [lg_sl, zcat_rf, zcat_i, zcat_l, zcat_f, zcat_d], q1060, q124, hd0, by decide, by decide⟩
theorem w_J27_init_2 (v0 : Option Nat) (v1 : Option Nat) (h : zH) : zS D z yJ27_init_2 cJ27_init_2 2 none [] 3 h 0 [(0, va_rf v0), (1, va_rf v1)] [] (f_J27_init_2 v0 v1 h) := by
  unfold f_J27_init_2
  refine s_aload_n (pc := 0) 0 dJ27_init_2_0 rfl rfl ?_
  refine s_aload_n (pc := 1) 1 dJ27_init_2_1 rfl rfl ?_
  refine zS_ite (fun hr => ?_) (fun _ => zS_none)
  refine s_callC (pc := 2) (np := 1) (as := [va_rf v1]) (rest := []) dJ27_init_2_2 hr (c_J26_init_2 (by decide) v0 v1 h) ⟨_, _, q1060⟩ rfl rfl rfl q1058 q1059 rfl (by decide) (zkV (fun h1 => ?_)) zxo
  exact s_vret (pc := 5) dJ27_init_2_5 rfl
theorem c_J27_init_2 {d0 : Nat} (hd0 : 3 < d0) (v0 : Option Nat) (v1 : Option Nat) (h : zH) : zCal D z d0 h yJ27_init_2 [va_rf v0, va_rf v1] (f_J27_init_2 v0 v1 h) :=
  ⟨cJ27_init_2, 2, none, [], 3, (show lv_args 0 [va_rf v0, va_rf v1] = [(0, va_rf v0), (1, va_rf v1)] by simp [lv_args, zcat_rf, zcat_i, zcat_l, zcat_f, zcat_d]) ▸ w_J27_init_2 v0 v1 h, (plainFor_of_name (by decide)), by simp [lg_sl, zcat_rf, zcat_i, zcat_l, zcat_f, zcat_d], q1057, q125, hd0, by decide, by decide⟩
theorem w_J34_init (v0 : Option Nat) (v1 : Option Nat) (h : zH) : zS D z yJ34_init cJ34_init 2 none [] 4 h 0 [(0, va_rf v0), (1, va_rf v1)] [] (f_J34_init v0 v1 h) := by
  unfold f_J34_init
  refine s_aload_n (pc := 0) 0 dJ34_init_0 rfl rfl ?_
  refine s_aload_n (pc := 1) 1 dJ34_init_1 rfl rfl ?_
  refine zS_ite (fun hr => ?_) (fun _ => zS_none)
  refine s_callC (pc := 2) (np := 1) (as := [va_rf v1]) (rest := []) dJ34_init_2 hr (c_J27_init_2 (by decide) v0 v1 h) ⟨_, _, q1057⟩ rfl rfl rfl q1055 q1056 rfl (by decide) (zkV (fun h1 => ?_)) zxo
  exact s_vret (pc := 5) dJ34_init_5 rfl
theorem c_J34_init {d0 : Nat} (hd0 : 4 < d0) (v0 : Option Nat) (v1 : Option Nat) (h : zH) : zCal D z d0 h yJ34_init [va_rf v0, va_rf v1] (f_J34_init v0 v1 h) :=
  ⟨cJ34_init, 2, none, [], 4, (show lv_args 0 [va_rf v0, va_rf v1] = [(0, va_rf v0), (1, va_rf v1)] by simp [lv_args, zcat_rf, zcat_i, zcat_l, zcat_f, zcat_d]) ▸ w_J34_init v0 v1 h, (plainFor_of_name (by decide)), by simp [lg_sl, zcat_rf, zcat_i, zcat_l, zcat_f, zcat_d], q1054, q133, hd0, by decide, by decide⟩
theorem w_J31_checkLength (v0 : Int32) (v1 : Int32) (h : zH) : zS D z yJ31_checkLength cJ31_checkLength 2 none [] 1 h 0 [(0, .int v0), (1, .int v1)] [] (f_J31_checkLength v0 v1 h) := by
  unfold f_J31_checkLength
  refine s_iload_n (pc := 0) 1 dJ31_checkLength_0 rfl rfl ?_
  refine s_iload_n (pc := 1) 0 dJ31_checkLength_1 rfl rfl ?_
  refine s_icmp_ge (pc := 2) (tgt := 37) dJ31_checkLength_2 (by decide) (fun _ => ?_) (fun _ => ?_)
  · exact s_vret (pc := 37) dJ31_checkLength_37 rfl
  · exact zS_none
theorem c_J31_checkLength {d0 : Nat} (hd0 : 1 < d0) (v0 : Int32) (v1 : Int32) (h : zH) : zCal D z d0 h yJ31_checkLength [.int v0, .int v1] (f_J31_checkLength v0 v1 h) :=
  ⟨cJ31_checkLength, 2, none, [], 1, (show lv_args 0 [.int v0, .int v1] = [(0, .int v0), (1, .int v1)] by simp [lv_args, zcat_rf, zcat_i, zcat_l, zcat_f, zcat_d]) ▸ w_J31_checkLength v0 v1 h, (plainFor_of_name (by decide)), by simp [lg_sl, zcat_rf, zcat_i, zcat_l, zcat_f, zcat_d], q1036, q129, hd0, by decide, by decide⟩
theorem w_J31_copyOfRangeByte (v0 : Option Nat) (v1 : Int32) (v2 : Int32) (h : zH) : zS D z yJ31_copyOfRangeByte cJ31_copyOfRangeByte 5 (some (.array (.byte))) [] 2 h 0 [(0, va_rf v0), (1, .int v1), (2, .int v2)] [] (f_J31_copyOfRangeByte v0 v1 v2 h) := by
  unfold f_J31_copyOfRangeByte
  refine s_iload_n (pc := 0) 1 dJ31_copyOfRangeByte_0 rfl rfl ?_
  refine s_iload_n (pc := 1) 2 dJ31_copyOfRangeByte_1 rfl rfl ?_
  refine s_callSS (pc := 2) (np := 2) (as := [.int v1, .int v2]) (rest := []) dJ31_copyOfRangeByte_2 (c_J31_checkLength (by decide) v1 v2 h) rfl rfl q1034 q1035 rfl (by decide) (zkV (fun h1 => ?_)) zxo
  refine s_iload_n (pc := 5) 2 dJ31_copyOfRangeByte_5 rfl rfl ?_
  refine s_iload_n (pc := 6) 1 dJ31_copyOfRangeByte_6 rfl rfl ?_
  refine s_isub (pc := 7) dJ31_copyOfRangeByte_7 ?_
  refine s_nm (pc := 8) Value.int (fun x2 => ?_)
  refine s_ist_n (pc := 8) (L2 := [(0, va_rf v0), (1, .int v1)]) [0, 1] dJ31_copyOfRangeByte_8 rfl (by decide) rfl rfl (zcA rfl) ?_
  refine s_iload_n (pc := 9) 0 dJ31_copyOfRangeByte_9 rfl rfl ?_
  refine s_newa (pc := 10) (ty := .byte) dJ31_copyOfRangeByte_10 rfl ⟨rfl, by decide⟩ q356 rfl rfl (fun r3 h4 => ?_)
  refine s_ast (pc := 12) (L2 := [(3, .int x2), (0, va_rf v0), (1, .int v1)]) [0, 1, 2] dJ31_copyOfRangeByte_12 (by decide) rfl rfl (zcB (j := 0) rfl rfl rfl) ?_
  refine s_aload_n (pc := 14) 2 dJ31_copyOfRangeByte_14 rfl rfl ?_
  refine s_iload_n (pc := 15) 3 dJ31_copyOfRangeByte_15 rfl rfl ?_
  refine s_aload (pc := 16) 0 dJ31_copyOfRangeByte_16 rfl ?_
  refine s_iconst (pc := 18) (v := 0) dJ31_copyOfRangeByte_18 (by decide) ?_
  refine s_aload_n (pc := 19) 2 dJ31_copyOfRangeByte_19 rfl rfl ?_
  refine s_alen (pc := 20) dJ31_copyOfRangeByte_20 zarrs_ok (fun x5 => ?_)
  refine s_iload_n (pc := 21) 3 dJ31_copyOfRangeByte_21 rfl rfl ?_
  refine s_isub (pc := 22) dJ31_copyOfRangeByte_22 ?_
  refine s_iload_n (pc := 23) 1 dJ31_copyOfRangeByte_23 rfl rfl ?_
  refine s_callSS (pc := 24) (np := 2) (as := [.int (x5 - v1), .int x2]) (rest := [.int 0, va_rf r3, .int v1, va_rf v0]) dJ31_copyOfRangeByte_24 (c_J11_min (by decide) (x5 - v1) x2 h4) rfl rfl q898 q377 rfl (by simp [zcat_rf, zcat_i, zcat_l, zcat_f, zcat_d]) (zkI (fun x6 h7 => ?_)) zxo
  refine s_acpB (pc := 27) dJ31_copyOfRangeByte_27 q899 (by decide) (by decide) (fun h8 => ?_)
  refine s_aload (pc := 30) 0 dJ31_copyOfRangeByte_30 rfl ?_
  exact s_aret (pc := 32) dJ31_copyOfRangeByte_32 rfl (Or.inr ⟨_, rfl⟩)
theorem c_J31_copyOfRangeByte {d0 : Nat} (hd0 : 2 < d0) (v0 : Option Nat) (v1 : Int32) (v2 : Int32) (h : zH) : zCal D z d0 h yJ31_copyOfRangeByte [va_rf v0, .int v1, .int v2] (f_J31_copyOfRangeByte v0 v1 v2 h) :=
  ⟨cJ31_copyOfRangeByte, 5, (some (.array (.byte))), [], 2, (show lv_args 0 [va_rf v0, .int v1, .int v2] = [(0, va_rf v0), (1, .int v1), (2, .int v2)] by simp [lv_args, zcat_rf, zcat_i, zcat_l, zcat_f, zcat_d]) ▸ w_J31_copyOfRangeByte v0 v1 v2 h, (plainFor_of_name (by decide)), by simp [lg_sl, zcat_rf, zcat_i, zcat_l, zcat_f, zcat_d], q1033, q129, hd0, by decide, by decide⟩
theorem w_J31_copyOfRange_10 (a0 : Option Nat) (a1 : Int32) (a2 : Int32) (h : zH) : zS D z yJ31_copyOfRange cJ31_copyOfRange 3 (some (.array (.byte))) [] 3 h 10 [(0, va_rf a0), (1, .int a1), (2, .int a2)] [] (f_J31_copyOfRange_10 a0 a1 a2 h) := by
  unfold f_J31_copyOfRange_10
  refine s_aload_n (pc := 10) 0 dJ31_copyOfRange_10 rfl rfl ?_
  refine s_iload_n (pc := 11) 1 dJ31_copyOfRange_11 rfl rfl ?_
  refine s_iload_n (pc := 12) 2 dJ31_copyOfRange_12 rfl rfl ?_
  refine s_callSS (pc := 13) (np := 3) (as := [va_rf a0, .int a1, .int a2]) (rest := []) dJ31_copyOfRange_13 (c_J31_copyOfRangeByte (by decide) a0 a1 a2 h) rfl rfl q1031 q1032 rfl (by decide) (zkR (fun r4 h5 => ?_)) zxo
  exact s_aret (pc := 16) dJ31_copyOfRange_16 rfl (Or.inr ⟨_, rfl⟩)
theorem w_J31_copyOfRange (v0 : Option Nat) (v1 : Int32) (v2 : Int32) (h : zH) : zS D z yJ31_copyOfRange cJ31_copyOfRange 3 (some (.array (.byte))) [] 3 h 0 [(0, va_rf v0), (1, .int v1), (2, .int v2)] [] (f_J31_copyOfRange v0 v1 v2 h) := by
  unfold f_J31_copyOfRange
  refine s_iload_n (pc := 0) 1 dJ31_copyOfRange_0 rfl rfl ?_
  refine s_if_ne (pc := 1) (tgt := 10) dJ31_copyOfRange_1 (by decide) (fun _ => ?_) (fun _ => ?_)
  · exact s_sub (pc := 10) [0, 1, 2] rfl (w_J31_copyOfRange_10 v0 v1 v2 h)
  · refine s_iload_n (pc := 4) 2 dJ31_copyOfRange_4 rfl rfl ?_
    refine s_aload_n (pc := 5) 0 dJ31_copyOfRange_5 rfl rfl ?_
    refine s_alen (pc := 6) dJ31_copyOfRange_6 zarrs_ok (fun x1 => ?_)
    refine s_icmp_eq (pc := 7) (tgt := 17) dJ31_copyOfRange_7 (by decide) (fun _ => ?_) (fun _ => ?_)
    · refine s_aload_n (pc := 17) 0 dJ31_copyOfRange_17 rfl rfl ?_
      refine s_cloneB (pc := 18) dJ31_copyOfRange_18 q891 q892 q893 q894 q895 q896 (by decide) (by decide) (fun r2 h3 => ?_)
      refine s_castB (pc := 21) dJ31_copyOfRange_21 q897 ?_
      exact s_aret (pc := 24) dJ31_copyOfRange_24 rfl (Or.inr ⟨_, rfl⟩)
    · exact s_sub (pc := 10) [0, 1, 2] rfl (w_J31_copyOfRange_10 v0 v1 v2 h)
theorem c_J31_copyOfRange {d0 : Nat} (hd0 : 3 < d0) (v0 : Option Nat) (v1 : Int32) (v2 : Int32) (h : zH) : zCal D z d0 h yJ31_copyOfRange [va_rf v0, .int v1, .int v2] (f_J31_copyOfRange v0 v1 v2 h) :=
  ⟨cJ31_copyOfRange, 3, (some (.array (.byte))), [], 3, (show lv_args 0 [va_rf v0, .int v1, .int v2] = [(0, va_rf v0), (1, .int v1), (2, .int v2)] by simp [lv_args, zcat_rf, zcat_i, zcat_l, zcat_f, zcat_d]) ▸ w_J31_copyOfRange v0 v1 v2 h, (plainFor_of_name (by decide)), by simp [lg_sl, zcat_rf, zcat_i, zcat_l, zcat_f, zcat_d], q1030, q129, hd0, by decide, by decide⟩
theorem w_J9_init_2_79 (a0 : Option Nat) (a3 : Option Nat) (a4 : Int32) (h : zH) : zS D z yJ9_init_2 cJ9_init_2 5 none [] 4 h 79 [(0, va_rf a0), (3, va_rf a3), (4, .int a4)] [] (f_J9_init_2_79 a0 a3 a4 h) := by
  unfold f_J9_init_2_79
  refine s_aload_n (pc := 79) 0 dJ9_init_2_79 rfl rfl ?_
  refine s_iconst (pc := 80) (v := 1) dJ9_init_2_80 (by decide) ?_
  refine s_putN (pc := 81) dJ9_init_2_81 pf_J9_15 (fun h14 => ?_)
  refine s_aload_n (pc := 84) 0 dJ9_init_2_84 rfl rfl ?_
  refine s_aload_n (pc := 85) 1 dJ9_init_2_85 rfl rfl ?_
  refine s_iconst (pc := 86) (v := 0) dJ9_init_2_86 (by decide) ?_
  refine s_iload (pc := 87) 2 dJ9_init_2_87 rfl ?_
  refine s_iconst (pc := 89) (v := 1) dJ9_init_2_89 (by decide) ?_
  refine s_ishl (pc := 90) dJ9_init_2_90 ?_
  refine s_callSS (pc := 91) (np := 3) (as := [va_rf a3, .int 0, .int (a4 <<< (1 &&& 31))]) (rest := [va_rf a0]) dJ9_init_2_91 (c_J31_copyOfRange (by decide) a3 0 (a4 <<< (1 &&& 31)) h14) rfl rfl q1028 q1029 rfl (by simp [zcat_rf, zcat_i, zcat_l, zcat_f, zcat_d]) (zkR (fun r15 h16 => ?_)) zxo
  refine s_putA (pc := 94) dJ9_init_2_94 pf_J9_9 (fun h17 => ?_)
  exact s_vret (pc := 97) dJ9_init_2_97 rfl
theorem w_J9_init_2 (v0 : Option Nat) (v1 : Option Nat) (v2 : Option Nat) (h : zH) : zS D z yJ9_init_2 cJ9_init_2 5 none [] 4 h 0 [(0, va_rf v0), (1, va_rf v1), (2, va_rf v2)] [] (f_J9_init_2 v0 v1 v2 h) := by
  unfold f_J9_init_2
  refine s_aload_n (pc := 0) 0 dJ9_init_2_0 rfl rfl ?_
  refine zS_ite (fun hr => ?_) (fun _ => zS_none)
  refine s_objinit (pc := 1) dJ9_init_2_1 hr q1013 q164 q165 (by decide) (by decide) ?_
  refine s_aload_n (pc := 4) 1 dJ9_init_2_4 rfl rfl ?_
  refine zS_ite (fun ht => ?_) (fun _ => zS_none)
  refine s_callVU (pc := 5) (np := 0) (as := []) (rest := []) (owner := "java/lang/AbstractStringBuilder") dJ9_init_2_5 ht (q := (RJ8, TJ8, 4)) rfl (c_J7_getValue (by decide) v1 h) ⟨_, _, _, q1018⟩ rfl rfl q1014 q1016 (Or.inl ⟨_, _, _, q1015, q1018⟩) (by decide) q1015 q1017 rfl (by decide) (zkR (fun r1 h2 => ?_)) zxo
  refine s_ast_n (pc := 8) (L2 := [(0, va_rf v0), (1, va_rf v1)]) [0, 1] dJ9_init_2_8 rfl (by decide) rfl rfl (zcA rfl) ?_
  refine s_aload_n (pc := 9) 2 dJ9_init_2_9 rfl rfl ?_
  refine zS_ite (fun ht => ?_) (fun _ => zS_none)
  refine s_callVU (pc := 10) (np := 0) (as := []) (rest := []) (owner := "java/lang/AbstractStringBuilder") dJ9_init_2_10 ht (q := (RJ8, TJ8, 4)) rfl (c_J8_length (by decide) v1 h2) ⟨_, _, _, q1024⟩ rfl rfl q1019 q1021 (Or.inl ⟨_, _, _, q1020, q1026⟩) (by decide) q1023 q1022 rfl (by decide) (zkI (fun x3 h4 => ?_)) zxo
  refine s_ist (pc := 13) (L2 := [(3, va_rf r1), (0, va_rf v0), (1, va_rf v1)]) [0, 1, 2] dJ9_init_2_13 (by decide) rfl rfl (zcB (j := 0) rfl (zcat_rf r1) rfl) ?_
  refine s_aload_n (pc := 15) 3 dJ9_init_2_15 rfl rfl ?_
  refine zS_ite (fun ht => ?_) (fun _ => zS_none)
  refine s_callVU (pc := 16) (np := 0) (as := []) (rest := []) (owner := "java/lang/AbstractStringBuilder") dJ9_init_2_16 ht (q := (RJ8, TJ8, 4)) rfl (c_J7_isLatin1 (by decide) v1 h4) ⟨_, _, _, q906⟩ rfl rfl q1027 q904 (Or.inl ⟨_, _, _, q903, q906⟩) (by decide) q903 q905 rfl (by decide) (zkI (fun x5 h6 => ?_)) zxo
  refine s_if_eq (pc := 19) (tgt := 41) dJ9_init_2_19 (by decide) (fun _ => ?_) (fun _ => ?_)
  · refine s_getsI (pc := 41) (n := "COMPACT_STRINGS") (v := 1) dJ9_init_2_41 (List.mem_of_getElem? (i := 7) rfl) q941 ?_
    refine s_if_eq (pc := 44) (tgt := 79) dJ9_init_2_44 (by decide) (fun _ => ?_) (fun _ => ?_)
    · exact s_sub (pc := 79) [2, 1, 0] rfl (w_J9_init_2_79 v0 r1 x3 h6)
    · refine s_aload_n (pc := 47) 3 dJ9_init_2_47 rfl rfl ?_
      refine s_gI (pc := 48) dJ9_init_2_48 gf_J9_1048 (fun x7 => ?_)
      refine s_if_eq (pc := 51) (tgt := 79) dJ9_init_2_51 (by decide) (fun _ => ?_) (fun _ => ?_)
      · exact s_sub (pc := 79) [2, 1, 0] rfl (w_J9_init_2_79 v0 r1 x3 h6)
      · refine s_aload_n (pc := 54) 2 dJ9_init_2_54 rfl rfl ?_
        refine s_aload_n (pc := 55) 1 dJ9_init_2_55 rfl rfl ?_
        refine s_iconst (pc := 56) (v := 0) dJ9_init_2_56 (by decide) ?_
        refine s_iload (pc := 57) 0 dJ9_init_2_57 rfl ?_
        exact zS_none
  · refine s_aload_n (pc := 22) 2 dJ9_init_2_22 rfl rfl ?_
    refine s_iconst (pc := 23) (v := 0) dJ9_init_2_23 (by decide) ?_
    refine s_putN (pc := 24) dJ9_init_2_24 pf_J9_15 (fun h10 => ?_)
    refine s_aload_n (pc := 27) 2 dJ9_init_2_27 rfl rfl ?_
    refine s_aload_n (pc := 28) 1 dJ9_init_2_28 rfl rfl ?_
    refine s_iconst (pc := 29) (v := 0) dJ9_init_2_29 (by decide) ?_
    refine s_iload (pc := 30) 0 dJ9_init_2_30 rfl ?_
    refine s_callSS (pc := 32) (np := 3) (as := [va_rf r1, .int 0, .int x3]) (rest := [va_rf v0]) dJ9_init_2_32 (c_J31_copyOfRange (by decide) r1 0 x3 h10) rfl rfl q1028 q1029 rfl (by simp [zcat_rf, zcat_i, zcat_l, zcat_f, zcat_d]) (zkR (fun r11 h12 => ?_)) zxo
    refine s_putA (pc := 35) dJ9_init_2_35 pf_J9_9 (fun h13 => ?_)
    refine s_goto (pc := 38) (tgt := 97) dJ9_init_2_38 (by decide) ?_
    exact s_vret (pc := 97) dJ9_init_2_97 rfl
theorem c_J9_init_2 {d0 : Nat} (hd0 : 4 < d0) (v0 : Option Nat) (v1 : Option Nat) (v2 : Option Nat) (h : zH) : zCal D z d0 h yJ9_init_2 [va_rf v0, va_rf v1, va_rf v2] (f_J9_init_2 v0 v1 v2 h) :=
  ⟨cJ9_init_2, 5, none, [], 4, (show lv_args 0 [va_rf v0, va_rf v1, va_rf v2] = [(0, va_rf v0), (1, va_rf v1), (2, va_rf v2)] by simp [lv_args, zcat_rf, zcat_i, zcat_l, zcat_f, zcat_d]) ▸ w_J9_init_2 v0 v1 v2 h, (plainFor_of_name (by decide)), by simp [lg_sl, zcat_rf, zcat_i, zcat_l, zcat_f, zcat_d], q1012, q106, hd0, by decide, by decide⟩
theorem w_J9_init (v0 : Option Nat) (v1 : Option Nat) (h : zH) : zS D z yJ9_init cJ9_init 2 none [] 5 h 0 [(0, va_rf v0), (1, va_rf v1)] [] (f_J9_init v0 v1 h) := by
  unfold f_J9_init
  refine s_aload_n (pc := 0) 0 dJ9_init_0 rfl rfl ?_
  refine s_aload_n (pc := 1) 1 dJ9_init_1 rfl rfl ?_
  refine s_null (pc := 2) dJ9_init_2 ?_
  refine zS_ite (fun hr => ?_) (fun _ => zS_none)
  refine s_callC (pc := 3) (np := 2) (as := [va_rf v1, va_rf none]) (rest := []) dJ9_init_3 hr (c_J9_init_2 (by decide) v0 v1 none h) ⟨_, _, q1012⟩ rfl rfl rfl q1010 q1011 rfl (by decide) (zkV (fun h1 => ?_)) zxo
  exact s_vret (pc := 6) dJ9_init_6 rfl
theorem c_J9_init {d0 : Nat} (hd0 : 5 < d0) (v0 : Option Nat) (v1 : Option Nat) (h : zH) : zCal D z d0 h yJ9_init [va_rf v0, va_rf v1] (f_J9_init v0 v1 h) :=
  ⟨cJ9_init, 2, none, [], 5, (show lv_args 0 [va_rf v0, va_rf v1] = [(0, va_rf v0), (1, va_rf v1)] by simp [lv_args, zcat_rf, zcat_i, zcat_l, zcat_f, zcat_d]) ▸ w_J9_init v0 v1 h, (plainFor_of_name (by decide)), by simp [lg_sl, zcat_rf, zcat_i, zcat_l, zcat_f, zcat_d], q1009, q106, hd0, by decide, by decide⟩
theorem w_J8_toString (v0 : Option Nat) (h : zH) : zS D z yJ8_toString cJ8_toString 1 (some (.object "java/lang/String")) [] 6 h 0 [(0, va_rf v0)] [] (f_J8_toString v0 h) := by
  unfold f_J8_toString
  refine s_new (pc := 0) dJ8_toString_0 nf_J8_18 (fun r1 h2 => ?_)
  refine s_dup (pc := 3) dJ8_toString_3 (zcat_rf _) ?_
  refine s_aload_n (pc := 4) 0 dJ8_toString_4 rfl rfl ?_
  refine zS_ite (fun hr => ?_) (fun _ => zS_none)
  refine s_callC (pc := 5) (np := 1) (as := [va_rf v0]) (rest := [va_rf r1]) dJ8_toString_5 hr (c_J9_init (by decide) r1 v0 h2) ⟨_, _, q1009⟩ rfl rfl rfl q1007 q1008 rfl (by simp [zcat_rf, zcat_i, zcat_l, zcat_f, zcat_d]) (zkV (fun h3 => ?_)) zxo
  exact s_aret (pc := 8) dJ8_toString_8 rfl (Or.inl ⟨_, rfl⟩)
theorem c_J8_toString {d0 : Nat} (hd0 : 6 < d0) (v0 : Option Nat) (h : zH) : zCal D z d0 h yJ8_toString [va_rf v0] (f_J8_toString v0 h) :=
  ⟨cJ8_toString, 1, (some (.object "java/lang/String")), [], 6, (show lv_args 0 [va_rf v0] = [(0, va_rf v0)] by simp [lv_args, zcat_rf, zcat_i, zcat_l, zcat_f, zcat_d]) ▸ w_J8_toString v0 h, (plainFor_of_name (by decide)), by simp [lg_sl, zcat_rf, zcat_i, zcat_l, zcat_f, zcat_d], q1004, q105, hd0, by decide, by decide⟩
theorem w_J12_wordIndex (v0 : Int32) (h : zH) : zS D z yJ12_wordIndex cJ12_wordIndex 1 (some .int) [] 1 h 0 [(0, .int v0)] [] (f_J12_wordIndex v0 h) := by
  unfold f_J12_wordIndex
  refine s_iload_n (pc := 0) 0 dJ12_wordIndex_0 rfl rfl ?_
  refine s_bipush (pc := 1) (v := 6) dJ12_wordIndex_1 (by decide) ?_
  refine s_ishr (pc := 3) dJ12_wordIndex_3 ?_
  exact s_iret (pc := 4) dJ12_wordIndex_4 rfl
theorem c_J12_wordIndex {d0 : Nat} (hd0 : 1 < d0) (v0 : Int32) (h : zH) : zCal D z d0 h yJ12_wordIndex [.int v0] (f_J12_wordIndex v0 h) :=
  ⟨cJ12_wordIndex, 1, (some .int), [], 1, (show lv_args 0 [.int v0] = [(0, .int v0)] by simp [lv_args, zcat_rf, zcat_i, zcat_l, zcat_f, zcat_d]) ▸ w_J12_wordIndex v0 h, (plainFor_of_name (by decide)), by simp [lg_sl, zcat_rf, zcat_i, zcat_l, zcat_f, zcat_d], q401, q109, hd0, by decide, by decide⟩
theorem w_J12_initWords (v0 : Option Nat) (v1 : Int32) (h : zH) : zS D z yJ12_initWords cJ12_initWords 2 none [] 2 h 0 [(0, va_rf v0), (1, .int v1)] [] (f_J12_initWords v0 v1 h) := by
  unfold f_J12_initWords
  refine s_aload_n (pc := 0) 0 dJ12_initWords_0 rfl rfl ?_
  refine s_iload_n (pc := 1) 1 dJ12_initWords_1 rfl rfl ?_
  refine s_iconst (pc := 2) (v := 1) dJ12_initWords_2 (by decide) ?_
  refine s_isub (pc := 3) dJ12_initWords_3 ?_
  refine s_callSS (pc := 4) (np := 1) (as := [.int (v1 - 1)]) (rest := [va_rf v0]) dJ12_initWords_4 (c_J12_wordIndex (by decide) (v1 - 1) h) rfl rfl q399 q400 rfl (by simp [zcat_rf, zcat_i, zcat_l, zcat_f, zcat_d]) (zkI (fun x1 h2 => ?_)) zxo
  refine s_iconst (pc := 7) (v := 1) dJ12_initWords_7 (by decide) ?_
  refine s_iadd (pc := 8) dJ12_initWords_8 ?_
  refine s_newa (pc := 9) (ty := .long) dJ12_initWords_9 rfl ⟨rfl, by decide⟩ q412 rfl rfl (fun r3 h4 => ?_)
  refine s_putA (pc := 11) dJ12_initWords_11 pf_J12_11 (fun h5 => ?_)
  exact s_vret (pc := 14) dJ12_initWords_14 rfl
theorem c_J12_initWords {d0 : Nat} (hd0 : 2 < d0) (v0 : Option Nat) (v1 : Int32) (h : zH) : zCal D z d0 h yJ12_initWords [va_rf v0, .int v1] (f_J12_initWords v0 v1 h) :=
  ⟨cJ12_initWords, 2, none, [], 2, (show lv_args 0 [va_rf v0, .int v1] = [(0, va_rf v0), (1, .int v1)] by simp [lv_args, zcat_rf, zcat_i, zcat_l, zcat_f, zcat_d]) ▸ w_J12_initWords v0 v1 h, (plainFor_of_name (by decide)), by simp [lg_sl, zcat_rf, zcat_i, zcat_l, zcat_f, zcat_d], q398, q109, hd0, by decide, by decide⟩
theorem w_J12_init (v0 : Option Nat) (v1 : Int32) (h : zH) : zS D z yJ12_init cJ12_init 2 none [] 3 h 0 [(0, va_rf v0), (1, .int v1)] [] (f_J12_init v0 v1 h) := by
  unfold f_J12_init
  refine s_aload_n (pc := 0) 0 dJ12_init_0 rfl rfl ?_
  refine zS_ite (fun hr => ?_) (fun _ => zS_none)
  refine s_objinit (pc := 1) dJ12_init_1 hr q394 q164 q165 (by decide) (by decide) ?_
  refine s_aload_n (pc := 4) 0 dJ12_init_4 rfl rfl ?_
  refine s_iconst (pc := 5) (v := 0) dJ12_init_5 (by decide) ?_
  refine s_putI (pc := 6) dJ12_init_6 pf_J12_7 (fun h1 => ?_)
  refine s_aload_n (pc := 9) 0 dJ12_init_9 rfl rfl ?_
  refine s_iconst (pc := 10) (v := 0) dJ12_init_10 (by decide) ?_
  refine s_putN (pc := 11) dJ12_init_11 pf_J12_24 (fun h2 => ?_)
  refine s_iload_n (pc := 14) 1 dJ12_init_14 rfl rfl ?_
  refine s_if_ge (pc := 15) (tgt := 45) dJ12_init_15 (by decide) (fun _ => ?_) (fun _ => ?_)
  · refine s_aload_n (pc := 45) 0 dJ12_init_45 rfl rfl ?_
    refine s_iload_n (pc := 46) 1 dJ12_init_46 rfl rfl ?_
    refine zS_ite (fun ht => ?_) (fun _ => zS_none)
    refine s_callV (pc := 47) (np := 1) (as := [.int v1]) (rest := []) dJ12_init_47 ht (q := (RJ12, TJ12, 3)) rfl (c_J12_initWords (by decide) v0 v1 h2) rfl rfl q395 q397 qs0 rfl (by decide) (zkV (fun h3 => ?_)) zxo
    refine s_aload_n (pc := 50) 0 dJ12_init_50 rfl rfl ?_
    refine s_iconst (pc := 51) (v := 1) dJ12_init_51 (by decide) ?_
    refine s_putN (pc := 52) dJ12_init_52 pf_J12_24 (fun h4 => ?_)
    exact s_vret (pc := 55) dJ12_init_55 rfl
  · exact zS_none
theorem c_J12_init {d0 : Nat} (hd0 : 3 < d0) (v0 : Option Nat) (v1 : Int32) (h : zH) : zCal D z d0 h yJ12_init [va_rf v0, .int v1] (f_J12_init v0 v1 h) :=
  ⟨cJ12_init, 2, none, [], 3, (show lv_args 0 [va_rf v0, .int v1] = [(0, va_rf v0), (1, .int v1)] by simp [lv_args, zcat_rf, zcat_i, zcat_l, zcat_f, zcat_d]) ▸ w_J12_init v0 v1 h, (plainFor_of_name (by decide)), by simp [lg_sl, zcat_rf, zcat_i, zcat_l, zcat_f, zcat_d], q393, q109, hd0, by decide, by decide⟩
theorem w_J29_init (v0 : Option Nat) (v1 : Option Nat) (h : zH) : zS D z yJ29_init cJ29_init 2 none [] 4 h 0 [(0, va_rf v0), (1, va_rf v1)] [] (f_J29_init v0 v1 h) := by
  unfold f_J29_init
  refine s_aload_n (pc := 0) 0 dJ29_init_0 rfl rfl ?_
  refine s_aload_n (pc := 1) 1 dJ29_init_1 rfl rfl ?_
  refine zS_ite (fun hr => ?_) (fun _ => zS_none)
  refine s_callC (pc := 2) (np := 1) (as := [va_rf v1]) (rest := []) dJ29_init_2 hr (c_J27_init_2 (by decide) v0 v1 h) ⟨_, _, q1057⟩ rfl rfl rfl q1095 q1056 rfl (by decide) (zkV (fun h1 => ?_)) zxo
  exact s_vret (pc := 5) dJ29_init_5 rfl
theorem c_J29_init {d0 : Nat} (hd0 : 4 < d0) (v0 : Option Nat) (v1 : Option Nat) (h : zH) : zCal D z d0 h yJ29_init [va_rf v0, va_rf v1] (f_J29_init v0 v1 h) :=
  ⟨cJ29_init, 2, none, [], 4, (show lv_args 0 [va_rf v0, va_rf v1] = [(0, va_rf v0), (1, va_rf v1)] by simp [lv_args, zcat_rf, zcat_i, zcat_l, zcat_f, zcat_d]) ▸ w_J29_init v0 v1 h, (plainFor_of_name (by decide)), by simp [lg_sl, zcat_rf, zcat_i, zcat_l, zcat_f, zcat_d], q1094, q127, hd0, by decide, by decide⟩
theorem w_J12_checkRange (v0 : Int32) (v1 : Int32) (h : zH) : zS D z yJ12_checkRange cJ12_checkRange 2 none [] 1 h 0 [(0, .int v0), (1, .int v1)] [] (f_J12_checkRange v0 v1 h) := by
  unfold f_J12_checkRange
  refine s_iload_n (pc := 0) 0 dJ12_checkRange_0 rfl rfl ?_
  refine s_if_ge (pc := 1) (tgt := 31) dJ12_checkRange_1 (by decide) (fun _ => ?_) (fun _ => ?_)
  · refine s_iload_n (pc := 31) 1 dJ12_checkRange_31 rfl rfl ?_
    refine s_if_ge (pc := 32) (tgt := 62) dJ12_checkRange_32 (by decide) (fun _ => ?_) (fun _ => ?_)
    · refine s_iload_n (pc := 62) 0 dJ12_checkRange_62 rfl rfl ?_
      refine s_iload_n (pc := 63) 1 dJ12_checkRange_63 rfl rfl ?_
      refine s_icmp_le (pc := 64) (tgt := 103) dJ12_checkRange_64 (by decide) (fun _ => ?_) (fun _ => ?_)
      · exact s_vret (pc := 103) dJ12_checkRange_103 rfl
      · exact zS_none
    · exact zS_none
  · exact zS_none
theorem c_J12_checkRange {d0 : Nat} (hd0 : 1 < d0) (v0 : Int32) (v1 : Int32) (h : zH) : zCal D z d0 h yJ12_checkRange [.int v0, .int v1] (f_J12_checkRange v0 v1 h) :=
  ⟨cJ12_checkRange, 2, none, [], 1, (show lv_args 0 [.int v0, .int v1] = [(0, .int v0), (1, .int v1)] by simp [lv_args, zcat_rf, zcat_i, zcat_l, zcat_f, zcat_d]) ▸ w_J12_checkRange v0 v1 h, (plainFor_of_name (by decide)), by simp [lg_sl, zcat_rf, zcat_i, zcat_l, zcat_f, zcat_d], q845, q109, hd0, by decide, by decide⟩
theorem w_J31_copyOf_2 (v0 : Option Nat) (v1 : Int32) (h : zH) : zS D z yJ31_copyOf_2 cJ31_copyOf_2 3 (some (.array (.long))) [] 2 h 0 [(0, va_rf v0), (1, .int v1)] [] (f_J31_copyOf_2 v0 v1 h) := by
  unfold f_J31_copyOf_2
  refine s_iload_n (pc := 0) 1 dJ31_copyOf_2_0 rfl rfl ?_
  refine s_aload_n (pc := 1) 0 dJ31_copyOf_2_1 rfl rfl ?_
  refine s_alen (pc := 2) dJ31_copyOf_2_2 zarrs_ok (fun x1 => ?_)
  refine s_icmp_ne (pc := 3) (tgt := 14) dJ31_copyOf_2_3 (by decide) (fun _ => ?_) (fun _ => ?_)
  · refine s_iload_n (pc := 14) 1 dJ31_copyOf_2_14 rfl rfl ?_
    refine s_newa (pc := 15) (ty := .long) dJ31_copyOf_2_15 rfl ⟨rfl, by decide⟩ q412 rfl rfl (fun r2 h3 => ?_)
    refine s_ast_n (pc := 17) (L2 := [(0, va_rf v0), (1, .int v1)]) [0, 1] dJ31_copyOf_2_17 rfl (by decide) rfl rfl (zcB (j := 1) rfl rfl rfl) ?_
    refine s_aload_n (pc := 18) 1 dJ31_copyOf_2_18 rfl rfl ?_
    refine s_iconst (pc := 19) (v := 0) dJ31_copyOf_2_19 (by decide) ?_
    refine s_aload_n (pc := 20) 0 dJ31_copyOf_2_20 rfl rfl ?_
    refine s_iconst (pc := 21) (v := 0) dJ31_copyOf_2_21 (by decide) ?_
    refine s_aload_n (pc := 22) 1 dJ31_copyOf_2_22 rfl rfl ?_
    refine s_alen (pc := 23) dJ31_copyOf_2_23 zarrs_ok (fun x4 => ?_)
    refine s_iload_n (pc := 24) 2 dJ31_copyOf_2_24 rfl rfl ?_
    refine s_callSS (pc := 25) (np := 2) (as := [.int x4, .int v1]) (rest := [.int 0, va_rf r2, .int 0, va_rf v0]) dJ31_copyOf_2_25 (c_J11_min (by decide) x4 v1 h3) rfl rfl q898 q377 rfl (by simp [zcat_rf, zcat_i, zcat_l, zcat_f, zcat_d]) (zkI (fun x5 h6 => ?_)) zxo
    exact zS_none
  · refine s_aload_n (pc := 6) 0 dJ31_copyOf_2_6 rfl rfl ?_
    exact zS_none
theorem c_J31_copyOf_2 {d0 : Nat} (hd0 : 2 < d0) (v0 : Option Nat) (v1 : Int32) (h : zH) : zCal D z d0 h yJ31_copyOf_2 [va_rf v0, .int v1] (f_J31_copyOf_2 v0 v1 h) :=
  ⟨cJ31_copyOf_2, 3, (some (.array (.long))), [], 2, (show lv_args 0 [va_rf v0, .int v1] = [(0, va_rf v0), (1, .int v1)] by simp [lv_args, zcat_rf, zcat_i, zcat_l, zcat_f, zcat_d]) ▸ w_J31_copyOf_2 v0 v1 h, (plainFor_of_name (by decide)), by simp [lg_sl, zcat_rf, zcat_i, zcat_l, zcat_f, zcat_d], q1112, q129, hd0, by decide, by decide⟩
theorem w_J12_ensureCapacity (v0 : Option Nat) (v1 : Int32) (h : zH) : zS D z yJ12_ensureCapacity cJ12_ensureCapacity 3 none [] 3 h 0 [(0, va_rf v0), (1, .int v1)] [] (f_J12_ensureCapacity v0 v1 h) := by
  unfold f_J12_ensureCapacity
  refine s_aload_n (pc := 0) 0 dJ12_ensureCapacity_0 rfl rfl ?_
  refine s_gR (pc := 1) dJ12_ensureCapacity_1 gf_J12_11 (fun r1 => ?_)
  refine s_alen (pc := 4) dJ12_ensureCapacity_4 zarrs_ok (fun x2 => ?_)
  refine s_iload_n (pc := 5) 1 dJ12_ensureCapacity_5 rfl rfl ?_
  refine s_icmp_ge (pc := 6) (tgt := 38) dJ12_ensureCapacity_6 (by decide) (fun _ => ?_) (fun _ => ?_)
  · exact s_vret (pc := 38) dJ12_ensureCapacity_38 rfl
  · refine s_iconst (pc := 9) (v := 2) dJ12_ensureCapacity_9 (by decide) ?_
    refine s_aload_n (pc := 10) 0 dJ12_ensureCapacity_10 rfl rfl ?_
    refine s_gR (pc := 11) dJ12_ensureCapacity_11 gf_J12_11 (fun r3 => ?_)
    refine s_alen (pc := 14) dJ12_ensureCapacity_14 zarrs_ok (fun x4 => ?_)
    refine s_imul (pc := 15) dJ12_ensureCapacity_15 ?_
    refine s_iload_n (pc := 16) 1 dJ12_ensureCapacity_16 rfl rfl ?_
    refine s_callSS (pc := 17) (np := 2) (as := [.int ((2 : Int32) * x4), .int v1]) (rest := []) dJ12_ensureCapacity_17 (c_J11_max (by decide) ((2 : Int32) * x4) v1 h) rfl rfl q1109 q881 rfl (by decide) (zkI (fun x5 h6 => ?_)) zxo
    refine s_ist_n (pc := 20) (L2 := [(0, va_rf v0)]) [0] dJ12_ensureCapacity_20 rfl (by decide) rfl rfl (zcA rfl) ?_
    refine s_aload_n (pc := 21) 1 dJ12_ensureCapacity_21 rfl rfl ?_
    refine s_aload_n (pc := 22) 1 dJ12_ensureCapacity_22 rfl rfl ?_
    refine s_gR (pc := 23) dJ12_ensureCapacity_23 gf_J12_11 (fun r7 => ?_)
    refine s_iload_n (pc := 26) 0 dJ12_ensureCapacity_26 rfl rfl ?_
    refine s_callSS (pc := 27) (np := 2) (as := [va_rf r7, .int x5]) (rest := [va_rf v0]) dJ12_ensureCapacity_27 (c_J31_copyOf_2 (by decide) r7 x5 h6) rfl rfl q1110 q1111 rfl (by simp [zcat_rf, zcat_i, zcat_l, zcat_f, zcat_d]) (zkR (fun r8 h9 => ?_)) zxo
    refine s_putA (pc := 30) dJ12_ensureCapacity_30 pf_J12_11 (fun h10 => ?_)
    refine s_aload_n (pc := 33) 1 dJ12_ensureCapacity_33 rfl rfl ?_
    refine s_iconst (pc := 34) (v := 0) dJ12_ensureCapacity_34 (by decide) ?_
    refine s_putN (pc := 35) dJ12_ensureCapacity_35 pf_J12_24 (fun h11 => ?_)
    exact s_vret (pc := 38) dJ12_ensureCapacity_38 rfl
theorem c_J12_ensureCapacity {d0 : Nat} (hd0 : 3 < d0) (v0 : Option Nat) (v1 : Int32) (h : zH) : zCal D z d0 h yJ12_ensureCapacity [va_rf v0, .int v1] (f_J12_ensureCapacity v0 v1 h) :=
  ⟨cJ12_ensureCapacity, 3, none, [], 3, (show lv_args 0 [va_rf v0, .int v1] = [(0, va_rf v0), (1, .int v1)] by simp [lv_args, zcat_rf, zcat_i, zcat_l, zcat_f, zcat_d]) ▸ w_J12_ensureCapacity v0 v1 h, (plainFor_of_name (by decide)), by simp [lg_sl, zcat_rf, zcat_i, zcat_l, zcat_f, zcat_d], q1108, q109, hd0, by decide, by decide⟩
theorem w_J12_expandTo (v0 : Option Nat) (v1 : Int32) (h : zH) : zS D z yJ12_expandTo cJ12_expandTo 3 none [] 4 h 0 [(0, va_rf v0), (1, .int v1)] [] (f_J12_expandTo v0 v1 h) := by
  unfold f_J12_expandTo
  refine s_iload_n (pc := 0) 1 dJ12_expandTo_0 rfl rfl ?_
  refine s_iconst (pc := 1) (v := 1) dJ12_expandTo_1 (by decide) ?_
  refine s_iadd (pc := 2) dJ12_expandTo_2 ?_
  refine s_nm (pc := 3) Value.int (fun x1 => ?_)
  refine s_ist_n (pc := 3) (L2 := [(0, va_rf v0)]) [0] dJ12_expandTo_3 rfl (by decide) rfl rfl (zcA rfl) ?_
  refine s_aload_n (pc := 4) 1 dJ12_expandTo_4 rfl rfl ?_
  refine s_gI (pc := 5) dJ12_expandTo_5 gf_J12_7 (fun x2 => ?_)
  refine s_iload_n (pc := 8) 0 dJ12_expandTo_8 rfl rfl ?_
  refine s_icmp_ge (pc := 9) (tgt := 22) dJ12_expandTo_9 (by decide) (fun _ => ?_) (fun _ => ?_)
  · exact s_vret (pc := 22) dJ12_expandTo_22 rfl
  · refine s_aload_n (pc := 12) 1 dJ12_expandTo_12 rfl rfl ?_
    refine s_iload_n (pc := 13) 0 dJ12_expandTo_13 rfl rfl ?_
    refine zS_ite (fun ht => ?_) (fun _ => zS_none)
    refine s_callV (pc := 14) (np := 1) (as := [.int x1]) (rest := []) dJ12_expandTo_14 ht (q := (RJ12, TJ12, 3)) rfl (c_J12_ensureCapacity (by decide) v0 x1 h) rfl rfl q1105 q1107 qs3 rfl (by decide) (zkV (fun h3 => ?_)) zxo
    refine s_aload_n (pc := 17) 1 dJ12_expandTo_17 rfl rfl ?_
    refine s_iload_n (pc := 18) 0 dJ12_expandTo_18 rfl rfl ?_
    refine s_putI (pc := 19) dJ12_expandTo_19 pf_J12_7 (fun h4 => ?_)
    exact s_vret (pc := 22) dJ12_expandTo_22 rfl
theorem c_J12_expandTo {d0 : Nat} (hd0 : 4 < d0) (v0 : Option Nat) (v1 : Int32) (h : zH) : zCal D z d0 h yJ12_expandTo [va_rf v0, .int v1] (f_J12_expandTo v0 v1 h) :=
  ⟨cJ12_expandTo, 3, none, [], 4, (show lv_args 0 [va_rf v0, .int v1] = [(0, va_rf v0), (1, .int v1)] by simp [lv_args, zcat_rf, zcat_i, zcat_l, zcat_f, zcat_d]) ▸ w_J12_expandTo v0 v1 h, (plainFor_of_name (by decide)), by simp [lg_sl, zcat_rf, zcat_i, zcat_l, zcat_f, zcat_d], q1104, q109, hd0, by decide, by decide⟩
theorem w_J12_checkInvariants_62  (h : zH) : zS D z yJ12_checkInvariants cJ12_checkInvariants 1 none [] 1 h 62 [] [] (f_J12_checkInvariants_62 h) := by
  unfold f_J12_checkInvariants_62
  exact zS_none
theorem w_J12_checkInvariants_70 (a0 : Option Nat) (h : zH) : zS D z yJ12_checkInvariants cJ12_checkInvariants 1 none [] 1 h 70 [(0, va_rf a0)] [] (f_J12_checkInvariants_70 a0 h) := by
  unfold f_J12_checkInvariants_70
  refine s_getsI (pc := 70) (n := "$assertionsDisabled") (v := 1) dJ12_checkInvariants_70 (List.mem_of_getElem? (i := 8) rfl) q1123 ?_
  refine s_if_ne (pc := 73) (tgt := 110) dJ12_checkInvariants_73 (by decide) (fun _ => ?_) (fun _ => ?_)
  · exact s_vret (pc := 110) dJ12_checkInvariants_110 rfl
  · refine s_aload_n (pc := 76) 0 dJ12_checkInvariants_76 rfl rfl ?_
    refine s_gI (pc := 77) dJ12_checkInvariants_77 gf_J12_7 (fun x9 => ?_)
    refine s_aload_n (pc := 80) 0 dJ12_checkInvariants_80 rfl rfl ?_
    refine s_gR (pc := 81) dJ12_checkInvariants_81 gf_J12_11 (fun r10 => ?_)
    refine s_alen (pc := 84) dJ12_checkInvariants_84 zarrs_ok (fun x11 => ?_)
    refine s_icmp_eq (pc := 85) (tgt := 110) dJ12_checkInvariants_85 (by decide) (fun _ => ?_) (fun _ => ?_)
    · exact s_vret (pc := 110) dJ12_checkInvariants_110 rfl
    · refine s_aload_n (pc := 88) 0 dJ12_checkInvariants_88 rfl rfl ?_
      refine s_gR (pc := 89) dJ12_checkInvariants_89 gf_J12_11 (fun r12 => ?_)
      refine s_aload_n (pc := 92) 0 dJ12_checkInvariants_92 rfl rfl ?_
      refine s_gI (pc := 93) dJ12_checkInvariants_93 gf_J12_7 (fun x13 => ?_)
      refine s_lald (pc := 96) dJ12_checkInvariants_96 (ztc rfl zt0) (fun x14 => ?_)
      refine s_lconst (pc := 97) (v := 0) dJ12_checkInvariants_97 (by decide) ?_
      refine s_lcmp (pc := 98) dJ12_checkInvariants_98 ?_
      refine s_if_eq (pc := 99) (tgt := 110) dJ12_checkInvariants_99 (by decide) (fun _ => ?_) (fun _ => ?_)
      · exact s_vret (pc := 110) dJ12_checkInvariants_110 rfl
      · exact zS_none
theorem w_J12_checkInvariants_37 (a0 : Option Nat) (h : zH) : zS D z yJ12_checkInvariants cJ12_checkInvariants 1 none [] 1 h 37 [(0, va_rf a0)] [] (f_J12_checkInvariants_37 a0 h) := by
  unfold f_J12_checkInvariants_37
  refine s_getsI (pc := 37) (n := "$assertionsDisabled") (v := 1) dJ12_checkInvariants_37 (List.mem_of_getElem? (i := 8) rfl) q1123 ?_
  refine s_if_ne (pc := 40) (tgt := 70) dJ12_checkInvariants_40 (by decide) (fun _ => ?_) (fun _ => ?_)
  · exact s_sub (pc := 70) [0] rfl (w_J12_checkInvariants_70 a0 h)
  · refine s_aload_n (pc := 43) 0 dJ12_checkInvariants_43 rfl rfl ?_
    refine s_gI (pc := 44) dJ12_checkInvariants_44 gf_J12_7 (fun x5 => ?_)
    refine s_if_lt (pc := 47) (tgt := 62) dJ12_checkInvariants_47 (by decide) (fun _ => ?_) (fun _ => ?_)
    · exact s_sub (pc := 62) [] rfl (w_J12_checkInvariants_62 h)
    · refine s_aload_n (pc := 50) 0 dJ12_checkInvariants_50 rfl rfl ?_
      refine s_gI (pc := 51) dJ12_checkInvariants_51 gf_J12_7 (fun x6 => ?_)
      refine s_aload_n (pc := 54) 0 dJ12_checkInvariants_54 rfl rfl ?_
      refine s_gR (pc := 55) dJ12_checkInvariants_55 gf_J12_11 (fun r7 => ?_)
      refine s_alen (pc := 58) dJ12_checkInvariants_58 zarrs_ok (fun x8 => ?_)
      refine s_icmp_le (pc := 59) (tgt := 70) dJ12_checkInvariants_59 (by decide) (fun _ => ?_) (fun _ => ?_)
      · exact s_sub (pc := 70) [0] rfl (w_J12_checkInvariants_70 a0 h)
      · exact s_sub (pc := 62) [] rfl (w_J12_checkInvariants_62 h)
theorem w_J12_checkInvariants (v0 : Option Nat) (h : zH) : zS D z yJ12_checkInvariants cJ12_checkInvariants 1 none [] 1 h 0 [(0, va_rf v0)] [] (f_J12_checkInvariants v0 h) := by
  unfold f_J12_checkInvariants
  refine s_getsI (pc := 0) (n := "$assertionsDisabled") (v := 1) dJ12_checkInvariants_0 (List.mem_of_getElem? (i := 8) rfl) q1123 ?_
  refine s_if_ne (pc := 3) (tgt := 37) dJ12_checkInvariants_3 (by decide) (fun _ => ?_) (fun _ => ?_)
  · exact s_sub (pc := 37) [0] rfl (w_J12_checkInvariants_37 v0 h)
  · refine s_aload_n (pc := 6) 0 dJ12_checkInvariants_6 rfl rfl ?_
    refine s_gI (pc := 7) dJ12_checkInvariants_7 gf_J12_7 (fun x1 => ?_)
    refine s_if_eq (pc := 10) (tgt := 37) dJ12_checkInvariants_10 (by decide) (fun _ => ?_) (fun _ => ?_)
    · exact s_sub (pc := 37) [0] rfl (w_J12_checkInvariants_37 v0 h)
    · refine s_aload_n (pc := 13) 0 dJ12_checkInvariants_13 rfl rfl ?_
      refine s_gR (pc := 14) dJ12_checkInvariants_14 gf_J12_11 (fun r2 => ?_)
      refine s_aload_n (pc := 17) 0 dJ12_checkInvariants_17 rfl rfl ?_
      refine s_gI (pc := 18) dJ12_checkInvariants_18 gf_J12_7 (fun x3 => ?_)
      refine s_iconst (pc := 21) (v := 1) dJ12_checkInvariants_21 (by decide) ?_
      refine s_isub (pc := 22) dJ12_checkInvariants_22 ?_
      refine s_lald (pc := 23) dJ12_checkInvariants_23 (ztc rfl zt0) (fun x4 => ?_)
      refine s_lconst (pc := 24) (v := 0) dJ12_checkInvariants_24 (by decide) ?_
      refine s_lcmp (pc := 25) dJ12_checkInvariants_25 ?_
      refine s_if_ne (pc := 26) (tgt := 37) dJ12_checkInvariants_26 (by decide) (fun _ => ?_) (fun _ => ?_)
      · exact s_sub (pc := 37) [0] rfl (w_J12_checkInvariants_37 v0 h)
      · exact zS_none
theorem c_J12_checkInvariants {d0 : Nat} (hd0 : 1 < d0) (v0 : Option Nat) (h : zH) : zCal D z d0 h yJ12_checkInvariants [va_rf v0] (f_J12_checkInvariants v0 h) :=
  ⟨cJ12_checkInvariants, 1, none, [], 1, (show lv_args 0 [va_rf v0] = [(0, va_rf v0)] by simp [lv_args, zcat_rf, zcat_i, zcat_l, zcat_f, zcat_d]) ▸ w_J12_checkInvariants v0 h, (plainFor_of_name (by decide)), by simp [lg_sl, zcat_rf, zcat_i, zcat_l, zcat_f, zcat_d], q1122, q109, hd0, by decide, by decide⟩
theorem w_J12_set_119 (a0 : Option Nat) (h : zH) : zS D z yJ12_set cJ12_set 10 none [] 5 h 119 [(0, va_rf a0)] [] (f_J12_set_119 a0 h) := by
  unfold f_J12_set_119
  refine s_aload_n (pc := 119) 0 dJ12_set_119 rfl rfl ?_
  refine zS_ite (fun ht => ?_) (fun _ => zS_none)
  refine s_callV (pc := 120) (np := 0) (as := []) (rest := []) dJ12_set_120 ht (q := (RJ12, TJ12, 3)) rfl (c_J12_checkInvariants (by decide) a0 h) rfl rfl q1119 q1121 qs4 rfl (by decide) (zkV (fun h16 => ?_)) zxo
  exact s_vret (pc := 123) dJ12_set_123 rfl
theorem w_J12_set_107 (a0 : Option Nat) (a4 : Int32) (a7 : Int64) (h : zH) : zS D z yJ12_set cJ12_set 10 none [] 5 h 107 [(0, va_rf a0), (4, .int a4), (7, .long a7)] [] (f_J12_set_107 a0 a4 a7 h) := by
  unfold f_J12_set_107
  refine s_aload_n (pc := 107) 0 dJ12_set_107 rfl rfl ?_
  refine s_gR (pc := 108) dJ12_set_108 gf_J12_11 (fun r20 => ?_)
  refine s_iload (pc := 111) 1 dJ12_set_111 rfl ?_
  refine s_dup2_11 (pc := 113) dJ12_set_113 rfl (zcat_rf _) ?_
  refine s_lald (pc := 114) dJ12_set_114 (ztc rfl zt0) (fun x21 => ?_)
  refine s_lload (pc := 115) 2 dJ12_set_115 rfl ?_
  refine s_lor (pc := 117) dJ12_set_117 ?_
  refine s_last (pc := 118) dJ12_set_118 (ztc rfl zt0) (fun h22 => ?_)
  exact s_sub (pc := 119) [0] rfl (w_J12_set_119 a0 h22)
theorem w_J12_set_84 : ∀ (n : Nat) (a0 : Option Nat) (a4 : Int32) (a7 : Int64) (a9 : Int32) (h : zH), zS D z yJ12_set cJ12_set 10 none [] 5 h 84 [(0, va_rf a0), (4, .int a4), (7, .long a7), (9, .int a9)] [] (f_J12_set_84 n a0 a4 a7 a9 h) := by
  intro n
  induction n with
  | zero => intros; exact zS_none
  | succ n ih =>
    intro a0 a4 a7 a9 h
    rw [f_J12_set_84.eq_2]
    refine s_iload (pc := 84) 3 dJ12_set_84 rfl ?_
    refine s_iload (pc := 86) 1 dJ12_set_86 rfl ?_
    refine s_icmp_ge (pc := 88) (tgt := 107) dJ12_set_88 (by decide) (fun _ => ?_) (fun _ => ?_)
    · exact s_sub (pc := 107) [0, 1, 2] rfl (w_J12_set_107 a0 a4 a7 h)
    · refine s_aload_n (pc := 91) 0 dJ12_set_91 rfl rfl ?_
      refine s_gR (pc := 92) dJ12_set_92 gf_J12_11 (fun r17 => ?_)
      refine s_iload (pc := 95) 3 dJ12_set_95 rfl ?_
      refine s_ldc2 (pc := 97) (v := -1) dJ12_set_97 q1118 ?_
      refine s_last (pc := 100) dJ12_set_100 (ztc rfl zt0) (fun h18 => ?_)
      refine s_inc (pc := 101) (v := 1) (L2 := [(0, va_rf a0), (4, .int a4), (7, .long a7)]) 3 [0, 1, 2] dJ12_set_101 rfl (by decide) (by decide) rfl rfl (zcA rfl) (fun x19 => ?_)
      refine s_goto (pc := 104) (tgt := 84) dJ12_set_104 (by decide) ?_
      exact s_sub (pc := 84) [1, 2, 3, 0] rfl (ih a0 a4 a7 x19 h18)
theorem w_J12_set (v0 : Option Nat) (v1 : Int32) (v2 : Int32) (h : zH) : zS D z yJ12_set cJ12_set 10 none [] 5 h 0 [(0, va_rf v0), (1, .int v1), (2, .int v2)] [] (f_J12_set v0 v1 v2 h) := by
  unfold f_J12_set
  refine s_iload_n (pc := 0) 1 dJ12_set_0 rfl rfl ?_
  refine s_iload_n (pc := 1) 2 dJ12_set_1 rfl rfl ?_
  refine s_callSS (pc := 2) (np := 2) (as := [.int v1, .int v2]) (rest := []) dJ12_set_2 (c_J12_checkRange (by decide) v1 v2 h) rfl rfl q843 q844 rfl (by decide) (zkV (fun h1 => ?_)) zxo
  refine s_iload_n (pc := 5) 1 dJ12_set_5 rfl rfl ?_
  refine s_iload_n (pc := 6) 2 dJ12_set_6 rfl rfl ?_
  refine s_icmp_ne (pc := 7) (tgt := 11) dJ12_set_7 (by decide) (fun _ => ?_) (fun _ => ?_)
  · refine s_iload_n (pc := 11) 1 dJ12_set_11 rfl rfl ?_
    refine s_callSS (pc := 12) (np := 1) (as := [.int v1]) (rest := []) dJ12_set_12 (c_J12_wordIndex (by decide) v1 h1) rfl rfl q399 q400 rfl (by decide) (zkI (fun x2 h3 => ?_)) zxo
    refine s_ist_n (pc := 15) (L2 := [(0, va_rf v0), (1, .int v1), (2, .int v2)]) [0, 1, 2] dJ12_set_15 rfl (by decide) rfl rfl (zcB (j := 2) rfl rfl rfl) ?_
    refine s_iload_n (pc := 16) 3 dJ12_set_16 rfl rfl ?_
    refine s_iconst (pc := 17) (v := 1) dJ12_set_17 (by decide) ?_
    refine s_isub (pc := 18) dJ12_set_18 ?_
    refine s_callSS (pc := 19) (np := 1) (as := [.int (v2 - 1)]) (rest := []) dJ12_set_19 (c_J12_wordIndex (by decide) (v2 - 1) h3) rfl rfl q399 q400 rfl (by decide) (zkI (fun x4 h5 => ?_)) zxo
    refine s_ist (pc := 22) (L2 := [(3, .int x2), (0, va_rf v0), (1, .int v1), (2, .int v2)]) [0, 1, 2, 3] dJ12_set_22 (by decide) rfl rfl (zcB (j := 0) rfl rfl rfl) ?_
    refine s_aload_n (pc := 24) 2 dJ12_set_24 rfl rfl ?_
    refine s_iload (pc := 25) 0 dJ12_set_25 rfl ?_
    refine zS_ite (fun ht => ?_) (fun _ => zS_none)
    refine s_callV (pc := 27) (np := 1) (as := [.int x4]) (rest := []) dJ12_set_27 ht (q := (RJ12, TJ12, 3)) rfl (c_J12_expandTo (by decide) v0 x4 h5) rfl rfl q1101 q1103 qs2 rfl (by decide) (zkV (fun h6 => ?_)) zxo
    refine s_ldc2 (pc := 30) (v := -1) dJ12_set_30 q1118 ?_
    refine s_iload_n (pc := 33) 3 dJ12_set_33 rfl rfl ?_
    refine s_lshl (pc := 34) dJ12_set_34 ?_
    refine s_nm (pc := 35) Value.long (fun x7 => ?_)
    refine s_lst (pc := 35) (L2 := [(4, .int x4), (3, .int x2), (0, va_rf v0), (2, .int v2)]) [0, 1, 2, 4] dJ12_set_35 (by decide) rfl rfl (zcB (j := 0) rfl rfl rfl) ?_
    refine s_ldc2 (pc := 37) (v := -1) dJ12_set_37 q1118 ?_
    refine s_iload_n (pc := 40) 4 dJ12_set_40 rfl rfl ?_
    refine s_ineg (pc := 41) dJ12_set_41 ?_
    refine s_lushr (pc := 42) dJ12_set_42 ?_
    refine s_nm (pc := 43) Value.long (fun x8 => ?_)
    refine s_lst (pc := 43) (L2 := [(5, .long x7), (4, .int x4), (3, .int x2), (0, va_rf v0)]) [0, 1, 2, 3] dJ12_set_43 (by decide) rfl rfl (zcA rfl) ?_
    refine s_iload_n (pc := 45) 3 dJ12_set_45 rfl rfl ?_
    refine s_iload (pc := 46) 2 dJ12_set_46 rfl ?_
    refine s_icmp_ne (pc := 48) (tgt := 68) dJ12_set_48 (by decide) (fun _ => ?_) (fun _ => ?_)
    · refine s_aload_n (pc := 68) 4 dJ12_set_68 rfl rfl ?_
      refine s_gR (pc := 69) dJ12_set_69 gf_J12_11 (fun r9 => ?_)
      refine s_iload_n (pc := 72) 3 dJ12_set_72 rfl rfl ?_
      refine s_dup2_11 (pc := 73) dJ12_set_73 rfl (zcat_rf _) ?_
      refine s_lald (pc := 74) dJ12_set_74 (ztc rfl zt0) (fun x10 => ?_)
      refine s_lload (pc := 75) 1 dJ12_set_75 rfl ?_
      refine s_lor (pc := 77) dJ12_set_77 ?_
      refine s_last (pc := 78) dJ12_set_78 (ztc rfl zt0) (fun h11 => ?_)
      refine s_iload_n (pc := 79) 3 dJ12_set_79 rfl rfl ?_
      refine s_iconst (pc := 80) (v := 1) dJ12_set_80 (by decide) ?_
      refine s_iadd (pc := 81) dJ12_set_81 ?_
      refine s_nm (pc := 82) Value.int (fun x12 => ?_)
      refine s_ist (pc := 82) (L2 := [(7, .long x8), (4, .int x4), (0, va_rf v0)]) [0, 2, 4] dJ12_set_82 (by decide) rfl rfl (zcA rfl) ?_
      exact s_sub (pc := 84) [3, 2, 1, 0] rfl (w_J12_set_84 zfuel v0 x4 x8 x12 h11)
    · refine s_aload_n (pc := 51) 4 dJ12_set_51 rfl rfl ?_
      refine s_gR (pc := 52) dJ12_set_52 gf_J12_11 (fun r13 => ?_)
      refine s_iload_n (pc := 55) 3 dJ12_set_55 rfl rfl ?_
      refine s_dup2_11 (pc := 56) dJ12_set_56 rfl (zcat_rf _) ?_
      refine s_lald (pc := 57) dJ12_set_57 (ztc rfl zt0) (fun x14 => ?_)
      refine s_lload (pc := 58) 1 dJ12_set_58 rfl ?_
      refine s_lload (pc := 60) 0 dJ12_set_60 rfl ?_
      refine s_land (pc := 62) dJ12_set_62 ?_
      refine s_lor (pc := 63) dJ12_set_63 ?_
      refine s_last (pc := 64) dJ12_set_64 (ztc rfl zt0) (fun h15 => ?_)
      refine s_goto (pc := 65) (tgt := 119) dJ12_set_65 (by decide) ?_
      exact s_sub (pc := 119) [4] rfl (w_J12_set_119 v0 h15)
  · exact s_vret (pc := 10) dJ12_set_10 rfl
theorem c_J12_set {d0 : Nat} (hd0 : 5 < d0) (v0 : Option Nat) (v1 : Int32) (v2 : Int32) (h : zH) : zCal D z d0 h yJ12_set [va_rf v0, .int v1, .int v2] (f_J12_set v0 v1 v2 h) :=
  ⟨cJ12_set, 10, none, [], 5, (show lv_args 0 [va_rf v0, .int v1, .int v2] = [(0, va_rf v0), (1, .int v1), (2, .int v2)] by simp [lv_args, zcat_rf, zcat_i, zcat_l, zcat_f, zcat_d]) ▸ w_J12_set v0 v1 v2 h, (plainFor_of_name (by decide)), by simp [lg_sl, zcat_rf, zcat_i, zcat_l, zcat_f, zcat_d], q842, q109, hd0, by decide, by decide⟩
end WW4
