set_option maxRecDepth 100000
theorem zk_0 : zLk (zSh siteWord_1_1).2.2.2 "FloatingDock" ⟨#[0x2a, 0xb4, 0x00, 0x0f, 0x2b, 0x1c, 0x1d, 0xb8, 0x00, 0x17, 0xac]⟩ 4 [15] 23 = true := by decide +kernel
theorem zc_0 : zLc ⟨#[0x2a, 0xb4, 0x00, 0x0f, 0x2b, 0x1c, 0x1d, 0xb8, 0x00, 0x17, 0xac]⟩ [15] [true, false, false] 23 true = true := by decide +kernel
theorem zk_1 : zLk (zSh siteWord_1_2).2.2.2 "FloatingDock" ⟨#[0x2a, 0xb4, 0x00, 0x0f, 0x2b, 0x1c, 0x1d, 0xb8, 0x00, 0x17, 0xac]⟩ 4 [15] 23 = true := by decide +kernel
theorem zc_1 : zLc ⟨#[0x2a, 0xb4, 0x00, 0x0f, 0x2b, 0x1c, 0x1d, 0xb8, 0x00, 0x17, 0xac]⟩ [15] [true, false, false] 23 true = true := by decide +kernel
theorem zk_2 : zLk (zSh siteWord_1_3).2.2.2 "FloatingDock" ⟨#[0x2a, 0xb4, 0x00, 0x11, 0x2a, 0xb4, 0x00, 0x13, 0x2a, 0xb4, 0x00, 0x15, 0x2b, 0x1c, 0x1d, 0xb8, 0x00, 0x1d, 0xac]⟩ 4 [17, 19, 21] 29 = true := by decide +kernel
theorem zc_2 : zLc ⟨#[0x2a, 0xb4, 0x00, 0x11, 0x2a, 0xb4, 0x00, 0x13, 0x2a, 0xb4, 0x00, 0x15, 0x2b, 0x1c, 0x1d, 0xb8, 0x00, 0x1d, 0xac]⟩ [17, 19, 21] [true, false, false] 29 true = true := by decide +kernel
theorem zk_3 : zLk (zSh siteWord_1_4).2.2.2 "FloatingDock" ⟨#[0x2b, 0x1c, 0xb8, 0x00, 0x11, 0xac]⟩ 3 [] 17 = true := by decide +kernel
theorem zc_3 : zLc ⟨#[0x2b, 0x1c, 0xb8, 0x00, 0x11, 0xac]⟩ [] [true, false] 17 true = true := by decide +kernel
theorem zk_4 : zLk (zSh siteWord_1_5).2.2.2 "FloatingDock" ⟨#[0x2b, 0x1c, 0xb8, 0x00, 0x11, 0xac]⟩ 3 [] 17 = true := by decide +kernel
theorem zc_4 : zLc ⟨#[0x2b, 0x1c, 0xb8, 0x00, 0x11, 0xac]⟩ [] [true, false] 17 true = true := by decide +kernel
theorem zk_5 : zLk (zSh siteWord_1_6).2.2.2 "FloatingDock" ⟨#[0x2b, 0xb8, 0x00, 0x11, 0xac]⟩ 2 [] 17 = true := by decide +kernel
theorem zc_5 : zLc ⟨#[0x2b, 0xb8, 0x00, 0x11, 0xac]⟩ [] [true] 17 true = true := by decide +kernel
theorem zk_6 : zLk (zSh siteWord_1_7).2.2.2 "FloatingDock" ⟨#[0x2b, 0xb8, 0x00, 0x11, 0xac]⟩ 2 [] 17 = true := by decide +kernel
theorem zc_6 : zLc ⟨#[0x2b, 0xb8, 0x00, 0x11, 0xac]⟩ [] [true] 17 true = true := by decide +kernel
theorem zk_7 : zLk (zSh siteWord_1_8).2.2.2 "FloatingDock" ⟨#[0x2a, 0xb4, 0x00, 0x11, 0x2a, 0xb4, 0x00, 0x13, 0x2a, 0xb4, 0x00, 0x15, 0x2b, 0xb8, 0x00, 0x1d, 0xac]⟩ 2 [17, 19, 21] 29 = true := by decide +kernel
theorem zc_7 : zLc ⟨#[0x2a, 0xb4, 0x00, 0x11, 0x2a, 0xb4, 0x00, 0x13, 0x2a, 0xb4, 0x00, 0x15, 0x2b, 0xb8, 0x00, 0x1d, 0xac]⟩ [17, 19, 21] [true] 29 true = true := by decide +kernel
theorem zk_8 : zLk (zSh siteWord_1_9).2.2.2 "FloatingDock" ⟨#[0x2a, 0xb4, 0x00, 0x0f, 0x2b, 0xb8, 0x00, 0x17, 0xac]⟩ 2 [15] 23 = true := by decide +kernel
theorem zc_8 : zLc ⟨#[0x2a, 0xb4, 0x00, 0x0f, 0x2b, 0xb8, 0x00, 0x17, 0xac]⟩ [15] [true] 23 true = true := by decide +kernel
theorem zk_9 : zLk (zSh siteWord_1_10).2.2.2 "FloatingDock" ⟨#[0x2a, 0xb4, 0x00, 0x10, 0x2a, 0xb4, 0x00, 0x12, 0x2b, 0xb8, 0x00, 0x1a, 0xac]⟩ 2 [16, 18] 26 = true := by decide +kernel
theorem zc_9 : zLc ⟨#[0x2a, 0xb4, 0x00, 0x10, 0x2a, 0xb4, 0x00, 0x12, 0x2b, 0xb8, 0x00, 0x1a, 0xac]⟩ [16, 18] [true] 26 true = true := by decide +kernel
theorem zk_10 : zLk (zSh siteWord_1_11).2.2.2 "FloatingDock" ⟨#[0x2a, 0xb4, 0x00, 0x0f, 0x2b, 0xb8, 0x00, 0x17, 0xac]⟩ 2 [15] 23 = true := by decide +kernel
theorem zc_10 : zLc ⟨#[0x2a, 0xb4, 0x00, 0x0f, 0x2b, 0xb8, 0x00, 0x17, 0xac]⟩ [15] [true] 23 true = true := by decide +kernel
theorem zk_11 : zLk (zSh siteWord_1_12).2.2.2 "FloatingDock" ⟨#[0x2a, 0xb4, 0x00, 0x11, 0x2a, 0xb4, 0x00, 0x13, 0x2b, 0xb8, 0x00, 0x1b, 0xac]⟩ 2 [17, 19] 27 = true := by decide +kernel
theorem zc_11 : zLc ⟨#[0x2a, 0xb4, 0x00, 0x11, 0x2a, 0xb4, 0x00, 0x13, 0x2b, 0xb8, 0x00, 0x1b, 0xac]⟩ [17, 19] [true] 27 true = true := by decide +kernel
theorem zk_12 : zLk (zSh siteWord_1_13).2.2.2 "FloatingDock" ⟨#[0x2a, 0xb4, 0x00, 0x0f, 0x2b, 0xb8, 0x00, 0x17, 0xac]⟩ 2 [15] 23 = true := by decide +kernel
theorem zc_12 : zLc ⟨#[0x2a, 0xb4, 0x00, 0x0f, 0x2b, 0xb8, 0x00, 0x17, 0xac]⟩ [15] [true] 23 true = true := by decide +kernel
theorem zk_13 : zLk (zSh siteWord_1_14).2.2.2 "FloatingDock" ⟨#[0x2a, 0xb4, 0x00, 0x0f, 0x2b, 0xb8, 0x00, 0x17, 0xac]⟩ 2 [15] 23 = true := by decide +kernel
theorem zc_13 : zLc ⟨#[0x2a, 0xb4, 0x00, 0x0f, 0x2b, 0xb8, 0x00, 0x17, 0xac]⟩ [15] [true] 23 true = true := by decide +kernel
theorem zk_14 : zLk (zSh siteWord_1_15).2.2.2 "FloatingDock" ⟨#[0x2a, 0xb4, 0x00, 0x11, 0x2a, 0xb4, 0x00, 0x13, 0x2b, 0xb6, 0x00, 0x1b, 0xac]⟩ 2 [17, 19] 27 = true := by decide +kernel
theorem zc_14 : zLc ⟨#[0x2a, 0xb4, 0x00, 0x11, 0x2a, 0xb4, 0x00, 0x13, 0x2b, 0xb6, 0x00, 0x1b, 0xac]⟩ [17, 19] [true] 27 false = true := by decide +kernel
theorem zk_15 : zLk (zSh siteWord_1_16).2.2.2 "FloatingDock" ⟨#[0x2a, 0xb4, 0x00, 0x0f, 0x2b, 0xb8, 0x00, 0x17, 0xac]⟩ 2 [15] 23 = true := by decide +kernel
theorem zc_15 : zLc ⟨#[0x2a, 0xb4, 0x00, 0x0f, 0x2b, 0xb8, 0x00, 0x17, 0xac]⟩ [15] [true] 23 true = true := by decide +kernel
theorem zk_16 : zLk (zSh siteWord_1_17).2.2.2 "FloatingDock" ⟨#[0x2a, 0xb4, 0x00, 0x0f, 0x2b, 0xb8, 0x00, 0x17, 0xac]⟩ 2 [15] 23 = true := by decide +kernel
theorem zc_16 : zLc ⟨#[0x2a, 0xb4, 0x00, 0x0f, 0x2b, 0xb8, 0x00, 0x17, 0xac]⟩ [15] [true] 23 true = true := by decide +kernel
theorem zk_17 : zLk (zSh siteWord_1_18).2.2.2 "FloatingDock" ⟨#[0x2a, 0xb4, 0x00, 0x10, 0x2a, 0xb4, 0x00, 0x12, 0x2b, 0xb8, 0x00, 0x1a, 0xac]⟩ 2 [16, 18] 26 = true := by decide +kernel
theorem zc_17 : zLc ⟨#[0x2a, 0xb4, 0x00, 0x10, 0x2a, 0xb4, 0x00, 0x12, 0x2b, 0xb8, 0x00, 0x1a, 0xac]⟩ [16, 18] [true] 26 true = true := by decide +kernel
theorem zk_18 : zLk (zSh siteWord_1_19).2.2.2 "FloatingDock$Parser" ⟨#[0x2a, 0xb4, 0x00, 0x11, 0x2a, 0xb4, 0x00, 0x13, 0x2a, 0xb4, 0x00, 0x15, 0x2b, 0xb8, 0x00, 0x1d, 0xac]⟩ 2 [17, 19, 21] 29 = true := by decide +kernel
theorem zc_18 : zLc ⟨#[0x2a, 0xb4, 0x00, 0x11, 0x2a, 0xb4, 0x00, 0x13, 0x2a, 0xb4, 0x00, 0x15, 0x2b, 0xb8, 0x00, 0x1d, 0xac]⟩ [17, 19, 21] [true] 29 true = true := by decide +kernel
theorem zk_19 : zLk (zSh siteWord_1_20).2.2.2 "FloatingDock$Parser" ⟨#[0x2a, 0xb4, 0x00, 0x10, 0x2a, 0xb4, 0x00, 0x12, 0x2b, 0xb8, 0x00, 0x1a, 0xac]⟩ 2 [16, 18] 26 = true := by decide +kernel
theorem zc_19 : zLc ⟨#[0x2a, 0xb4, 0x00, 0x10, 0x2a, 0xb4, 0x00, 0x12, 0x2b, 0xb8, 0x00, 0x1a, 0xac]⟩ [16, 18] [true] 26 true = true := by decide +kernel
theorem zk_20 : zLk (zSh siteWord_1_21).2.2.2 "FloatingDock$Parser" ⟨#[0x2a, 0xb4, 0x00, 0x10, 0x2a, 0xb4, 0x00, 0x12, 0x2b, 0xb8, 0x00, 0x1a, 0xac]⟩ 2 [16, 18] 26 = true := by decide +kernel
theorem zc_20 : zLc ⟨#[0x2a, 0xb4, 0x00, 0x10, 0x2a, 0xb4, 0x00, 0x12, 0x2b, 0xb8, 0x00, 0x1a, 0xac]⟩ [16, 18] [true] 26 true = true := by decide +kernel
theorem zk_21 : zLk (zSh siteWord_1_22).2.2.2 "FloatingDock$Parser" ⟨#[0x2a, 0xb4, 0x00, 0x0f, 0x2b, 0xb8, 0x00, 0x17, 0xac]⟩ 2 [15] 23 = true := by decide +kernel
theorem zc_21 : zLc ⟨#[0x2a, 0xb4, 0x00, 0x0f, 0x2b, 0xb8, 0x00, 0x17, 0xac]⟩ [15] [true] 23 true = true := by decide +kernel
theorem zk_22 : zLk (zSh siteWord_1_23).2.2.2 "FloatingDock$Parser" ⟨#[0x2b, 0xb8, 0x00, 0x11, 0xac]⟩ 2 [] 17 = true := by decide +kernel
theorem zc_22 : zLc ⟨#[0x2b, 0xb8, 0x00, 0x11, 0xac]⟩ [] [true] 17 true = true := by decide +kernel
theorem zk_23 : zLk (zSh siteWord_1_24).2.2.2 "FloatingDock$Parser" ⟨#[0x2b, 0xb8, 0x00, 0x11, 0xac]⟩ 2 [] 17 = true := by decide +kernel
theorem zc_23 : zLc ⟨#[0x2b, 0xb8, 0x00, 0x11, 0xac]⟩ [] [true] 17 true = true := by decide +kernel
theorem zk_24 : zLk (zSh siteWord_1_25).2.2.2 "FloatingDock$Parser" ⟨#[0x2a, 0xb4, 0x00, 0x0f, 0x2b, 0xb8, 0x00, 0x17, 0xac]⟩ 2 [15] 23 = true := by decide +kernel
theorem zc_24 : zLc ⟨#[0x2a, 0xb4, 0x00, 0x0f, 0x2b, 0xb8, 0x00, 0x17, 0xac]⟩ [15] [true] 23 true = true := by decide +kernel
theorem zk_25 : zLk (zSh siteWord_1_26).2.2.2 "FloatingDock$Parser" ⟨#[0x2a, 0xb4, 0x00, 0x0f, 0x2b, 0xb8, 0x00, 0x17, 0xac]⟩ 2 [15] 23 = true := by decide +kernel
theorem zc_25 : zLc ⟨#[0x2a, 0xb4, 0x00, 0x0f, 0x2b, 0xb8, 0x00, 0x17, 0xac]⟩ [15] [true] 23 true = true := by decide +kernel
theorem zk_26 : zLk (zSh siteWord_1_27).2.2.2 "FloatingDock$Parser" ⟨#[0x2a, 0xb4, 0x00, 0x0f, 0x2b, 0xb8, 0x00, 0x17, 0xac]⟩ 2 [15] 23 = true := by decide +kernel
theorem zc_26 : zLc ⟨#[0x2a, 0xb4, 0x00, 0x0f, 0x2b, 0xb8, 0x00, 0x17, 0xac]⟩ [15] [true] 23 true = true := by decide +kernel
theorem zk_27 : zLk (zSh siteWord_1_28).2.2.2 "FloatingDock$Parser" ⟨#[0x2a, 0xb4, 0x00, 0x11, 0x2a, 0xb4, 0x00, 0x13, 0x2b, 0xb6, 0x00, 0x1b, 0xac]⟩ 2 [17, 19] 27 = true := by decide +kernel
theorem zc_27 : zLc ⟨#[0x2a, 0xb4, 0x00, 0x11, 0x2a, 0xb4, 0x00, 0x13, 0x2b, 0xb6, 0x00, 0x1b, 0xac]⟩ [17, 19] [true] 27 false = true := by decide +kernel
theorem zk_28 : zLk (zSh siteWord_1_29).2.2.2 "FloatingDock$Parser" ⟨#[0x2a, 0xb4, 0x00, 0x0f, 0x2b, 0xb8, 0x00, 0x17, 0xac]⟩ 2 [15] 23 = true := by decide +kernel
theorem zc_28 : zLc ⟨#[0x2a, 0xb4, 0x00, 0x0f, 0x2b, 0xb8, 0x00, 0x17, 0xac]⟩ [15] [true] 23 true = true := by decide +kernel
theorem zk_29 : zLk (zSh siteWord_1_30).2.2.2 "FloatingDock$Parser" ⟨#[0x2a, 0xb4, 0x00, 0x0f, 0x2b, 0xb8, 0x00, 0x17, 0xac]⟩ 2 [15] 23 = true := by decide +kernel
theorem zc_29 : zLc ⟨#[0x2a, 0xb4, 0x00, 0x0f, 0x2b, 0xb8, 0x00, 0x17, 0xac]⟩ [15] [true] 23 true = true := by decide +kernel
theorem pf_J1_81 : zFp RJ1 81 [12, 13] 7 "<init>" (.float) := ⟨_, _, _, .inl q207, by decide +kernel, ztc ⟨_, tyJ1, rfl, by decide, rfl, rfl, .inl rfl, in_J1, tyJ1_ok, nmJ1, .inr ⟨rfl, rfl, rfl, q207⟩⟩ (ztc ⟨_, tyJ2, rfl, by decide, rfl, rfl, .inl rfl, in_J2, tyJ2_ok, nmJ2, .inr ⟨rfl, rfl, rfl, q207⟩⟩ (zt0))⟩
theorem pf_J2_1 {nm : String} : zFp RJ2 1 [13] 11 nm (.int) := ⟨_, _, _, .inl q196, by decide +kernel, ztc ⟨_, tyJ2, rfl, by decide, rfl, rfl, .inl rfl, in_J2, tyJ2_ok, nmJ2, .inl rfl⟩ (zt0)⟩
theorem pf_J2_64 : zFp RJ2 64 [13] 10 "<init>" (.boolean) := ⟨_, _, _, .inl q195, by decide +kernel, ztc ⟨_, tyJ2, rfl, by decide, rfl, rfl, .inl rfl, in_J2, tyJ2_ok, nmJ2, .inr ⟨rfl, rfl, rfl, q195⟩⟩ (zt0)⟩
theorem nf_J5_7 : zFn RJ5 7 12 [.null, .null, .null, .null, .int 0, .int 0, .int 0, .float 0] := ⟨_, tyJ1, rfl, q251, q252, q98, in_J1, tyJ1_ok, rfl⟩
theorem pf_J5_10 {nm : String} : zFp RJ5 10 [14] 0 nm (.object "java/util/HashMap") := ⟨_, _, _, .inl q263, by decide +kernel, ztc ⟨_, tyJ5, rfl, by decide, rfl, rfl, .inl rfl, in_J5, tyJ5_ok, nmJ5, .inl rfl⟩ (zt0)⟩
theorem pf_J13_1 : zFp RJ13 1 [19] 1 "<init>" (.object "java/util/LinkedHashMap") := ⟨_, _, _, .inl q428, by decide +kernel, ztc ⟨_, tyJ13, rfl, by decide, rfl, rfl, .inl rfl, in_J13, tyJ13_ok, nmJ13, .inr ⟨rfl, rfl, rfl, q428⟩⟩ (zt0)⟩
theorem pf_J13_13 : zFp RJ13 13 [19] 0 "<init>" (.boolean) := ⟨_, _, _, .inl q427, by decide +kernel, ztc ⟨_, tyJ13, rfl, by decide, rfl, rfl, .inl rfl, in_J13, tyJ13_ok, nmJ13, .inr ⟨rfl, rfl, rfl, q427⟩⟩ (zt0)⟩
theorem gf_J2_139 : zFg RJ2 139 [12, 13] 1 := ⟨_, _, _, .inl q212, ztc ⟨_, rfl, by decide, rfl, rfl, .inr q213, in_J1⟩ (ztc ⟨_, rfl, by decide, rfl, rfl, .inr q213, in_J2⟩ (zt0))⟩
theorem zcs_java_util_SequencedCollection : zcs "java/util/SequencedCollection" [15, 19, 23, 27] := ztc (Or.inl ⟨_, rfl, Or.inr q3786⟩) (ztc (Or.inl ⟨_, rfl, Or.inr q3789⟩) (ztc (Or.inl ⟨_, rfl, Or.inr q3788⟩) (ztc (Or.inl ⟨_, rfl, Or.inr q3787⟩) (zt0))))
theorem nf_J2_143 : zFn RJ2 143 19 [.int 0, .null] := ⟨_, tyJ13, rfl, q421, q422, q110, in_J13, tyJ13_ok, rfl⟩
theorem pf_J2_139 {nm : String} : zFp RJ2 139 [12, 13] 1 nm (.object "java/util/Collection") := ⟨_, _, _, .inl q212, by decide +kernel, ztc ⟨_, tyJ1, rfl, by decide, rfl, rfl, .inr q213, in_J1, tyJ1_ok, nmJ1, .inl rfl⟩ (ztc ⟨_, tyJ2, rfl, by decide, rfl, rfl, .inr q213, in_J2, tyJ2_ok, nmJ2, .inl rfl⟩ (zt0))⟩
theorem pf_J20_1 : zFp RJ20 1 [24, 25] 4 "<init>" (.object "java/util/LinkedHashMap") := ⟨_, _, _, .inl q596, by decide +kernel, ztc ⟨_, tyJ21, rfl, by decide, rfl, rfl, .inl rfl, in_J21, tyJ21_ok, nmJ21, .inr ⟨rfl, rfl, rfl, q596⟩⟩ (ztc ⟨_, tyJ22, rfl, by decide, rfl, rfl, .inl rfl, in_J22, tyJ22_ok, nmJ22, .inr ⟨rfl, rfl, rfl, q596⟩⟩ (zt0))⟩
theorem pf_J20_13 {nm : String} : zFp RJ20 13 [24, 25] 3 nm (.boolean) := ⟨_, _, _, .inl q595, by decide +kernel, ztc ⟨_, tyJ21, rfl, by decide, rfl, rfl, .inl rfl, in_J21, tyJ21_ok, nmJ21, .inl rfl⟩ (ztc ⟨_, tyJ22, rfl, by decide, rfl, rfl, .inl rfl, in_J22, tyJ22_ok, nmJ22, .inl rfl⟩ (zt0))⟩
theorem gf_J20_23 : zFg RJ20 23 [13] 8 := ⟨_, _, _, .inl q192, ztc ⟨_, rfl, by decide, rfl, rfl, .inl rfl, in_J2⟩ (zt0)⟩
theorem gf_J20_17 : zFg RJ20 17 [13] 9 := ⟨_, _, _, .inl q193, ztc ⟨_, rfl, by decide, rfl, rfl, .inl rfl, in_J2⟩ (zt0)⟩
theorem pf_J20_26 {nm : String} : zFp RJ20 26 [24, 25] 0 nm (.object "java/util/LinkedHashMap$Entry") := ⟨_, _, _, .inl q592, by decide +kernel, ztc ⟨_, tyJ21, rfl, by decide, rfl, rfl, .inl rfl, in_J21, tyJ21_ok, nmJ21, .inl rfl⟩ (ztc ⟨_, tyJ22, rfl, by decide, rfl, rfl, .inl rfl, in_J22, tyJ22_ok, nmJ22, .inl rfl⟩ (zt0))⟩
theorem gf_J20_29 : zFg RJ20 29 [12, 13] 5 := ⟨_, _, _, .inl q202, ztc ⟨_, rfl, by decide, rfl, rfl, .inr q203, in_J1⟩ (ztc ⟨_, rfl, by decide, rfl, rfl, .inr q203, in_J2⟩ (zt0))⟩
theorem pf_J20_33 {nm : String} : zFp RJ20 33 [24, 25] 2 nm (.int) := ⟨_, _, _, .inl q594, by decide +kernel, ztc ⟨_, tyJ21, rfl, by decide, rfl, rfl, .inl rfl, in_J21, tyJ21_ok, nmJ21, .inl rfl⟩ (ztc ⟨_, tyJ22, rfl, by decide, rfl, rfl, .inl rfl, in_J22, tyJ22_ok, nmJ22, .inl rfl⟩ (zt0))⟩
theorem pf_J20_36 {nm : String} : zFp RJ20 36 [24, 25] 1 nm (.object "java/util/LinkedHashMap$Entry") := ⟨_, _, _, .inl q593, by decide +kernel, ztc ⟨_, tyJ21, rfl, by decide, rfl, rfl, .inl rfl, in_J21, tyJ21_ok, nmJ21, .inl rfl⟩ (ztc ⟨_, tyJ22, rfl, by decide, rfl, rfl, .inl rfl, in_J22, tyJ22_ok, nmJ22, .inl rfl⟩ (zt0))⟩
theorem nf_J13_26 : zFn RJ13 26 25 [.null, .null, .int 0, .int 0, .null] := ⟨_, tyJ22, rfl, q616, q617, q119, in_J22, tyJ22_ok, rfl⟩
theorem gf_J13_1 : zFg RJ13 1 [19] 1 := ⟨_, _, _, .inl q428, ztc ⟨_, rfl, by decide, rfl, rfl, .inl rfl, in_J13⟩ (zt0)⟩
theorem gf_J13_13 : zFg RJ13 13 [19] 0 := ⟨_, _, _, .inl q427, ztc ⟨_, rfl, by decide, rfl, rfl, .inl rfl, in_J13⟩ (zt0)⟩
theorem gf_X3_7 : zFg RX3 7 [2] 0 := ⟨_, _, _, .inl q1293, ztc ⟨_, rfl, by decide, rfl, rfl, .inl rfl, in_X3⟩ (zt0)⟩
theorem gf_X3_13 : zFg RX3 13 [2] 1 := ⟨_, _, _, .inl q1296, ztc ⟨_, rfl, by decide, rfl, rfl, .inl rfl, in_X3⟩ (zt0)⟩
theorem gf_X9_19 : zFg RX9 19 [8] 0 := ⟨_, _, _, .inl q1965, ztc ⟨_, rfl, by decide, rfl, rfl, .inl rfl, in_X9⟩ (zt0)⟩
theorem gf_X9_1 : zFg RX9 1 [8] 1 := ⟨_, _, _, .inl q1966, ztc ⟨_, rfl, by decide, rfl, rfl, .inl rfl, in_X9⟩ (zt0)⟩
theorem gf_J15_25 : zFg RJ15 25 [20] 0 := ⟨_, _, _, .inl q483, ztc ⟨_, rfl, by decide, rfl, rfl, .inl rfl, in_J15⟩ (zt0)⟩
theorem gf_J15_1 : zFg RJ15 1 [20] 3 := ⟨_, _, _, .inl q486, ztc ⟨_, rfl, by decide, rfl, rfl, .inl rfl, in_J15⟩ (zt0)⟩
theorem gf_J15_28 : zFg RJ15 28 [27] 2 := ⟨_, _, _, .inr ⟨_, q1168⟩, ztc ⟨_, rfl, by decide, rfl, rfl, .inl rfl, in_J37⟩ (zt0)⟩
theorem gf_J16_26 : zFg RJ16 26 [21] 0 := ⟨_, _, _, .inl q511, ztc ⟨_, rfl, by decide, rfl, rfl, .inl rfl, in_J17⟩ (zt0)⟩
theorem gf_J20_26 : zFg RJ20 26 [24, 25] 0 := ⟨_, _, _, .inl q592, ztc ⟨_, rfl, by decide, rfl, rfl, .inl rfl, in_J21⟩ (ztc ⟨_, rfl, by decide, rfl, rfl, .inl rfl, in_J22⟩ (zt0))⟩
theorem pf_J24_205 : zFp RJ24 205 [26] 0 "<init>" (.int) := ⟨_, _, _, .inl q698, by decide +kernel, ztc ⟨_, tyJ24, rfl, by decide, rfl, rfl, .inl rfl, in_J24, tyJ24_ok, nmJ24, .inr ⟨rfl, rfl, rfl, q698⟩⟩ (zt0)⟩
theorem nf_J24_1 : zFn RJ24 1 26 [.int 0] := ⟨_, tyJ24, rfl, q689, q690, q121, in_J24, tyJ24_ok, rfl⟩
theorem pf_X9_19 {nm : String} : zFp RX9 19 [8] 0 nm (.int) := ⟨_, _, _, .inl q1965, by decide +kernel, ztc ⟨_, tyX9, rfl, by decide, rfl, rfl, .inl rfl, in_X9, tyX9_ok, nmX9, .inl rfl⟩ (zt0)⟩
theorem gf_J15_17 : zFg RJ15 17 [27] 0 := ⟨_, _, _, .inl q1171, ztc ⟨_, rfl, by decide, rfl, rfl, .inr q1172, in_J37⟩ (zt0)⟩
theorem gf_J15_22 : zFg RJ15 22 [20] 2 := ⟨_, _, _, .inl q485, ztc ⟨_, rfl, by decide, rfl, rfl, .inl rfl, in_J15⟩ (zt0)⟩
theorem pf_J25_7 {nm : String} : zFp RJ25 7 [6, 11] 0 nm (.object "java/lang/Throwable") := ⟨_, _, _, .inl q767, by decide +kernel, ztc ⟨_, tyX7, rfl, by decide, rfl, rfl, .inl rfl, in_X7, tyX7_ok, nmX7, .inl rfl⟩ (ztc ⟨_, tyX12, rfl, by decide, rfl, rfl, .inl rfl, in_X12, tyX12_ok, nmX12, .inl rfl⟩ (zt0))⟩
theorem pf_J25_17 {nm : String} : zFp RJ25 17 [6, 11] 1 nm (.array (.object "java/lang/StackTraceElement")) := ⟨_, _, _, .inl q768, by decide +kernel, ztc ⟨_, tyX7, rfl, by decide, rfl, rfl, .inl rfl, in_X7, tyX7_ok, nmX7, .inl rfl⟩ (ztc ⟨_, tyX12, rfl, by decide, rfl, rfl, .inl rfl, in_X12, tyX12_ok, nmX12, .inl rfl⟩ (zt0))⟩
theorem pf_J25_24 {nm : String} : zFp RJ25 24 [6, 11] 2 nm (.object "java/util/List") := ⟨_, _, _, .inl q769, by decide +kernel, ztc ⟨_, tyX7, rfl, by decide, rfl, rfl, .inl rfl, in_X7, tyX7_ok, nmX7, .inl rfl⟩ (ztc ⟨_, tyX12, rfl, by decide, rfl, rfl, .inl rfl, in_X12, tyX12_ok, nmX12, .inl rfl⟩ (zt0))⟩
theorem gf_J15_37 : zFg RJ15 37 [27] 1 := ⟨_, _, _, .inl q1167, ztc ⟨_, rfl, by decide, rfl, rfl, .inl rfl, in_J37⟩ (zt0)⟩
theorem pf_J15_25 {nm : String} : zFp RJ15 25 [20] 0 nm (.int) := ⟨_, _, _, .inl q483, by decide +kernel, ztc ⟨_, tyJ15, rfl, by decide, rfl, rfl, .inl rfl, in_J15, tyJ15_ok, nmJ15, .inl rfl⟩ (zt0)⟩
theorem pf_J15_13 {nm : String} : zFp RJ15 13 [20] 1 nm (.int) := ⟨_, _, _, .inl q484, by decide +kernel, ztc ⟨_, tyJ15, rfl, by decide, rfl, rfl, .inl rfl, in_J15, tyJ15_ok, nmJ15, .inl rfl⟩ (zt0)⟩
theorem xf_J15_34_36 : zFx RJ15 34 36 30 := ⟨RJ28, ["java/lang/RuntimeException", "java/lang/Exception"], TJ28, rfl, by decide +kernel, by decide +kernel, q793, q126, by decide, lw_in _ [123, 729, 738, 749, 752, 754, 730, 731, 164, 165, 732, 737, 750, 767, 719, 768, 721, 769, 723, 733, 735, 725, 756, 757, 758, 759, 759, 760, 761, 762, 762, 763, 764, 730, 794, 708, 716, 717, 718, 720, 722, 724, 728, 727, 726] (by decide +kernel) (by decide +kernel), zin_tbl _ [710, 712, 714, 709] (by decide +kernel) (by decide +kernel), List.all_eq_true.mp (by decide +kernel)⟩
theorem gf_J16_1 : zFg RJ16 1 [21] 4 := ⟨_, _, _, .inl q515, ztc ⟨_, rfl, by decide, rfl, rfl, .inl rfl, in_J17⟩ (zt0)⟩
theorem gf_J16_13 : zFg RJ16 13 [12, 13] 5 := ⟨_, _, _, .inl q201, ztc ⟨_, rfl, by decide, rfl, rfl, .inl rfl, in_J1⟩ (ztc ⟨_, rfl, by decide, rfl, rfl, .inl rfl, in_J2⟩ (zt0))⟩
theorem gf_J16_19 : zFg RJ16 19 [21] 2 := ⟨_, _, _, .inl q513, ztc ⟨_, rfl, by decide, rfl, rfl, .inl rfl, in_J17⟩ (zt0)⟩
theorem pf_J16_30 {nm : String} : zFp RJ16 30 [21] 1 nm (.object "java/util/HashMap$Node") := ⟨_, _, _, .inl q512, by decide +kernel, ztc ⟨_, tyJ17, rfl, by decide, rfl, rfl, .inl rfl, in_J17, tyJ17_ok, nmJ17, .inl rfl⟩ (zt0)⟩
theorem gf_J16_45 : zFg RJ16 45 [28, 29] 3 := ⟨_, _, _, .inl q2118, ztc ⟨_, rfl, by decide, rfl, rfl, .inl rfl, in_J40⟩ (ztc ⟨_, rfl, by decide, rfl, rfl, .inl rfl, in_J41⟩ (zt0))⟩
theorem pf_J16_26 {nm : String} : zFp RJ16 26 [21] 0 nm (.object "java/util/HashMap$Node") := ⟨_, _, _, .inl q511, by decide +kernel, ztc ⟨_, tyJ17, rfl, by decide, rfl, rfl, .inl rfl, in_J17, tyJ17_ok, nmJ17, .inl rfl⟩ (zt0)⟩
theorem gf_J16_22 : zFg RJ16 22 [12, 13] 2 := ⟨_, _, _, .inl q197, ztc ⟨_, rfl, by decide, rfl, rfl, .inl rfl, in_J1⟩ (ztc ⟨_, rfl, by decide, rfl, rfl, .inl rfl, in_J2⟩ (zt0))⟩
theorem xf_J16_42_44 : zFx RJ16 42 44 30 := ⟨RJ28, ["java/lang/RuntimeException", "java/lang/Exception"], TJ28, rfl, by decide +kernel, by decide +kernel, q806, q126, by decide, lw_in _ [123, 729, 738, 749, 752, 754, 730, 731, 164, 165, 732, 737, 750, 767, 719, 768, 721, 769, 723, 733, 735, 725, 756, 757, 758, 759, 759, 760, 761, 762, 762, 763, 764, 730, 807, 708, 716, 717, 718, 720, 722, 724, 728, 727, 726] (by decide +kernel) (by decide +kernel), zin_tbl _ [710, 712, 714, 709] (by decide +kernel) (by decide +kernel), List.all_eq_true.mp (by decide +kernel)⟩
theorem gf_J16_33 : zFg RJ16 33 [21] 3 := ⟨_, _, _, .inl q514, ztc ⟨_, rfl, by decide, rfl, rfl, .inl rfl, in_J17⟩ (zt0)⟩
theorem pf_J16_33 {nm : String} : zFp RJ16 33 [21] 3 nm (.int) := ⟨_, _, _, .inl q514, by decide +kernel, ztc ⟨_, tyJ17, rfl, by decide, rfl, rfl, .inl rfl, in_J17, tyJ17_ok, nmJ17, .inl rfl⟩ (zt0)⟩
theorem gf_J17_13 : zFg RJ17 13 [28, 29] 1 := ⟨_, _, _, .inl q2105, ztc ⟨_, rfl, by decide, rfl, rfl, .inl rfl, in_J40⟩ (ztc ⟨_, rfl, by decide, rfl, rfl, .inl rfl, in_J41⟩ (zt0))⟩
theorem gf_J20_1 : zFg RJ20 1 [24, 25] 4 := ⟨_, _, _, .inl q596, ztc ⟨_, rfl, by decide, rfl, rfl, .inl rfl, in_J21⟩ (ztc ⟨_, rfl, by decide, rfl, rfl, .inl rfl, in_J22⟩ (zt0))⟩
theorem gf_J20_33 : zFg RJ20 33 [24, 25] 2 := ⟨_, _, _, .inl q594, ztc ⟨_, rfl, by decide, rfl, rfl, .inl rfl, in_J21⟩ (ztc ⟨_, rfl, by decide, rfl, rfl, .inl rfl, in_J22⟩ (zt0))⟩
theorem gf_J20_13 : zFg RJ20 13 [24, 25] 3 := ⟨_, _, _, .inl q595, ztc ⟨_, rfl, by decide, rfl, rfl, .inl rfl, in_J21⟩ (ztc ⟨_, rfl, by decide, rfl, rfl, .inl rfl, in_J22⟩ (zt0))⟩
theorem gf_J20_50 : zFg RJ20 50 [29] 5 := ⟨_, _, _, .inl q2097, ztc ⟨_, rfl, by decide, rfl, rfl, .inl rfl, in_J41⟩ (zt0)⟩
theorem gf_J20_45 : zFg RJ20 45 [29] 4 := ⟨_, _, _, .inl q2095, ztc ⟨_, rfl, by decide, rfl, rfl, .inl rfl, in_J41⟩ (zt0)⟩
theorem xf_J20_42_44 : zFx RJ20 42 44 30 := ⟨RJ28, ["java/lang/RuntimeException", "java/lang/Exception"], TJ28, rfl, by decide +kernel, by decide +kernel, q819, q126, by decide, lw_in _ [123, 729, 738, 749, 752, 754, 730, 731, 164, 165, 732, 737, 750, 767, 719, 768, 721, 769, 723, 733, 735, 725, 756, 757, 758, 759, 759, 760, 761, 762, 762, 763, 764, 730, 820, 708, 716, 717, 718, 720, 722, 724, 728, 727, 726] (by decide +kernel) (by decide +kernel), zin_tbl _ [710, 712, 714, 709] (by decide +kernel) (by decide +kernel), List.all_eq_true.mp (by decide +kernel)⟩
theorem gf_J40_13 : zFg RJ40 13 [28, 29] 1 := ⟨_, _, _, .inl q2104, ztc ⟨_, rfl, by decide, rfl, rfl, .inl rfl, in_J40⟩ (ztc ⟨_, rfl, by decide, rfl, rfl, .inl rfl, in_J41⟩ (zt0))⟩
theorem gf_J22_13 : zFg RJ22 13 [28, 29] 2 := ⟨_, _, _, .inl q2112, ztc ⟨_, rfl, by decide, rfl, rfl, .inr q2113, in_J40⟩ (ztc ⟨_, rfl, by decide, rfl, rfl, .inr q2113, in_J41⟩ (zt0))⟩
theorem pf_X6_9 : zFp RX6 9 [5] 0 "<init>" (.int) := ⟨_, _, _, .inl q2004, by decide +kernel, ztc ⟨_, tyX6, rfl, by decide, rfl, rfl, .inl rfl, in_X6, tyX6_ok, nmX6, .inr ⟨rfl, rfl, rfl, q2004⟩⟩ (zt0)⟩
theorem pf_X6_15 : zFp RX6 15 [5] 1 "<init>" (.int) := ⟨_, _, _, .inl q2007, by decide +kernel, ztc ⟨_, tyX6, rfl, by decide, rfl, rfl, .inl rfl, in_X6, tyX6_ok, nmX6, .inr ⟨rfl, rfl, rfl, q2007⟩⟩ (zt0)⟩
theorem pf_X6_18 : zFp RX6 18 [5] 2 "<init>" (.int) := ⟨_, _, _, .inl q2010, by decide +kernel, ztc ⟨_, tyX6, rfl, by decide, rfl, rfl, .inl rfl, in_X6, tyX6_ok, nmX6, .inr ⟨rfl, rfl, rfl, q2010⟩⟩ (zt0)⟩
theorem pf_X6_21 {nm : String} : zFp RX6 21 [5] 3 nm (.int) := ⟨_, _, _, .inl q2011, by decide +kernel, ztc ⟨_, tyX6, rfl, by decide, rfl, rfl, .inl rfl, in_X6, tyX6_ok, nmX6, .inl rfl⟩ (zt0)⟩
theorem gf_X6_9 : zFg RX6 9 [5] 0 := ⟨_, _, _, .inl q2004, ztc ⟨_, rfl, by decide, rfl, rfl, .inl rfl, in_X6⟩ (zt0)⟩
theorem gf_X6_15 : zFg RX6 15 [5] 1 := ⟨_, _, _, .inl q2007, ztc ⟨_, rfl, by decide, rfl, rfl, .inl rfl, in_X6⟩ (zt0)⟩
theorem gf_X6_18 : zFg RX6 18 [5] 2 := ⟨_, _, _, .inl q2010, ztc ⟨_, rfl, by decide, rfl, rfl, .inl rfl, in_X6⟩ (zt0)⟩
theorem gf_X6_21 : zFg RX6 21 [5] 3 := ⟨_, _, _, .inl q2011, ztc ⟨_, rfl, by decide, rfl, rfl, .inl rfl, in_X6⟩ (zt0)⟩
theorem gf_X6_27 : zFg RX6 27 [5] 4 := ⟨_, _, _, .inl q2014, ztc ⟨_, rfl, by decide, rfl, rfl, .inl rfl, in_X6⟩ (zt0)⟩
theorem pf_X6_27 {nm : String} : zFp RX6 27 [5] 4 nm (.int) := ⟨_, _, _, .inl q2014, by decide +kernel, ztc ⟨_, tyX6, rfl, by decide, rfl, rfl, .inl rfl, in_X6, tyX6_ok, nmX6, .inl rfl⟩ (zt0)⟩
theorem gf_X6_30 : zFg RX6 30 [5] 5 := ⟨_, _, _, .inl q2017, ztc ⟨_, rfl, by decide, rfl, rfl, .inl rfl, in_X6⟩ (zt0)⟩
theorem pf_X6_30 {nm : String} : zFp RX6 30 [5] 5 nm (.int) := ⟨_, _, _, .inl q2017, by decide +kernel, ztc ⟨_, tyX6, rfl, by decide, rfl, rfl, .inl rfl, in_X6, tyX6_ok, nmX6, .inl rfl⟩ (zt0)⟩
theorem gf_X6_33 : zFg RX6 33 [5] 6 := ⟨_, _, _, .inl q2020, ztc ⟨_, rfl, by decide, rfl, rfl, .inl rfl, in_X6⟩ (zt0)⟩
theorem pf_X6_33 {nm : String} : zFp RX6 33 [5] 6 nm (.int) := ⟨_, _, _, .inl q2020, by decide +kernel, ztc ⟨_, tyX6, rfl, by decide, rfl, rfl, .inl rfl, in_X6, tyX6_ok, nmX6, .inl rfl⟩ (zt0)⟩
theorem gf_X6_36 : zFg RX6 36 [5] 7 := ⟨_, _, _, .inl q2023, ztc ⟨_, rfl, by decide, rfl, rfl, .inl rfl, in_X6⟩ (zt0)⟩
theorem pf_X6_36 {nm : String} : zFp RX6 36 [5] 7 nm (.boolean) := ⟨_, _, _, .inl q2023, by decide +kernel, ztc ⟨_, tyX6, rfl, by decide, rfl, rfl, .inl rfl, in_X6, tyX6_ok, nmX6, .inl rfl⟩ (zt0)⟩
theorem gf_X6_40 : zFg RX6 40 [5] 8 := ⟨_, _, _, .inl q2025, ztc ⟨_, rfl, by decide, rfl, rfl, .inl rfl, in_X6⟩ (zt0)⟩
theorem pf_X6_40 {nm : String} : zFp RX6 40 [5] 8 nm (.object "FloatingDock$Stretch") := ⟨_, _, _, .inl q2025, by decide +kernel, ztc ⟨_, tyX6, rfl, by decide, rfl, rfl, .inl rfl, in_X6, tyX6_ok, nmX6, .inl rfl⟩ (zt0)⟩
theorem gf_X8_7 : zFg RX8 7 [7] 0 := ⟨_, _, _, .inl q1531, ztc ⟨_, rfl, by decide, rfl, rfl, .inl rfl, in_X8⟩ (zt0)⟩
theorem gf_J24_205 : zFg RJ24 205 [26] 0 := ⟨_, _, _, .inl q698, ztc ⟨_, rfl, by decide, rfl, rfl, .inl rfl, in_J24⟩ (zt0)⟩
theorem gf_J1_105 : zFg RJ1 105 [12, 13] 2 := ⟨_, _, _, .inl q198, ztc ⟨_, rfl, by decide, rfl, rfl, .inl rfl, in_J1⟩ (ztc ⟨_, rfl, by decide, rfl, rfl, .inl rfl, in_J2⟩ (zt0))⟩
theorem gf_J1_88 : zFg RJ1 88 [12, 13] 6 := ⟨_, _, _, .inl q206, ztc ⟨_, rfl, by decide, rfl, rfl, .inl rfl, in_J1⟩ (ztc ⟨_, rfl, by decide, rfl, rfl, .inl rfl, in_J2⟩ (zt0))⟩
theorem pf_J1_88 {nm : String} : zFp RJ1 88 [12, 13] 6 nm (.int) := ⟨_, _, _, .inl q206, by decide +kernel, ztc ⟨_, tyJ1, rfl, by decide, rfl, rfl, .inl rfl, in_J1, tyJ1_ok, nmJ1, .inl rfl⟩ (ztc ⟨_, tyJ2, rfl, by decide, rfl, rfl, .inl rfl, in_J2, tyJ2_ok, nmJ2, .inl rfl⟩ (zt0))⟩
theorem gf_J1_81 : zFg RJ1 81 [12, 13] 7 := ⟨_, _, _, .inl q207, ztc ⟨_, rfl, by decide, rfl, rfl, .inl rfl, in_J1⟩ (ztc ⟨_, rfl, by decide, rfl, rfl, .inl rfl, in_J2⟩ (zt0))⟩
theorem pf_J1_105 {nm : String} : zFp RJ1 105 [12, 13] 2 nm (.array (.object "java/util/HashMap$Node")) := ⟨_, _, _, .inl q198, by decide +kernel, ztc ⟨_, tyJ1, rfl, by decide, rfl, rfl, .inl rfl, in_J1, tyJ1_ok, nmJ1, .inl rfl⟩ (ztc ⟨_, tyJ2, rfl, by decide, rfl, rfl, .inl rfl, in_J2, tyJ2_ok, nmJ2, .inl rfl⟩ (zt0))⟩
theorem zcs_java_util_HashMap_Node : zcs "java/util/HashMap$Node" [28, 29] := ztc (Or.inl ⟨_, rfl, Or.inl rfl⟩) (ztc (Or.inl ⟨_, rfl, Or.inr q3838⟩) (zt0))
theorem gf_J1_177 : zFg RJ1 177 [28, 29] 3 := ⟨_, _, _, .inl q2122, ztc ⟨_, rfl, by decide, rfl, rfl, .inl rfl, in_J40⟩ (ztc ⟨_, rfl, by decide, rfl, rfl, .inl rfl, in_J41⟩ (zt0))⟩
theorem zcs_java_util_HashMap_TreeNode : zcs "java/util/HashMap$TreeNode" [] := zt0
theorem gf_J1_168 : zFg RJ1 168 [28, 29] 0 := ⟨_, _, _, .inl q2103, ztc ⟨_, rfl, by decide, rfl, rfl, .inl rfl, in_J40⟩ (ztc ⟨_, rfl, by decide, rfl, rfl, .inl rfl, in_J41⟩ (zt0))⟩
theorem pf_J1_177 {nm : String} : zFp RJ1 177 [28, 29] 3 nm (.object "java/util/HashMap$Node") := ⟨_, _, _, .inl q2122, by decide +kernel, ztc ⟨_, tyJ40, rfl, by decide, rfl, rfl, .inl rfl, in_J40, tyJ40_ok, nmJ40, .inl rfl⟩ (ztc ⟨_, tyJ41, rfl, by decide, rfl, rfl, .inl rfl, in_J41, tyJ41_ok, nmJ41, .inl rfl⟩ (zt0))⟩
theorem pf_J40_7 : zFp RJ40 7 [28, 29] 0 "<init>" (.int) := ⟨_, _, _, .inl q2098, by decide +kernel, ztc ⟨_, tyJ40, rfl, by decide, rfl, rfl, .inl rfl, in_J40, tyJ40_ok, nmJ40, .inr ⟨rfl, rfl, rfl, q2098⟩⟩ (ztc ⟨_, tyJ41, rfl, by decide, rfl, rfl, .inl rfl, in_J41, tyJ41_ok, nmJ41, .inr ⟨rfl, rfl, rfl, q2098⟩⟩ (zt0))⟩
theorem pf_J40_13 : zFp RJ40 13 [28, 29] 1 "<init>" (.object "java/lang/Object") := ⟨_, _, _, .inl q2104, by decide +kernel, ztc ⟨_, tyJ40, rfl, by decide, rfl, rfl, .inl rfl, in_J40, tyJ40_ok, nmJ40, .inr ⟨rfl, rfl, rfl, q2104⟩⟩ (ztc ⟨_, tyJ41, rfl, by decide, rfl, rfl, .inl rfl, in_J41, tyJ41_ok, nmJ41, .inr ⟨rfl, rfl, rfl, q2104⟩⟩ (zt0))⟩
theorem pf_J40_17 {nm : String} : zFp RJ40 17 [28, 29] 2 nm (.object "java/lang/Object") := ⟨_, _, _, .inl q2111, by decide +kernel, ztc ⟨_, tyJ40, rfl, by decide, rfl, rfl, .inl rfl, in_J40, tyJ40_ok, nmJ40, .inl rfl⟩ (ztc ⟨_, tyJ41, rfl, by decide, rfl, rfl, .inl rfl, in_J41, tyJ41_ok, nmJ41, .inl rfl⟩ (zt0))⟩
theorem pf_J40_20 {nm : String} : zFp RJ40 20 [28, 29] 3 nm (.object "java/util/HashMap$Node") := ⟨_, _, _, .inl q2117, by decide +kernel, ztc ⟨_, tyJ40, rfl, by decide, rfl, rfl, .inl rfl, in_J40, tyJ40_ok, nmJ40, .inl rfl⟩ (ztc ⟨_, tyJ41, rfl, by decide, rfl, rfl, .inl rfl, in_J41, tyJ41_ok, nmJ41, .inl rfl⟩ (zt0))⟩
theorem nf_J1_163 : zFn RJ1 163 28 [.int 0, .null, .null, .null] := ⟨_, tyJ40, rfl, q2067, q2142, q143, in_J40, tyJ40_ok, rfl⟩
theorem gf_J2_1 : zFg RJ2 1 [13] 11 := ⟨_, _, _, .inl q196, ztc ⟨_, rfl, by decide, rfl, rfl, .inl rfl, in_J2⟩ (zt0)⟩
theorem gf_J2_11 : zFg RJ2 11 [13] 9 := ⟨_, _, _, .inl q194, ztc ⟨_, rfl, by decide, rfl, rfl, .inl rfl, in_J2⟩ (zt0)⟩
theorem pf_J2_11 {nm : String} : zFp RJ2 11 [13] 9 nm (.object "java/util/LinkedHashMap$Entry") := ⟨_, _, _, .inl q194, by decide +kernel, ztc ⟨_, tyJ2, rfl, by decide, rfl, rfl, .inl rfl, in_J2, tyJ2_ok, nmJ2, .inl rfl⟩ (zt0)⟩
theorem pf_J2_19 {nm : String} : zFp RJ2 19 [29] 4 nm (.object "java/util/LinkedHashMap$Entry") := ⟨_, _, _, .inl q2094, by decide +kernel, ztc ⟨_, tyJ41, rfl, by decide, rfl, rfl, .inl rfl, in_J41, tyJ41_ok, nmJ41, .inl rfl⟩ (zt0)⟩
theorem pf_J2_14 {nm : String} : zFp RJ2 14 [29] 5 nm (.object "java/util/LinkedHashMap$Entry") := ⟨_, _, _, .inl q2096, by decide +kernel, ztc ⟨_, tyJ41, rfl, by decide, rfl, rfl, .inl rfl, in_J41, tyJ41_ok, nmJ41, .inl rfl⟩ (zt0)⟩
theorem pf_J2_7 {nm : String} : zFp RJ2 7 [13] 8 nm (.object "java/util/LinkedHashMap$Entry") := ⟨_, _, _, .inl q191, by decide +kernel, ztc ⟨_, tyJ2, rfl, by decide, rfl, rfl, .inl rfl, in_J2, tyJ2_ok, nmJ2, .inl rfl⟩ (zt0)⟩
theorem gf_J2_7 : zFg RJ2 7 [13] 8 := ⟨_, _, _, .inl q191, ztc ⟨_, rfl, by decide, rfl, rfl, .inl rfl, in_J2⟩ (zt0)⟩
theorem nf_J2_15 : zFn RJ2 15 29 [.int 0, .null, .null, .null, .null, .null] := ⟨_, tyJ41, rfl, q2085, q2086, q144, in_J41, tyJ41_ok, rfl⟩
theorem zcs_FloatingDock_Metre : zcs "FloatingDock$Metre" [7] := ztc (Or.inl ⟨_, rfl, Or.inl rfl⟩) (zt0)
theorem zcs_java_lang_Integer : zcs "java/lang/Integer" [26] := ztc (Or.inl ⟨_, rfl, Or.inl rfl⟩) (zt0)
theorem gf_J2_64 : zFg RJ2 64 [13] 10 := ⟨_, _, _, .inl q195, ztc ⟨_, rfl, by decide, rfl, rfl, .inl rfl, in_J2⟩ (zt0)⟩
theorem zcs_java_util_LinkedHashMap_Entry : zcs "java/util/LinkedHashMap$Entry" [29] := ztc (Or.inl ⟨_, rfl, Or.inl rfl⟩) (zt0)
theorem gf_J2_19 : zFg RJ2 19 [29] 4 := ⟨_, _, _, .inl q2094, ztc ⟨_, rfl, by decide, rfl, rfl, .inl rfl, in_J41⟩ (zt0)⟩
theorem gf_J2_14 : zFg RJ2 14 [29] 5 := ⟨_, _, _, .inl q2096, ztc ⟨_, rfl, by decide, rfl, rfl, .inl rfl, in_J41⟩ (zt0)⟩
theorem gf_J2_68 : zFg RJ2 68 [12, 13] 5 := ⟨_, _, _, .inl q204, ztc ⟨_, rfl, by decide, rfl, rfl, .inr q203, in_J1⟩ (ztc ⟨_, rfl, by decide, rfl, rfl, .inr q203, in_J2⟩ (zt0))⟩
theorem pf_J2_68 {nm : String} : zFp RJ2 68 [12, 13] 5 nm (.int) := ⟨_, _, _, .inl q204, by decide +kernel, ztc ⟨_, tyJ1, rfl, by decide, rfl, rfl, .inr q203, in_J1, tyJ1_ok, nmJ1, .inl rfl⟩ (ztc ⟨_, tyJ2, rfl, by decide, rfl, rfl, .inr q203, in_J2, tyJ2_ok, nmJ2, .inl rfl⟩ (zt0))⟩
theorem gf_J2_39 : zFg RJ2 39 [28, 29] 1 := ⟨_, _, _, .inl q2108, ztc ⟨_, rfl, by decide, rfl, rfl, .inr q2109, in_J40⟩ (ztc ⟨_, rfl, by decide, rfl, rfl, .inr q2109, in_J41⟩ (zt0))⟩
theorem gf_J1_170 : zFg RJ1 170 [28, 29] 1 := ⟨_, _, _, .inl q2110, ztc ⟨_, rfl, by decide, rfl, rfl, .inl rfl, in_J40⟩ (ztc ⟨_, rfl, by decide, rfl, rfl, .inl rfl, in_J41⟩ (zt0))⟩
theorem gf_J1_202 : zFg RJ1 202 [12, 13] 5 := ⟨_, _, _, .inl q205, ztc ⟨_, rfl, by decide, rfl, rfl, .inl rfl, in_J1⟩ (ztc ⟨_, rfl, by decide, rfl, rfl, .inl rfl, in_J2⟩ (zt0))⟩
theorem pf_J1_202 {nm : String} : zFp RJ1 202 [12, 13] 5 nm (.int) := ⟨_, _, _, .inl q205, by decide +kernel, ztc ⟨_, tyJ1, rfl, by decide, rfl, rfl, .inl rfl, in_J1, tyJ1_ok, nmJ1, .inl rfl⟩ (ztc ⟨_, tyJ2, rfl, by decide, rfl, rfl, .inl rfl, in_J2, tyJ2_ok, nmJ2, .inl rfl⟩ (zt0))⟩
theorem gf_J1_156 : zFg RJ1 156 [12, 13] 4 := ⟨_, _, _, .inl q200, ztc ⟨_, rfl, by decide, rfl, rfl, .inl rfl, in_J1⟩ (ztc ⟨_, rfl, by decide, rfl, rfl, .inl rfl, in_J2⟩ (zt0))⟩
theorem pf_J1_156 {nm : String} : zFp RJ1 156 [12, 13] 4 nm (.int) := ⟨_, _, _, .inl q200, by decide +kernel, ztc ⟨_, tyJ1, rfl, by decide, rfl, rfl, .inl rfl, in_J1, tyJ1_ok, nmJ1, .inl rfl⟩ (ztc ⟨_, tyJ2, rfl, by decide, rfl, rfl, .inl rfl, in_J2, tyJ2_ok, nmJ2, .inl rfl⟩ (zt0))⟩
theorem gf_J1_162 : zFg RJ1 162 [28, 29] 2 := ⟨_, _, _, .inl q2115, ztc ⟨_, rfl, by decide, rfl, rfl, .inl rfl, in_J40⟩ (ztc ⟨_, rfl, by decide, rfl, rfl, .inl rfl, in_J41⟩ (zt0))⟩
theorem pf_J1_162 {nm : String} : zFp RJ1 162 [28, 29] 2 nm (.object "java/lang/Object") := ⟨_, _, _, .inl q2115, by decide +kernel, ztc ⟨_, tyJ40, rfl, by decide, rfl, rfl, .inl rfl, in_J40, tyJ40_ok, nmJ40, .inl rfl⟩ (ztc ⟨_, tyJ41, rfl, by decide, rfl, rfl, .inl rfl, in_J41, tyJ41_ok, nmJ41, .inl rfl⟩ (zt0))⟩
theorem pf_J18_1 : zFp RJ18 1 [22] 0 "<init>" (.object "java/util/HashMap") := ⟨_, _, _, .inl q565, by decide +kernel, ztc ⟨_, tyJ18, rfl, by decide, rfl, rfl, .inl rfl, in_J18, tyJ18_ok, nmJ18, .inr ⟨rfl, rfl, rfl, q565⟩⟩ (zt0)⟩
theorem gf_J1_239 : zFg RJ1 239 [12, 13] 0 := ⟨_, _, _, .inl q208, ztc ⟨_, rfl, by decide, rfl, rfl, .inr q209, in_J1⟩ (ztc ⟨_, rfl, by decide, rfl, rfl, .inr q209, in_J2⟩ (zt0))⟩
theorem nf_J1_243 : zFn RJ1 243 22 [.null] := ⟨_, tyJ18, rfl, q559, q560, q115, in_J18, tyJ18_ok, rfl⟩
theorem pf_J1_239 {nm : String} : zFp RJ1 239 [12, 13] 0 nm (.object "java/util/Set") := ⟨_, _, _, .inl q208, by decide +kernel, ztc ⟨_, tyJ1, rfl, by decide, rfl, rfl, .inr q209, in_J1, tyJ1_ok, nmJ1, .inl rfl⟩ (ztc ⟨_, tyJ2, rfl, by decide, rfl, rfl, .inr q209, in_J2, tyJ2_ok, nmJ2, .inl rfl⟩ (zt0))⟩
theorem pf_J19_1 : zFp RJ19 1 [23] 1 "<init>" (.object "java/util/LinkedHashMap") := ⟨_, _, _, .inl q551, by decide +kernel, ztc ⟨_, tyJ19, rfl, by decide, rfl, rfl, .inl rfl, in_J19, tyJ19_ok, nmJ19, .inr ⟨rfl, rfl, rfl, q551⟩⟩ (zt0)⟩
theorem pf_J19_13 : zFp RJ19 13 [23] 0 "<init>" (.boolean) := ⟨_, _, _, .inl q550, by decide +kernel, ztc ⟨_, tyJ19, rfl, by decide, rfl, rfl, .inl rfl, in_J19, tyJ19_ok, nmJ19, .inr ⟨rfl, rfl, rfl, q550⟩⟩ (zt0)⟩
theorem gf_J2_117 : zFg RJ2 117 [12, 13] 0 := ⟨_, _, _, .inl q210, ztc ⟨_, rfl, by decide, rfl, rfl, .inr q211, in_J1⟩ (ztc ⟨_, rfl, by decide, rfl, rfl, .inr q211, in_J2⟩ (zt0))⟩
theorem zcs_java_util_SequencedSet : zcs "java/util/SequencedSet" [23] := ztc (Or.inl ⟨_, rfl, Or.inr q3785⟩) (zt0)
theorem nf_J2_121 : zFn RJ2 121 23 [.int 0, .null] := ⟨_, tyJ19, rfl, q544, q545, q116, in_J19, tyJ19_ok, rfl⟩
theorem pf_J2_117 {nm : String} : zFp RJ2 117 [12, 13] 0 nm (.object "java/util/Set") := ⟨_, _, _, .inl q210, by decide +kernel, ztc ⟨_, tyJ1, rfl, by decide, rfl, rfl, .inr q211, in_J1, tyJ1_ok, nmJ1, .inl rfl⟩ (ztc ⟨_, tyJ2, rfl, by decide, rfl, rfl, .inr q211, in_J2, tyJ2_ok, nmJ2, .inl rfl⟩ (zt0))⟩
theorem pf_J16_1 : zFp RJ16 1 [21] 4 "<init>" (.object "java/util/HashMap") := ⟨_, _, _, .inl q515, by decide +kernel, ztc ⟨_, tyJ17, rfl, by decide, rfl, rfl, .inl rfl, in_J17, tyJ17_ok, nmJ17, .inr ⟨rfl, rfl, rfl, q515⟩⟩ (zt0)⟩
theorem pf_J16_19 {nm : String} : zFp RJ16 19 [21] 2 nm (.int) := ⟨_, _, _, .inl q513, by decide +kernel, ztc ⟨_, tyJ17, rfl, by decide, rfl, rfl, .inl rfl, in_J17, tyJ17_ok, nmJ17, .inl rfl⟩ (zt0)⟩
theorem gf_J16_36 : zFg RJ16 36 [12, 13] 4 := ⟨_, _, _, .inl q199, ztc ⟨_, rfl, by decide, rfl, rfl, .inl rfl, in_J1⟩ (ztc ⟨_, rfl, by decide, rfl, rfl, .inl rfl, in_J2⟩ (zt0))⟩
theorem nf_J18_22 : zFn RJ18 22 21 [.null, .null, .int 0, .int 0, .null] := ⟨_, tyJ17, rfl, q502, q503, q114, in_J17, tyJ17_ok, rfl⟩
theorem gf_J18_1 : zFg RJ18 1 [22] 0 := ⟨_, _, _, .inl q565, ztc ⟨_, rfl, by decide, rfl, rfl, .inl rfl, in_J18⟩ (zt0)⟩
theorem nf_J19_26 : zFn RJ19 26 24 [.null, .null, .int 0, .int 0, .null] := ⟨_, tyJ21, rfl, q583, q584, q118, in_J21, tyJ21_ok, rfl⟩
theorem gf_J19_1 : zFg RJ19 1 [23] 1 := ⟨_, _, _, .inl q551, ztc ⟨_, rfl, by decide, rfl, rfl, .inl rfl, in_J19⟩ (zt0)⟩
theorem gf_J19_13 : zFg RJ19 13 [23] 0 := ⟨_, _, _, .inl q550, ztc ⟨_, rfl, by decide, rfl, rfl, .inl rfl, in_J19⟩ (zt0)⟩
theorem gf_J5_10 : zFg RJ5 10 [14] 0 := ⟨_, _, _, .inl q263, ztc ⟨_, rfl, by decide, rfl, rfl, .inl rfl, in_J5⟩ (zt0)⟩
section WW0
variable {D : va_G} {z : Nat}
theorem w_J0_init (v0 : Option Nat) (h : zH) : zS D z yJ0_init cJ0_init 1 none [] 1 h 0 [(0, va_rf v0)] [] (f_J0_init v0 h) := by
  unfold f_J0_init
  refine s_aload_n (pc := 0) 0 dJ0_init_0 rfl rfl ?_
  refine zS_ite (fun hr => ?_) (fun _ => zS_none)
  refine s_objinit (pc := 1) dJ0_init_1 hr q189 q164 q165 (by decide) (by decide) ?_
  exact s_vret (pc := 4) dJ0_init_4 rfl
theorem c_J0_init {d0 : Nat} (hd0 : 1 < d0) (v0 : Option Nat) (h : zH) : zCal D z d0 h yJ0_init [va_rf v0] (f_J0_init v0 h) :=
  ⟨cJ0_init, 1, none, [], 1, (show lv_args 0 [va_rf v0] = [(0, va_rf v0)] by simp [lv_args, zcat_rf, zcat_i, zcat_l, zcat_f, zcat_d]) ▸ w_J0_init v0 h, (plainFor_of_name (by decide)), by simp [lg_sl, zcat_rf, zcat_i, zcat_l, zcat_f, zcat_d], q188, q97, hd0, by decide, by decide⟩
theorem w_J1_init (v0 : Option Nat) (h : zH) : zS D z yJ1_init cJ1_init 1 none [] 2 h 0 [(0, va_rf v0)] [] (f_J1_init v0 h) := by
  unfold f_J1_init
  refine s_aload_n (pc := 0) 0 dJ1_init_0 rfl rfl ?_
  refine zS_ite (fun hr => ?_) (fun _ => zS_none)
  refine s_callC (pc := 1) (np := 0) (as := []) (rest := []) dJ1_init_1 hr (c_J0_init (by decide) v0 h) ⟨_, _, q188⟩ rfl rfl rfl q186 q187 rfl (by decide) (zkV (fun h1 => ?_)) zxo
  refine s_aload_n (pc := 4) 0 dJ1_init_4 rfl rfl ?_
  refine s_ldcf (pc := 5) (v := 1061158912) dJ1_init_5 q190 ?_
  refine s_putF (pc := 7) dJ1_init_7 pf_J1_81 (fun h2 => ?_)
  exact s_vret (pc := 10) dJ1_init_10 rfl
theorem c_J1_init {d0 : Nat} (hd0 : 2 < d0) (v0 : Option Nat) (h : zH) : zCal D z d0 h yJ1_init [va_rf v0] (f_J1_init v0 h) :=
  ⟨cJ1_init, 1, none, [], 2, (show lv_args 0 [va_rf v0] = [(0, va_rf v0)] by simp [lv_args, zcat_rf, zcat_i, zcat_l, zcat_f, zcat_d]) ▸ w_J1_init v0 h, (plainFor_of_name (by decide)), by simp [lg_sl, zcat_rf, zcat_i, zcat_l, zcat_f, zcat_d], q185, q98, hd0, by decide, by decide⟩
theorem w_J2_init (v0 : Option Nat) (h : zH) : zS D z yJ2_init cJ2_init 1 none [] 3 h 0 [(0, va_rf v0)] [] (f_J2_init v0 h) := by
  unfold f_J2_init
  refine s_aload_n (pc := 0) 0 dJ2_init_0 rfl rfl ?_
  refine zS_ite (fun hr => ?_) (fun _ => zS_none)
  refine s_callC (pc := 1) (np := 0) (as := []) (rest := []) dJ2_init_1 hr (c_J1_init (by decide) v0 h) ⟨_, _, q185⟩ rfl rfl rfl q183 q184 rfl (by decide) (zkV (fun h1 => ?_)) zxo
  refine s_aload_n (pc := 4) 0 dJ2_init_4 rfl rfl ?_
  refine s_iconst (pc := 5) (v := 0) dJ2_init_5 (by decide) ?_
  refine s_putI (pc := 6) dJ2_init_6 pf_J2_1 (fun h2 => ?_)
  refine s_aload_n (pc := 9) 0 dJ2_init_9 rfl rfl ?_
  refine s_iconst (pc := 10) (v := 0) dJ2_init_10 (by decide) ?_
  refine s_putN (pc := 11) dJ2_init_11 pf_J2_64 (fun h3 => ?_)
  exact s_vret (pc := 14) dJ2_init_14 rfl
theorem c_J2_init {d0 : Nat} (hd0 : 3 < d0) (v0 : Option Nat) (h : zH) : zCal D z d0 h yJ2_init [va_rf v0] (f_J2_init v0 h) :=
  ⟨cJ2_init, 1, none, [], 3, (show lv_args 0 [va_rf v0] = [(0, va_rf v0)] by simp [lv_args, zcat_rf, zcat_i, zcat_l, zcat_f, zcat_d]) ▸ w_J2_init v0 h, (plainFor_of_name (by decide)), by simp [lg_sl, zcat_rf, zcat_i, zcat_l, zcat_f, zcat_d], q182, q99, hd0, by decide, by decide⟩
theorem w_J3_init (v0 : Option Nat) (h : zH) : zS D z yJ3_init cJ3_init 1 none [] 1 h 0 [(0, va_rf v0)] [] (f_J3_init v0 h) := by
  unfold f_J3_init
  refine s_aload_n (pc := 0) 0 dJ3_init_0 rfl rfl ?_
  refine zS_ite (fun hr => ?_) (fun _ => zS_none)
  refine s_objinit (pc := 1) dJ3_init_1 hr q250 q164 q165 (by decide) (by decide) ?_
  exact s_vret (pc := 4) dJ3_init_4 rfl
theorem c_J3_init {d0 : Nat} (hd0 : 1 < d0) (v0 : Option Nat) (h : zH) : zCal D z d0 h yJ3_init [va_rf v0] (f_J3_init v0 h) :=
  ⟨cJ3_init, 1, none, [], 1, (show lv_args 0 [va_rf v0] = [(0, va_rf v0)] by simp [lv_args, zcat_rf, zcat_i, zcat_l, zcat_f, zcat_d]) ▸ w_J3_init v0 h, (plainFor_of_name (by decide)), by simp [lg_sl, zcat_rf, zcat_i, zcat_l, zcat_f, zcat_d], q249, q100, hd0, by decide, by decide⟩
theorem w_J4_init (v0 : Option Nat) (h : zH) : zS D z yJ4_init cJ4_init 1 none [] 2 h 0 [(0, va_rf v0)] [] (f_J4_init v0 h) := by
  unfold f_J4_init
  refine s_aload_n (pc := 0) 0 dJ4_init_0 rfl rfl ?_
  refine zS_ite (fun hr => ?_) (fun _ => zS_none)
  refine s_callC (pc := 1) (np := 0) (as := []) (rest := []) dJ4_init_1 hr (c_J3_init (by decide) v0 h) ⟨_, _, q249⟩ rfl rfl rfl q247 q248 rfl (by decide) (zkV (fun h1 => ?_)) zxo
  exact s_vret (pc := 4) dJ4_init_4 rfl
theorem c_J4_init {d0 : Nat} (hd0 : 2 < d0) (v0 : Option Nat) (h : zH) : zCal D z d0 h yJ4_init [va_rf v0] (f_J4_init v0 h) :=
  ⟨cJ4_init, 1, none, [], 2, (show lv_args 0 [va_rf v0] = [(0, va_rf v0)] by simp [lv_args, zcat_rf, zcat_i, zcat_l, zcat_f, zcat_d]) ▸ w_J4_init v0 h, (plainFor_of_name (by decide)), by simp [lg_sl, zcat_rf, zcat_i, zcat_l, zcat_f, zcat_d], q246, q101, hd0, by decide, by decide⟩
theorem w_J5_init (v0 : Option Nat) (h : zH) : zS D z yJ5_init cJ5_init 1 none [] 3 h 0 [(0, va_rf v0)] [] (f_J5_init v0 h) := by
  unfold f_J5_init
  refine s_aload_n (pc := 0) 0 dJ5_init_0 rfl rfl ?_
  refine zS_ite (fun hr => ?_) (fun _ => zS_none)
  refine s_callC (pc := 1) (np := 0) (as := []) (rest := []) dJ5_init_1 hr (c_J4_init (by decide) v0 h) ⟨_, _, q246⟩ rfl rfl rfl q244 q245 rfl (by decide) (zkV (fun h1 => ?_)) zxo
  refine s_aload_n (pc := 4) 0 dJ5_init_4 rfl rfl ?_
  refine s_new (pc := 5) dJ5_init_5 nf_J5_7 (fun r2 h3 => ?_)
  refine s_dup (pc := 8) dJ5_init_8 (zcat_rf _) ?_
  refine zS_ite (fun hr => ?_) (fun _ => zS_none)
  refine s_callC (pc := 9) (np := 0) (as := []) (rest := [va_rf r2, va_rf v0]) dJ5_init_9 hr (c_J1_init (by decide) r2 h3) ⟨_, _, q185⟩ rfl rfl rfl q253 q184 rfl (by simp [zcat_rf, zcat_i, zcat_l, zcat_f, zcat_d]) (zkV (fun h4 => ?_)) zxo
  refine s_putR (pc := 12) dJ5_init_12 pf_J5_10 (fun h5 => ?_)
  exact s_vret (pc := 15) dJ5_init_15 rfl
theorem c_J5_init {d0 : Nat} (hd0 : 3 < d0) (v0 : Option Nat) (h : zH) : zCal D z d0 h yJ5_init [va_rf v0] (f_J5_init v0 h) :=
  ⟨cJ5_init, 1, none, [], 3, (show lv_args 0 [va_rf v0] = [(0, va_rf v0)] by simp [lv_args, zcat_rf, zcat_i, zcat_l, zcat_f, zcat_d]) ▸ w_J5_init v0 h, (plainFor_of_name (by decide)), by simp [lg_sl, zcat_rf, zcat_i, zcat_l, zcat_f, zcat_d], q243, q102, hd0, by decide, by decide⟩
theorem w_J13_init (v0 : Option Nat) (v1 : Option Nat) (v2 : Int32) (h : zH) : zS D z yJ13_init cJ13_init 3 none [] 2 h 0 [(0, va_rf v0), (1, va_rf v1), (2, .int v2)] [] (f_J13_init v0 v1 v2 h) := by
  unfold f_J13_init
  refine s_aload_n (pc := 0) 0 dJ13_init_0 rfl rfl ?_
  refine s_aload_n (pc := 1) 1 dJ13_init_1 rfl rfl ?_
  refine s_putR (pc := 2) dJ13_init_2 pf_J13_1 (fun h1 => ?_)
  refine s_aload_n (pc := 5) 0 dJ13_init_5 rfl rfl ?_
  refine zS_ite (fun hr => ?_) (fun _ => zS_none)
  refine s_callC (pc := 6) (np := 0) (as := []) (rest := []) dJ13_init_6 hr (c_J3_init (by decide) v0 h1) ⟨_, _, q249⟩ rfl rfl rfl q426 q248 rfl (by decide) (zkV (fun h2 => ?_)) zxo
  refine s_aload_n (pc := 9) 0 dJ13_init_9 rfl rfl ?_
  refine s_iload_n (pc := 10) 2 dJ13_init_10 rfl rfl ?_
  refine s_putN (pc := 11) dJ13_init_11 pf_J13_13 (fun h3 => ?_)
  exact s_vret (pc := 14) dJ13_init_14 rfl
theorem c_J13_init {d0 : Nat} (hd0 : 2 < d0) (v0 : Option Nat) (v1 : Option Nat) (v2 : Int32) (h : zH) : zCal D z d0 h yJ13_init [va_rf v0, va_rf v1, .int v2] (f_J13_init v0 v1 v2 h) :=
  ⟨cJ13_init, 3, none, [], 2, (show lv_args 0 [va_rf v0, va_rf v1, .int v2] = [(0, va_rf v0), (1, va_rf v1), (2, .int v2)] by simp [lv_args, zcat_rf, zcat_i, zcat_l, zcat_f, zcat_d]) ▸ w_J13_init v0 v1 v2 h, (plainFor_of_name (by decide)), by simp [lg_sl, zcat_rf, zcat_i, zcat_l, zcat_f, zcat_d], q425, q110, hd0, by decide, by decide⟩
theorem w_J2_sequencedValues (v0 : Option Nat) (h : zH) : zS D z yJ2_sequencedValues cJ2_sequencedValues 3 (some (.object "java/util/SequencedCollection")) [] 3 h 0 [(0, va_rf v0)] [] (f_J2_sequencedValues v0 h) := by
  unfold f_J2_sequencedValues
  refine s_aload_n (pc := 0) 0 dJ2_sequencedValues_0 rfl rfl ?_
  refine s_gR (pc := 1) dJ2_sequencedValues_1 gf_J2_139 (fun r1 => ?_)
  refine s_ast_n (pc := 4) (L2 := [(0, va_rf v0)]) [0] dJ2_sequencedValues_4 rfl (by decide) rfl rfl (zcB (j := 0) rfl (zcat_rf v0) rfl) ?_
  refine s_aload_n (pc := 5) 0 dJ2_sequencedValues_5 rfl rfl ?_
  refine s_ifnonnull (pc := 6) (tgt := 26) dJ2_sequencedValues_6 (by decide) (fun _ => ?_) (fun _ => ?_)
  · refine s_aload_n (pc := 26) 0 dJ2_sequencedValues_26 rfl rfl ?_
    refine s_cast (pc := 27) dJ2_sequencedValues_27 q434 zcs_java_util_SequencedCollection ?_
    exact s_aret (pc := 30) dJ2_sequencedValues_30 rfl (Or.inl ⟨_, rfl⟩)
  · refine s_new (pc := 9) dJ2_sequencedValues_9 nf_J2_143 (fun r2 h3 => ?_)
    refine s_dup (pc := 12) dJ2_sequencedValues_12 (zcat_rf _) ?_
    refine s_aload_n (pc := 13) 1 dJ2_sequencedValues_13 rfl rfl ?_
    refine s_iconst (pc := 14) (v := 0) dJ2_sequencedValues_14 (by decide) ?_
    refine zS_ite (fun hr => ?_) (fun _ => zS_none)
    refine s_callC (pc := 15) (np := 2) (as := [va_rf v0, .int 0]) (rest := [va_rf r2]) dJ2_sequencedValues_15 hr (c_J13_init (by decide) r2 v0 0 h3) ⟨_, _, q425⟩ rfl rfl rfl q423 q424 rfl (by simp [zcat_rf, zcat_i, zcat_l, zcat_f, zcat_d]) (zkV (fun h4 => ?_)) zxo
    refine s_ast_n (pc := 18) (L2 := [(0, va_rf v0)]) [1] dJ2_sequencedValues_18 rfl (by decide) rfl rfl (zcA rfl) ?_
    refine s_aload_n (pc := 19) 1 dJ2_sequencedValues_19 rfl rfl ?_
    refine s_aload_n (pc := 20) 0 dJ2_sequencedValues_20 rfl rfl ?_
    refine s_putR (pc := 21) dJ2_sequencedValues_21 pf_J2_139 (fun h5 => ?_)
    refine s_aload_n (pc := 24) 0 dJ2_sequencedValues_24 rfl rfl ?_
    exact s_aret (pc := 25) dJ2_sequencedValues_25 rfl (Or.inl ⟨_, rfl⟩)
theorem c_J2_sequencedValues {d0 : Nat} (hd0 : 3 < d0) (v0 : Option Nat) (h : zH) : zCal D z d0 h yJ2_sequencedValues [va_rf v0] (f_J2_sequencedValues v0 h) :=
  ⟨cJ2_sequencedValues, 3, (some (.object "java/util/SequencedCollection")), [], 3, (show lv_args 0 [va_rf v0] = [(0, va_rf v0)] by simp [lv_args, zcat_rf, zcat_i, zcat_l, zcat_f, zcat_d]) ▸ w_J2_sequencedValues v0 h, (plainFor_of_name (by decide)), by simp [lg_sl, zcat_rf, zcat_i, zcat_l, zcat_f, zcat_d], q420, q99, hd0, by decide, by decide⟩
theorem w_J2_values (v0 : Option Nat) (h : zH) : zS D z yJ2_values cJ2_values 1 (some (.object "java/util/Collection")) [] 4 h 0 [(0, va_rf v0)] [] (f_J2_values v0 h) := by
  unfold f_J2_values
  refine s_aload_n (pc := 0) 0 dJ2_values_0 rfl rfl ?_
  refine zS_ite (fun ht => ?_) (fun _ => zS_none)
  refine s_callV (pc := 1) (np := 0) (as := []) (rest := []) dJ2_values_1 ht (q := (RJ2, TJ2, 12)) rfl (c_J2_sequencedValues (by decide) v0 h) rfl rfl q417 q418 q419 rfl (by decide) (zkR (fun r1 h2 => ?_)) zxo
  exact s_aret (pc := 4) dJ2_values_4 rfl (Or.inl ⟨_, rfl⟩)
theorem c_J2_values {d0 : Nat} (hd0 : 4 < d0) (v0 : Option Nat) (h : zH) : zCal D z d0 h yJ2_values [va_rf v0] (f_J2_values v0 h) :=
  ⟨cJ2_values, 1, (some (.object "java/util/Collection")), [], 4, (show lv_args 0 [va_rf v0] = [(0, va_rf v0)] by simp [lv_args, zcat_rf, zcat_i, zcat_l, zcat_f, zcat_d]) ▸ w_J2_values v0 h, (plainFor_of_name (by decide)), by simp [lg_sl, zcat_rf, zcat_i, zcat_l, zcat_f, zcat_d], q416, q99, hd0, by decide, by decide⟩
theorem w_J20_init_30 (a0 : Option Nat) (a1 : Option Nat) (s0 : Option Nat) (s1 : Option Nat) (h : zH) : zS D z yJ20_init cJ20_init 3 none [] 1 h 30 [(0, va_rf a0), (1, va_rf a1)] [va_rf s0, va_rf s1] (f_J20_init_30 a0 a1 s0 s1 h) := by
  unfold f_J20_init_30
  refine s_putR (pc := 30) dJ20_init_30 pf_J20_26 (fun h5 => ?_)
  refine s_aload_n (pc := 33) 0 dJ20_init_33 rfl rfl ?_
  refine s_aload_n (pc := 34) 1 dJ20_init_34 rfl rfl ?_
  refine s_gI (pc := 35) dJ20_init_35 gf_J20_29 (fun x6 => ?_)
  refine s_putI (pc := 38) dJ20_init_38 pf_J20_33 (fun h7 => ?_)
  refine s_aload_n (pc := 41) 0 dJ20_init_41 rfl rfl ?_
  refine s_null (pc := 42) dJ20_init_42 ?_
  refine s_putR (pc := 43) dJ20_init_43 pf_J20_36 (fun h8 => ?_)
  exact s_vret (pc := 46) dJ20_init_46 rfl
theorem w_J20_init (v0 : Option Nat) (v1 : Option Nat) (v2 : Int32) (h : zH) : zS D z yJ20_init cJ20_init 3 none [] 1 h 0 [(0, va_rf v0), (1, va_rf v1), (2, .int v2)] [] (f_J20_init v0 v1 v2 h) := by
  unfold f_J20_init
  refine s_aload_n (pc := 0) 0 dJ20_init_0 rfl rfl ?_
  refine s_aload_n (pc := 1) 1 dJ20_init_1 rfl rfl ?_
  refine s_putR (pc := 2) dJ20_init_2 pf_J20_1 (fun h1 => ?_)
  refine s_aload_n (pc := 5) 0 dJ20_init_5 rfl rfl ?_
  refine zS_ite (fun hr => ?_) (fun _ => zS_none)
  refine s_objinit (pc := 6) dJ20_init_6 hr q591 q164 q165 (by decide) (by decide) ?_
  refine s_aload_n (pc := 9) 0 dJ20_init_9 rfl rfl ?_
  refine s_iload_n (pc := 10) 2 dJ20_init_10 rfl rfl ?_
  refine s_putN (pc := 11) dJ20_init_11 pf_J20_13 (fun h2 => ?_)
  refine s_aload_n (pc := 14) 0 dJ20_init_14 rfl rfl ?_
  refine s_iload_n (pc := 15) 2 dJ20_init_15 rfl rfl ?_
  refine s_if_eq (pc := 16) (tgt := 26) dJ20_init_16 (by decide) (fun _ => ?_) (fun _ => ?_)
  · refine s_aload_n (pc := 26) 1 dJ20_init_26 rfl rfl ?_
    refine s_gR (pc := 27) dJ20_init_27 gf_J20_23 (fun r3 => ?_)
    exact s_sub (pc := 30) [0, 1] rfl (w_J20_init_30 v0 v1 r3 v0 h2)
  · refine s_aload_n (pc := 19) 1 dJ20_init_19 rfl rfl ?_
    refine s_gR (pc := 20) dJ20_init_20 gf_J20_17 (fun r4 => ?_)
    refine s_goto (pc := 23) (tgt := 30) dJ20_init_23 (by decide) ?_
    exact s_sub (pc := 30) [0, 1] rfl (w_J20_init_30 v0 v1 r4 v0 h2)
theorem c_J20_init {d0 : Nat} (hd0 : 1 < d0) (v0 : Option Nat) (v1 : Option Nat) (v2 : Int32) (h : zH) : zCal D z d0 h yJ20_init [va_rf v0, va_rf v1, .int v2] (f_J20_init v0 v1 v2 h) :=
  ⟨cJ20_init, 3, none, [], 1, (show lv_args 0 [va_rf v0, va_rf v1, .int v2] = [(0, va_rf v0), (1, va_rf v1), (2, .int v2)] by simp [lv_args, zcat_rf, zcat_i, zcat_l, zcat_f, zcat_d]) ▸ w_J20_init v0 v1 v2 h, (plainFor_of_name (by decide)), by simp [lg_sl, zcat_rf, zcat_i, zcat_l, zcat_f, zcat_d], q590, q117, hd0, by decide, by decide⟩
theorem w_J22_init (v0 : Option Nat) (v1 : Option Nat) (v2 : Int32) (h : zH) : zS D z yJ22_init cJ22_init 3 none [] 2 h 0 [(0, va_rf v0), (1, va_rf v1), (2, .int v2)] [] (f_J22_init v0 v1 v2 h) := by
  unfold f_J22_init
  refine s_aload_n (pc := 0) 0 dJ22_init_0 rfl rfl ?_
  refine s_aload_n (pc := 1) 1 dJ22_init_1 rfl rfl ?_
  refine s_iload_n (pc := 2) 2 dJ22_init_2 rfl rfl ?_
  refine zS_ite (fun hr => ?_) (fun _ => zS_none)
  refine s_callC (pc := 3) (np := 2) (as := [va_rf v1, .int v2]) (rest := []) dJ22_init_3 hr (c_J20_init (by decide) v0 v1 v2 h) ⟨_, _, q590⟩ rfl rfl rfl q621 q589 rfl (by decide) (zkV (fun h1 => ?_)) zxo
  exact s_vret (pc := 6) dJ22_init_6 rfl
theorem c_J22_init {d0 : Nat} (hd0 : 2 < d0) (v0 : Option Nat) (v1 : Option Nat) (v2 : Int32) (h : zH) : zCal D z d0 h yJ22_init [va_rf v0, va_rf v1, .int v2] (f_J22_init v0 v1 v2 h) :=
  ⟨cJ22_init, 3, none, [], 2, (show lv_args 0 [va_rf v0, va_rf v1, .int v2] = [(0, va_rf v0), (1, va_rf v1), (2, .int v2)] by simp [lv_args, zcat_rf, zcat_i, zcat_l, zcat_f, zcat_d]) ▸ w_J22_init v0 v1 v2 h, (plainFor_of_name (by decide)), by simp [lg_sl, zcat_rf, zcat_i, zcat_l, zcat_f, zcat_d], q620, q119, hd0, by decide, by decide⟩
theorem w_J13_iterator (v0 : Option Nat) (h : zH) : zS D z yJ13_iterator cJ13_iterator 1 (some (.object "java/util/Iterator")) [] 3 h 0 [(0, va_rf v0)] [] (f_J13_iterator v0 h) := by
  unfold f_J13_iterator
  refine s_new (pc := 0) dJ13_iterator_0 nf_J13_26 (fun r1 h2 => ?_)
  refine s_dup (pc := 3) dJ13_iterator_3 (zcat_rf _) ?_
  refine s_aload_n (pc := 4) 0 dJ13_iterator_4 rfl rfl ?_
  refine s_gR (pc := 5) dJ13_iterator_5 gf_J13_1 (fun r3 => ?_)
  refine s_aload_n (pc := 8) 0 dJ13_iterator_8 rfl rfl ?_
  refine s_gI (pc := 9) dJ13_iterator_9 gf_J13_13 (fun x4 => ?_)
  refine zS_ite (fun hr => ?_) (fun _ => zS_none)
  refine s_callC (pc := 12) (np := 2) (as := [va_rf r3, .int x4]) (rest := [va_rf r1]) dJ13_iterator_12 hr (c_J22_init (by decide) r1 r3 x4 h2) ⟨_, _, q620⟩ rfl rfl rfl q618 q619 rfl (by simp [zcat_rf, zcat_i, zcat_l, zcat_f, zcat_d]) (zkV (fun h5 => ?_)) zxo
  exact s_aret (pc := 15) dJ13_iterator_15 rfl (Or.inl ⟨_, rfl⟩)
theorem c_J13_iterator {d0 : Nat} (hd0 : 3 < d0) (v0 : Option Nat) (h : zH) : zCal D z d0 h yJ13_iterator [va_rf v0] (f_J13_iterator v0 h) :=
  ⟨cJ13_iterator, 1, (some (.object "java/util/Iterator")), [], 3, (show lv_args 0 [va_rf v0] = [(0, va_rf v0)] by simp [lv_args, zcat_rf, zcat_i, zcat_l, zcat_f, zcat_d]) ▸ w_J13_iterator v0 h, (plainFor_of_name (by decide)), by simp [lg_sl, zcat_rf, zcat_i, zcat_l, zcat_f, zcat_d], q615, q110, hd0, by decide, by decide⟩
theorem w_X3_end (v0 : Option Nat) (h : zH) : zS D z yX3_end cX3_end 1 (some .int) [] 1 h 0 [(0, va_rf v0)] [] (f_X3_end v0 h) := by
  unfold f_X3_end
  refine s_aload_n (pc := 0) 0 dX3_end_0 rfl rfl ?_
  refine s_gI (pc := 1) dX3_end_1 gf_X3_7 (fun x1 => ?_)
  refine s_aload_n (pc := 4) 0 dX3_end_4 rfl rfl ?_
  refine s_gI (pc := 5) dX3_end_5 gf_X3_13 (fun x2 => ?_)
  refine s_iadd (pc := 8) dX3_end_8 ?_
  exact s_iret (pc := 9) dX3_end_9 rfl
theorem c_X3_end {d0 : Nat} (hd0 : 1 < d0) (v0 : Option Nat) (h : zH) : zCal D z d0 h yX3_end [va_rf v0] (f_X3_end v0 h) :=
  ⟨cX3_end, 1, (some .int), [], 1, (show lv_args 0 [va_rf v0] = [(0, va_rf v0)] by simp [lv_args, zcat_rf, zcat_i, zcat_l, zcat_f, zcat_d]) ▸ w_X3_end v0 h, (plainFor_of_name (by decide)), by simp [lg_sl, zcat_rf, zcat_i, zcat_l, zcat_f, zcat_d], q641, q138, hd0, by decide, by decide⟩
theorem w_X9_hasNext (v0 : Option Nat) (h : zH) : zS D z yX9_hasNext cX9_hasNext 1 (some .boolean) [] 2 h 0 [(0, va_rf v0)] [] (f_X9_hasNext v0 h) := by
  unfold f_X9_hasNext
  refine s_aload_n (pc := 0) 0 dX9_hasNext_0 rfl rfl ?_
  refine s_gI (pc := 1) dX9_hasNext_1 gf_X9_19 (fun x1 => ?_)
  refine s_aload_n (pc := 4) 0 dX9_hasNext_4 rfl rfl ?_
  refine s_gR (pc := 5) dX9_hasNext_5 gf_X9_1 (fun r2 => ?_)
  refine zS_ite (fun ht => ?_) (fun _ => zS_none)
  refine s_callV (pc := 8) (np := 0) (as := []) (rest := [.int x1]) dX9_hasNext_8 ht (q := (RX3, TX3, 2)) rfl (c_X3_end (by decide) r2 h) rfl rfl q638 q639 q640 rfl (by simp [zcat_rf, zcat_i, zcat_l, zcat_f, zcat_d]) (zkI (fun x3 h4 => ?_)) zxo
  refine s_icmp_ge (pc := 11) (tgt := 18) dX9_hasNext_11 (by decide) (fun _ => ?_) (fun _ => ?_)
  · refine s_iconst (pc := 18) (v := 0) dX9_hasNext_18 (by decide) ?_
    exact s_nret (pc := 19) dX9_hasNext_19 rfl
  · refine s_iconst (pc := 14) (v := 1) dX9_hasNext_14 (by decide) ?_
    refine s_goto (pc := 15) (tgt := 19) dX9_hasNext_15 (by decide) ?_
    exact s_nret (pc := 19) dX9_hasNext_19 rfl
theorem c_X9_hasNext {d0 : Nat} (hd0 : 2 < d0) (v0 : Option Nat) (h : zH) : zCal D z d0 h yX9_hasNext [va_rf v0] (f_X9_hasNext v0 h) :=
  ⟨cX9_hasNext, 1, (some .boolean), [], 2, (show lv_args 0 [va_rf v0] = [(0, va_rf v0)] by simp [lv_args, zcat_rf, zcat_i, zcat_l, zcat_f, zcat_d]) ▸ w_X9_hasNext v0 h, (plainFor_of_name (by decide)), by simp [lg_sl, zcat_rf, zcat_i, zcat_l, zcat_f, zcat_d], q637, q152, hd0, by decide, by decide⟩
theorem w_J15_hasNext (v0 : Option Nat) (h : zH) : zS D z yJ15_hasNext cJ15_hasNext 1 (some .boolean) [] 1 h 0 [(0, va_rf v0)] [] (f_J15_hasNext v0 h) := by
  unfold f_J15_hasNext
  refine s_aload_n (pc := 0) 0 dJ15_hasNext_0 rfl rfl ?_
  refine s_gI (pc := 1) dJ15_hasNext_1 gf_J15_25 (fun x1 => ?_)
  refine s_aload_n (pc := 4) 0 dJ15_hasNext_4 rfl rfl ?_
  refine s_gR (pc := 5) dJ15_hasNext_5 gf_J15_1 (fun r2 => ?_)
  refine s_gI (pc := 8) dJ15_hasNext_8 gf_J15_28 (fun x3 => ?_)
  refine s_icmp_eq (pc := 11) (tgt := 18) dJ15_hasNext_11 (by decide) (fun _ => ?_) (fun _ => ?_)
  · refine s_iconst (pc := 18) (v := 0) dJ15_hasNext_18 (by decide) ?_
    exact s_nret (pc := 19) dJ15_hasNext_19 rfl
  · refine s_iconst (pc := 14) (v := 1) dJ15_hasNext_14 (by decide) ?_
    refine s_goto (pc := 15) (tgt := 19) dJ15_hasNext_15 (by decide) ?_
    exact s_nret (pc := 19) dJ15_hasNext_19 rfl
theorem c_J15_hasNext {d0 : Nat} (hd0 : 1 < d0) (v0 : Option Nat) (h : zH) : zCal D z d0 h yJ15_hasNext [va_rf v0] (f_J15_hasNext v0 h) :=
  ⟨cJ15_hasNext, 1, (some .boolean), [], 1, (show lv_args 0 [va_rf v0] = [(0, va_rf v0)] by simp [lv_args, zcat_rf, zcat_i, zcat_l, zcat_f, zcat_d]) ▸ w_J15_hasNext v0 h, (plainFor_of_name (by decide)), by simp [lg_sl, zcat_rf, zcat_i, zcat_l, zcat_f, zcat_d], q653, q112, hd0, by decide, by decide⟩
theorem w_J16_hasNext (v0 : Option Nat) (h : zH) : zS D z yJ16_hasNext cJ16_hasNext 1 (some .boolean) [] 1 h 0 [(0, va_rf v0)] [] (f_J16_hasNext v0 h) := by
  unfold f_J16_hasNext
  refine s_aload_n (pc := 0) 0 dJ16_hasNext_0 rfl rfl ?_
  refine s_gR (pc := 1) dJ16_hasNext_1 gf_J16_26 (fun r1 => ?_)
  refine s_ifnull (pc := 4) (tgt := 11) dJ16_hasNext_4 (by decide) (fun _ => ?_) (fun _ => ?_)
  · refine s_iconst (pc := 11) (v := 0) dJ16_hasNext_11 (by decide) ?_
    exact s_nret (pc := 12) dJ16_hasNext_12 rfl
  · refine s_iconst (pc := 7) (v := 1) dJ16_hasNext_7 (by decide) ?_
    refine s_goto (pc := 8) (tgt := 12) dJ16_hasNext_8 (by decide) ?_
    exact s_nret (pc := 12) dJ16_hasNext_12 rfl
theorem c_J16_hasNext {d0 : Nat} (hd0 : 1 < d0) (v0 : Option Nat) (h : zH) : zCal D z d0 h yJ16_hasNext [va_rf v0] (f_J16_hasNext v0 h) :=
  ⟨cJ16_hasNext, 1, (some .boolean), [], 1, (show lv_args 0 [va_rf v0] = [(0, va_rf v0)] by simp [lv_args, zcat_rf, zcat_i, zcat_l, zcat_f, zcat_d]) ▸ w_J16_hasNext v0 h, (plainFor_of_name (by decide)), by simp [lg_sl, zcat_rf, zcat_i, zcat_l, zcat_f, zcat_d], q659, q113, hd0, by decide, by decide⟩
theorem w_J20_hasNext (v0 : Option Nat) (h : zH) : zS D z yJ20_hasNext cJ20_hasNext 1 (some .boolean) [] 1 h 0 [(0, va_rf v0)] [] (f_J20_hasNext v0 h) := by
  unfold f_J20_hasNext
  refine s_aload_n (pc := 0) 0 dJ20_hasNext_0 rfl rfl ?_
  refine s_gR (pc := 1) dJ20_hasNext_1 gf_J20_26 (fun r1 => ?_)
  refine s_ifnull (pc := 4) (tgt := 11) dJ20_hasNext_4 (by decide) (fun _ => ?_) (fun _ => ?_)
  · refine s_iconst (pc := 11) (v := 0) dJ20_hasNext_11 (by decide) ?_
    exact s_nret (pc := 12) dJ20_hasNext_12 rfl
  · refine s_iconst (pc := 7) (v := 1) dJ20_hasNext_7 (by decide) ?_
    refine s_goto (pc := 8) (tgt := 12) dJ20_hasNext_8 (by decide) ?_
    exact s_nret (pc := 12) dJ20_hasNext_12 rfl
theorem c_J20_hasNext {d0 : Nat} (hd0 : 1 < d0) (v0 : Option Nat) (h : zH) : zCal D z d0 h yJ20_hasNext [va_rf v0] (f_J20_hasNext v0 h) :=
  ⟨cJ20_hasNext, 1, (some .boolean), [], 1, (show lv_args 0 [va_rf v0] = [(0, va_rf v0)] by simp [lv_args, zcat_rf, zcat_i, zcat_l, zcat_f, zcat_d]) ▸ w_J20_hasNext v0 h, (plainFor_of_name (by decide)), by simp [lg_sl, zcat_rf, zcat_i, zcat_l, zcat_f, zcat_d], q665, q117, hd0, by decide, by decide⟩
theorem w_J23_init (v0 : Option Nat) (h : zH) : zS D z yJ23_init cJ23_init 1 none [] 1 h 0 [(0, va_rf v0)] [] (f_J23_init v0 h) := by
  unfold f_J23_init
  refine s_aload_n (pc := 0) 0 dJ23_init_0 rfl rfl ?_
  refine zS_ite (fun hr => ?_) (fun _ => zS_none)
  refine s_objinit (pc := 1) dJ23_init_1 hr q697 q164 q165 (by decide) (by decide) ?_
  exact s_vret (pc := 4) dJ23_init_4 rfl
theorem c_J23_init {d0 : Nat} (hd0 : 1 < d0) (v0 : Option Nat) (h : zH) : zCal D z d0 h yJ23_init [va_rf v0] (f_J23_init v0 h) :=
  ⟨cJ23_init, 1, none, [], 1, (show lv_args 0 [va_rf v0] = [(0, va_rf v0)] by simp [lv_args, zcat_rf, zcat_i, zcat_l, zcat_f, zcat_d]) ▸ w_J23_init v0 h, (plainFor_of_name (by decide)), by simp [lg_sl, zcat_rf, zcat_i, zcat_l, zcat_f, zcat_d], q696, q120, hd0, by decide, by decide⟩
theorem w_J24_init (v0 : Option Nat) (v1 : Int32) (h : zH) : zS D z yJ24_init cJ24_init 2 none [] 2 h 0 [(0, va_rf v0), (1, .int v1)] [] (f_J24_init v0 v1 h) := by
  unfold f_J24_init
  refine s_aload_n (pc := 0) 0 dJ24_init_0 rfl rfl ?_
  refine zS_ite (fun hr => ?_) (fun _ => zS_none)
  refine s_callC (pc := 1) (np := 0) (as := []) (rest := []) dJ24_init_1 hr (c_J23_init (by decide) v0 h) ⟨_, _, q696⟩ rfl rfl rfl q694 q695 rfl (by decide) (zkV (fun h1 => ?_)) zxo
  refine s_aload_n (pc := 4) 0 dJ24_init_4 rfl rfl ?_
  refine s_iload_n (pc := 5) 1 dJ24_init_5 rfl rfl ?_
  refine s_putI (pc := 6) dJ24_init_6 pf_J24_205 (fun h2 => ?_)
  exact s_vret (pc := 9) dJ24_init_9 rfl
theorem c_J24_init {d0 : Nat} (hd0 : 2 < d0) (v0 : Option Nat) (v1 : Int32) (h : zH) : zCal D z d0 h yJ24_init [va_rf v0, .int v1] (f_J24_init v0 v1 h) :=
  ⟨cJ24_init, 2, none, [], 2, (show lv_args 0 [va_rf v0, .int v1] = [(0, va_rf v0), (1, .int v1)] by simp [lv_args, zcat_rf, zcat_i, zcat_l, zcat_f, zcat_d]) ▸ w_J24_init v0 v1 h, (plainFor_of_name (by decide)), by simp [lg_sl, zcat_rf, zcat_i, zcat_l, zcat_f, zcat_d], q693, q121, hd0, by decide, by decide⟩
theorem w_J24_valueOf_23 (a0 : Int32) (h : zH) : zS D z yJ24_valueOf cJ24_valueOf 1 (some (.object "java/lang/Integer")) [] 3 h 23 [(0, .int a0)] [] (f_J24_valueOf_23 a0 h) := by
  unfold f_J24_valueOf_23
  refine s_new (pc := 23) dJ24_valueOf_23 nf_J24_1 (fun r2 h3 => ?_)
  refine s_dup (pc := 26) dJ24_valueOf_26 (zcat_rf _) ?_
  refine s_iload_n (pc := 27) 0 dJ24_valueOf_27 rfl rfl ?_
  refine zS_ite (fun hr => ?_) (fun _ => zS_none)
  refine s_callC (pc := 28) (np := 1) (as := [.int a0]) (rest := [va_rf r2]) dJ24_valueOf_28 hr (c_J24_init (by decide) r2 a0 h3) ⟨_, _, q693⟩ rfl rfl rfl q691 q692 rfl (by simp [zcat_rf, zcat_i, zcat_l, zcat_f, zcat_d]) (zkV (fun h4 => ?_)) zxo
  exact s_aret (pc := 31) dJ24_valueOf_31 rfl (Or.inl ⟨_, rfl⟩)
theorem w_J24_valueOf (v0 : Int32) (h : zH) : zS D z yJ24_valueOf cJ24_valueOf 1 (some (.object "java/lang/Integer")) [] 3 h 0 [(0, .int v0)] [] (f_J24_valueOf v0 h) := by
  unfold f_J24_valueOf
  refine s_iload_n (pc := 0) 0 dJ24_valueOf_0 rfl rfl ?_
  refine s_bipush (pc := 1) (v := -128) dJ24_valueOf_1 (by decide) ?_
  refine s_icmp_lt (pc := 3) (tgt := 23) dJ24_valueOf_3 (by decide) (fun _ => ?_) (fun _ => ?_)
  · exact s_sub (pc := 23) [0] rfl (w_J24_valueOf_23 v0 h)
  · refine s_iload_n (pc := 6) 0 dJ24_valueOf_6 rfl rfl ?_
    refine s_getsI (pc := 7) (n := "high") (v := 127) dJ24_valueOf_7 (List.mem_of_getElem? (i := 0) rfl) q685 ?_
    refine s_icmp_gt (pc := 10) (tgt := 23) dJ24_valueOf_10 (by decide) (fun _ => ?_) (fun _ => ?_)
    · exact s_sub (pc := 23) [0] rfl (w_J24_valueOf_23 v0 h)
    · refine s_getsR (pc := 13) (n := "cache") (i := 0) dJ24_valueOf_13 (List.mem_of_getElem? (i := 1) rfl) q687 ?_
      refine s_iload_n (pc := 16) 0 dJ24_valueOf_16 rfl rfl ?_
      refine s_sipush (pc := 17) (v := 128) dJ24_valueOf_17 (by decide) ?_
      refine s_iadd (pc := 20) dJ24_valueOf_20 ?_
      refine s_aald (pc := 21) dJ24_valueOf_21 zrefs_ok (fun r1 => ?_)
      exact s_aret (pc := 22) dJ24_valueOf_22 rfl (Or.inl ⟨_, rfl⟩)
theorem c_J24_valueOf {d0 : Nat} (hd0 : 3 < d0) (v0 : Int32) (h : zH) : zCal D z d0 h yJ24_valueOf [.int v0] (f_J24_valueOf v0 h) :=
  ⟨cJ24_valueOf, 1, (some (.object "java/lang/Integer")), [], 3, (show lv_args 0 [.int v0] = [(0, .int v0)] by simp [lv_args, zcat_rf, zcat_i, zcat_l, zcat_f, zcat_d]) ▸ w_J24_valueOf v0 h, (plainFor_of_name (by decide)), by simp [lg_sl, zcat_rf, zcat_i, zcat_l, zcat_f, zcat_d], q684, q121, hd0, by decide, by decide⟩
theorem w_X9_next_2 (v0 : Option Nat) (h : zH) : zS D z yX9_next_2 cX9_next_2 1 (some (.object "java/lang/Integer")) [] 4 h 0 [(0, va_rf v0)] [] (f_X9_next_2 v0 h) := by
  unfold f_X9_next_2
  refine s_aload_n (pc := 0) 0 dX9_next_2_0 rfl rfl ?_
  refine s_dup (pc := 1) dX9_next_2_1 (zcat_rf _) ?_
  refine s_gI (pc := 2) dX9_next_2_2 gf_X9_19 (fun x1 => ?_)
  refine s_iconst (pc := 5) (v := 1) dX9_next_2_5 (by decide) ?_
  refine s_iadd (pc := 6) dX9_next_2_6 ?_
  refine s_putI (pc := 7) dX9_next_2_7 pf_X9_19 (fun h2 => ?_)
  refine s_aload_n (pc := 10) 0 dX9_next_2_10 rfl rfl ?_
  refine s_gI (pc := 11) dX9_next_2_11 gf_X9_19 (fun x3 => ?_)
  refine s_iconst (pc := 14) (v := 1) dX9_next_2_14 (by decide) ?_
  refine s_isub (pc := 15) dX9_next_2_15 ?_
  refine s_callSS (pc := 16) (np := 1) (as := [.int (x3 - 1)]) (rest := []) dX9_next_2_16 (c_J24_valueOf (by decide) (x3 - 1) h2) rfl rfl q682 q683 rfl (by decide) (zkR (fun r4 h5 => ?_)) zxo
  exact s_aret (pc := 19) dX9_next_2_19 rfl (Or.inl ⟨_, rfl⟩)
theorem c_X9_next_2 {d0 : Nat} (hd0 : 4 < d0) (v0 : Option Nat) (h : zH) : zCal D z d0 h yX9_next_2 [va_rf v0] (f_X9_next_2 v0 h) :=
  ⟨cX9_next_2, 1, (some (.object "java/lang/Integer")), [], 4, (show lv_args 0 [va_rf v0] = [(0, va_rf v0)] by simp [lv_args, zcat_rf, zcat_i, zcat_l, zcat_f, zcat_d]) ▸ w_X9_next_2 v0 h, (plainFor_of_name (by decide)), by simp [lg_sl, zcat_rf, zcat_i, zcat_l, zcat_f, zcat_d], q681, q152, hd0, by decide, by decide⟩
theorem w_X9_next (v0 : Option Nat) (h : zH) : zS D z yX9_next cX9_next 1 (some (.object "java/lang/Object")) [] 5 h 0 [(0, va_rf v0)] [] (f_X9_next v0 h) := by
  unfold f_X9_next
  refine s_aload_n (pc := 0) 0 dX9_next_0 rfl rfl ?_
  refine zS_ite (fun ht => ?_) (fun _ => zS_none)
  refine s_callV (pc := 1) (np := 0) (as := []) (rest := []) dX9_next_1 ht (q := (RX9, TX9, 2)) rfl (c_X9_next_2 (by decide) v0 h) rfl rfl q678 q679 q680 rfl (by decide) (zkR (fun r1 h2 => ?_)) zxo
  exact s_aret (pc := 4) dX9_next_4 rfl (Or.inl ⟨_, rfl⟩)
theorem c_X9_next {d0 : Nat} (hd0 : 5 < d0) (v0 : Option Nat) (h : zH) : zCal D z d0 h yX9_next [va_rf v0] (f_X9_next v0 h) :=
  ⟨cX9_next, 1, (some (.object "java/lang/Object")), [], 5, (show lv_args 0 [va_rf v0] = [(0, va_rf v0)] by simp [lv_args, zcat_rf, zcat_i, zcat_l, zcat_f, zcat_d]) ▸ w_X9_next v0 h, (plainFor_of_name (by decide)), by simp [lg_sl, zcat_rf, zcat_i, zcat_l, zcat_f, zcat_d], q677, q152, hd0, by decide, by decide⟩
theorem w_J15_checkForComodification (v0 : Option Nat) (h : zH) : zS D z yJ15_checkForComodification cJ15_checkForComodification 1 none [] 1 h 0 [(0, va_rf v0)] [] (f_J15_checkForComodification v0 h) := by
  unfold f_J15_checkForComodification
  refine s_aload_n (pc := 0) 0 dJ15_checkForComodification_0 rfl rfl ?_
  refine s_gR (pc := 1) dJ15_checkForComodification_1 gf_J15_1 (fun r1 => ?_)
  refine s_gI (pc := 4) dJ15_checkForComodification_4 gf_J15_17 (fun x2 => ?_)
  refine s_aload_n (pc := 7) 0 dJ15_checkForComodification_7 rfl rfl ?_
  refine s_gI (pc := 8) dJ15_checkForComodification_8 gf_J15_22 (fun x3 => ?_)
  refine s_icmp_eq (pc := 11) (tgt := 22) dJ15_checkForComodification_11 (by decide) (fun _ => ?_) (fun _ => ?_)
  · exact s_vret (pc := 22) dJ15_checkForComodification_22 rfl
  · exact zS_none
theorem c_J15_checkForComodification {d0 : Nat} (hd0 : 1 < d0) (v0 : Option Nat) (h : zH) : zCal D z d0 h yJ15_checkForComodification [va_rf v0] (f_J15_checkForComodification v0 h) :=
  ⟨cJ15_checkForComodification, 1, none, [], 1, (show lv_args 0 [va_rf v0] = [(0, va_rf v0)] by simp [lv_args, zcat_rf, zcat_i, zcat_l, zcat_f, zcat_d]) ▸ w_J15_checkForComodification v0 h, (plainFor_of_name (by decide)), by simp [lg_sl, zcat_rf, zcat_i, zcat_l, zcat_f, zcat_d], q792, q112, hd0, by decide, by decide⟩
theorem w_J25_init (v0 : Option Nat) (h : zH) : zS D z yJ25_init cJ25_init 1 none [] 1 h 0 [(0, va_rf v0)] [] (f_J25_init v0 h) := by
  unfold f_J25_init
  refine s_aload_n (pc := 0) 0 dJ25_init_0 rfl rfl ?_
  refine zS_ite (fun hr => ?_) (fun _ => zS_none)
  refine s_objinit (pc := 1) dJ25_init_1 hr q732 q164 q165 (by decide) (by decide) ?_
  refine s_aload_n (pc := 4) 0 dJ25_init_4 rfl rfl ?_
  refine s_aload_n (pc := 5) 0 dJ25_init_5 rfl rfl ?_
  refine s_putR (pc := 6) dJ25_init_6 pf_J25_7 (fun h1 => ?_)
  refine s_aload_n (pc := 9) 0 dJ25_init_9 rfl rfl ?_
  refine s_getsQ (pc := 10) (n := "UNASSIGNED_STACK") (i := 7) dJ25_init_10 (List.mem_of_getElem? (i := 9) rfl) q733 ?_
  refine s_putA (pc := 13) dJ25_init_13 pf_J25_17 (fun h2 => ?_)
  refine s_aload_n (pc := 16) 0 dJ25_init_16 rfl rfl ?_
  refine s_getsQ (pc := 17) (n := "SUPPRESSED_SENTINEL") (i := 8) dJ25_init_17 (List.mem_of_getElem? (i := 10) rfl) q735 ?_
  refine s_putR (pc := 20) dJ25_init_20 pf_J25_24 (fun h3 => ?_)
  refine s_aload_n (pc := 23) 0 dJ25_init_23 rfl rfl ?_
  exact zS_none
theorem c_J25_init {d0 : Nat} (hd0 : 1 < d0) (v0 : Option Nat) (h : zH) : zCal D z d0 h yJ25_init [va_rf v0] (f_J25_init v0 h) :=
  ⟨cJ25_init, 1, none, [], 1, (show lv_args 0 [va_rf v0] = [(0, va_rf v0)] by simp [lv_args, zcat_rf, zcat_i, zcat_l, zcat_f, zcat_d]) ▸ w_J25_init v0 h, (plainFor_of_name (by decide)), by simp [lg_sl, zcat_rf, zcat_i, zcat_l, zcat_f, zcat_d], q731, q123, hd0, by decide, by decide⟩
theorem w_J26_init (v0 : Option Nat) (h : zH) : zS D z yJ26_init cJ26_init 1 none [] 2 h 0 [(0, va_rf v0)] [] (f_J26_init v0 h) := by
  unfold f_J26_init
  refine s_aload_n (pc := 0) 0 dJ26_init_0 rfl rfl ?_
  refine zS_ite (fun hr => ?_) (fun _ => zS_none)
  refine s_callC (pc := 1) (np := 0) (as := []) (rest := []) dJ26_init_1 hr (c_J25_init (by decide) v0 h) ⟨_, _, q731⟩ rfl rfl rfl q764 q730 rfl (by decide) (zkV (fun h1 => ?_)) zxo
  exact s_vret (pc := 4) dJ26_init_4 rfl
theorem c_J26_init {d0 : Nat} (hd0 : 2 < d0) (v0 : Option Nat) (h : zH) : zCal D z d0 h yJ26_init [va_rf v0] (f_J26_init v0 h) :=
  ⟨cJ26_init, 1, none, [], 2, (show lv_args 0 [va_rf v0] = [(0, va_rf v0)] by simp [lv_args, zcat_rf, zcat_i, zcat_l, zcat_f, zcat_d]) ▸ w_J26_init v0 h, (plainFor_of_name (by decide)), by simp [lg_sl, zcat_rf, zcat_i, zcat_l, zcat_f, zcat_d], q763, q124, hd0, by decide, by decide⟩
theorem w_J27_init (v0 : Option Nat) (h : zH) : zS D z yJ27_init cJ27_init 1 none [] 3 h 0 [(0, va_rf v0)] [] (f_J27_init v0 h) := by
  unfold f_J27_init
  refine s_aload_n (pc := 0) 0 dJ27_init_0 rfl rfl ?_
  refine zS_ite (fun hr => ?_) (fun _ => zS_none)
  refine s_callC (pc := 1) (np := 0) (as := []) (rest := []) dJ27_init_1 hr (c_J26_init (by decide) v0 h) ⟨_, _, q763⟩ rfl rfl rfl q761 q762 rfl (by decide) (zkV (fun h1 => ?_)) zxo
  exact s_vret (pc := 4) dJ27_init_4 rfl
theorem c_J27_init {d0 : Nat} (hd0 : 3 < d0) (v0 : Option Nat) (h : zH) : zCal D z d0 h yJ27_init [va_rf v0] (f_J27_init v0 h) :=
  ⟨cJ27_init, 1, none, [], 3, (show lv_args 0 [va_rf v0] = [(0, va_rf v0)] by simp [lv_args, zcat_rf, zcat_i, zcat_l, zcat_f, zcat_d]) ▸ w_J27_init v0 h, (plainFor_of_name (by decide)), by simp [lg_sl, zcat_rf, zcat_i, zcat_l, zcat_f, zcat_d], q760, q125, hd0, by decide, by decide⟩
theorem w_J28_init (v0 : Option Nat) (h : zH) : zS D z yJ28_init cJ28_init 1 none [] 4 h 0 [(0, va_rf v0)] [] (f_J28_init v0 h) := by
  unfold f_J28_init
  refine s_aload_n (pc := 0) 0 dJ28_init_0 rfl rfl ?_
  refine zS_ite (fun hr => ?_) (fun _ => zS_none)
  refine s_callC (pc := 1) (np := 0) (as := []) (rest := []) dJ28_init_1 hr (c_J27_init (by decide) v0 h) ⟨_, _, q760⟩ rfl rfl rfl q758 q759 rfl (by decide) (zkV (fun h1 => ?_)) zxo
  exact s_vret (pc := 4) dJ28_init_4 rfl
theorem c_J28_init {d0 : Nat} (hd0 : 4 < d0) (v0 : Option Nat) (h : zH) : zCal D z d0 h yJ28_init [va_rf v0] (f_J28_init v0 h) :=
  ⟨cJ28_init, 1, none, [], 4, (show lv_args 0 [va_rf v0] = [(0, va_rf v0)] by simp [lv_args, zcat_rf, zcat_i, zcat_l, zcat_f, zcat_d]) ▸ w_J28_init v0 h, (plainFor_of_name (by decide)), by simp [lg_sl, zcat_rf, zcat_i, zcat_l, zcat_f, zcat_d], q757, q126, hd0, by decide, by decide⟩
theorem w_J15_next (v0 : Option Nat) (h : zH) : zS D z yJ15_next cJ15_next 3 (some (.object "java/lang/Object")) [] 8 h 0 [(0, va_rf v0)] [] (f_J15_next v0 h) := by
  unfold f_J15_next
  refine s_aload_n (pc := 0) 0 dJ15_next_0 rfl rfl ?_
  refine zS_ite (fun ht => ?_) (fun _ => zS_none)
  refine s_callV (pc := 1) (np := 0) (as := []) (rest := []) dJ15_next_1 ht (q := (RJ15, TJ15, 4)) rfl (c_J15_checkForComodification (by decide) v0 h) rfl rfl q789 q790 q791 rfl (by decide) (zkV (fun h1 => ?_)) zxo
  refine s_aload_n (pc := 4) 0 dJ15_next_4 rfl rfl ?_
  refine s_gI (pc := 5) dJ15_next_5 gf_J15_25 (fun x2 => ?_)
  refine s_ist_n (pc := 8) (L2 := [(0, va_rf v0)]) [0] dJ15_next_8 rfl (by decide) rfl rfl (zcB (j := 0) rfl (zcat_rf v0) rfl) ?_
  refine s_iload_n (pc := 9) 0 dJ15_next_9 rfl rfl ?_
  refine s_aload_n (pc := 10) 1 dJ15_next_10 rfl rfl ?_
  refine s_gR (pc := 11) dJ15_next_11 gf_J15_1 (fun r3 => ?_)
  refine s_gI (pc := 14) dJ15_next_14 gf_J15_28 (fun x4 => ?_)
  refine s_icmp_lt (pc := 17) (tgt := 28) dJ15_next_17 (by decide) (fun _ => ?_) (fun _ => ?_)
  · refine s_aload_n (pc := 28) 1 dJ15_next_28 rfl rfl ?_
    refine s_gR (pc := 29) dJ15_next_29 gf_J15_1 (fun r5 => ?_)
    refine s_gR (pc := 32) dJ15_next_32 gf_J15_37 (fun r6 => ?_)
    refine s_ast_n (pc := 35) (L2 := [(1, .int x2), (0, va_rf v0)]) [0, 1] dJ15_next_35 rfl (by decide) rfl rfl (zcB (j := 0) rfl rfl rfl) ?_
    refine s_iload_n (pc := 36) 1 dJ15_next_36 rfl rfl ?_
    refine s_aload_n (pc := 37) 0 dJ15_next_37 rfl rfl ?_
    refine s_alen (pc := 38) dJ15_next_38 zarrs_ok (fun x7 => ?_)
    refine s_icmp_lt (pc := 39) (tgt := 50) dJ15_next_39 (by decide) (fun _ => ?_) (fun _ => ?_)
    · refine s_aload_n (pc := 50) 2 dJ15_next_50 rfl rfl ?_
      refine s_iload_n (pc := 51) 1 dJ15_next_51 rfl rfl ?_
      refine s_iconst (pc := 52) (v := 1) dJ15_next_52 (by decide) ?_
      refine s_iadd (pc := 53) dJ15_next_53 ?_
      refine s_putI (pc := 54) dJ15_next_54 pf_J15_25 (fun h8 => ?_)
      refine s_aload_n (pc := 57) 0 dJ15_next_57 rfl rfl ?_
      refine s_aload_n (pc := 58) 2 dJ15_next_58 rfl rfl ?_
      refine s_iload_n (pc := 59) 1 dJ15_next_59 rfl rfl ?_
      refine s_dup_x1 (pc := 60) dJ15_next_60 rfl (zcat_rf _) ?_
      refine s_putI (pc := 61) dJ15_next_61 pf_J15_13 (fun h9 => ?_)
      refine s_aald (pc := 64) dJ15_next_64 zrefs_ok (fun r10 => ?_)
      exact s_aret (pc := 65) dJ15_next_65 rfl (Or.inl ⟨_, rfl⟩)
    · exact zS_none
  · refine s_make0 (pc := 20) dJ15_next_20 dJ15_next_23 dJ15_next_24 xf_J15_34_36 (by decide) (by decide) (fun r11 h12 => ?_)
    exact s_athrow (pc := 27) dJ15_next_27 rfl (fun x => zxo x _)
theorem c_J15_next {d0 : Nat} (hd0 : 8 < d0) (v0 : Option Nat) (h : zH) : zCal D z d0 h yJ15_next [va_rf v0] (f_J15_next v0 h) :=
  ⟨cJ15_next, 3, (some (.object "java/lang/Object")), [], 8, (show lv_args 0 [va_rf v0] = [(0, va_rf v0)] by simp [lv_args, zcat_rf, zcat_i, zcat_l, zcat_f, zcat_d]) ▸ w_J15_next v0 h, (plainFor_of_name (by decide)), by simp [lg_sl, zcat_rf, zcat_i, zcat_l, zcat_f, zcat_d], q788, q112, hd0, by decide, by decide⟩
theorem w_J16_nextNode_68 : ∀ (n : Nat) (a0 : Option Nat) (a1 : Option Nat) (a2 : Option Nat) (h : zH), zS D z yJ16_nextNode cJ16_nextNode 3 (some (.object "java/util/HashMap$Node")) [] 8 h 68 [(0, va_rf a0), (1, va_rf a1), (2, va_rf a2)] [] (f_J16_nextNode_68 n a0 a1 a2 h) := by
  intro n
  induction n with
  | zero => intros; exact zS_none
  | succ n ih =>
    intro a0 a1 a2 h
    rw [f_J16_nextNode_68.eq_2]
    refine s_aload_n (pc := 68) 0 dJ16_nextNode_68 rfl rfl ?_
    refine s_gI (pc := 69) dJ16_nextNode_69 gf_J16_33 (fun x12 => ?_)
    refine s_aload_n (pc := 72) 1 dJ16_nextNode_72 rfl rfl ?_
    refine s_alen (pc := 73) dJ16_nextNode_73 zarrs_ok (fun x13 => ?_)
    refine s_icmp_ge (pc := 74) (tgt := 98) dJ16_nextNode_74 (by decide) (fun _ => ?_) (fun _ => ?_)
    · refine s_aload_n (pc := 98) 2 dJ16_nextNode_98 rfl rfl ?_
      exact s_aret (pc := 99) dJ16_nextNode_99 rfl (Or.inl ⟨_, rfl⟩)
    · refine s_aload_n (pc := 77) 0 dJ16_nextNode_77 rfl rfl ?_
      refine s_aload_n (pc := 78) 1 dJ16_nextNode_78 rfl rfl ?_
      refine s_aload_n (pc := 79) 0 dJ16_nextNode_79 rfl rfl ?_
      refine s_dup (pc := 80) dJ16_nextNode_80 (zcat_rf _) ?_
      refine s_gI (pc := 81) dJ16_nextNode_81 gf_J16_33 (fun x14 => ?_)
      refine s_dup_x1 (pc := 84) dJ16_nextNode_84 rfl (zcat_rf _) ?_
      refine s_iconst (pc := 85) (v := 1) dJ16_nextNode_85 (by decide) ?_
      refine s_iadd (pc := 86) dJ16_nextNode_86 ?_
      refine s_putI (pc := 87) dJ16_nextNode_87 pf_J16_33 (fun h15 => ?_)
      refine s_aald (pc := 90) dJ16_nextNode_90 zrefs_ok (fun r16 => ?_)
      refine s_dup_x1 (pc := 91) dJ16_nextNode_91 (zcat_rf _) (zcat_rf _) ?_
      refine s_putR (pc := 92) dJ16_nextNode_92 pf_J16_26 (fun h17 => ?_)
      refine s_ifnull (pc := 95) (tgt := 68) dJ16_nextNode_95 (by decide) (fun _ => ?_) (fun _ => ?_)
      · exact s_sub (pc := 68) [0, 1, 2] rfl (ih a0 a1 a2 h17)
      · refine s_aload_n (pc := 98) 2 dJ16_nextNode_98 rfl rfl ?_
        exact s_aret (pc := 99) dJ16_nextNode_99 rfl (Or.inl ⟨_, rfl⟩)
theorem w_J16_nextNode (v0 : Option Nat) (h : zH) : zS D z yJ16_nextNode cJ16_nextNode 3 (some (.object "java/util/HashMap$Node")) [] 8 h 0 [(0, va_rf v0)] [] (f_J16_nextNode v0 h) := by
  unfold f_J16_nextNode
  refine s_aload_n (pc := 0) 0 dJ16_nextNode_0 rfl rfl ?_
  refine s_gR (pc := 1) dJ16_nextNode_1 gf_J16_26 (fun r1 => ?_)
  refine s_ast_n (pc := 4) (L2 := [(0, va_rf v0)]) [0] dJ16_nextNode_4 rfl (by decide) rfl rfl (zcA rfl) ?_
  refine s_aload_n (pc := 5) 1 dJ16_nextNode_5 rfl rfl ?_
  refine s_gR (pc := 6) dJ16_nextNode_6 gf_J16_1 (fun r2 => ?_)
  refine s_gI (pc := 9) dJ16_nextNode_9 gf_J16_13 (fun x3 => ?_)
  refine s_aload_n (pc := 12) 1 dJ16_nextNode_12 rfl rfl ?_
  refine s_gI (pc := 13) dJ16_nextNode_13 gf_J16_19 (fun x4 => ?_)
  refine s_icmp_eq (pc := 16) (tgt := 27) dJ16_nextNode_16 (by decide) (fun _ => ?_) (fun _ => ?_)
  · refine s_aload_n (pc := 27) 0 dJ16_nextNode_27 rfl rfl ?_
    refine s_ifnonnull (pc := 28) (tgt := 39) dJ16_nextNode_28 (by decide) (fun _ => ?_) (fun _ => ?_)
    · refine s_aload_n (pc := 39) 1 dJ16_nextNode_39 rfl rfl ?_
      refine s_aload_n (pc := 40) 1 dJ16_nextNode_40 rfl rfl ?_
      refine s_aload_n (pc := 41) 0 dJ16_nextNode_41 rfl rfl ?_
      refine s_dup_x1 (pc := 42) dJ16_nextNode_42 (zcat_rf _) (zcat_rf _) ?_
      refine s_putR (pc := 43) dJ16_nextNode_43 pf_J16_30 (fun h5 => ?_)
      refine s_gR (pc := 46) dJ16_nextNode_46 gf_J16_45 (fun r6 => ?_)
      refine s_dup_x1 (pc := 49) dJ16_nextNode_49 (zcat_rf _) (zcat_rf _) ?_
      refine s_putR (pc := 50) dJ16_nextNode_50 pf_J16_26 (fun h7 => ?_)
      refine s_ifnonnull (pc := 53) (tgt := 98) dJ16_nextNode_53 (by decide) (fun _ => ?_) (fun _ => ?_)
      · refine s_aload_n (pc := 98) 0 dJ16_nextNode_98 rfl rfl ?_
        exact s_aret (pc := 99) dJ16_nextNode_99 rfl (Or.inl ⟨_, rfl⟩)
      · refine s_aload_n (pc := 56) 1 dJ16_nextNode_56 rfl rfl ?_
        refine s_gR (pc := 57) dJ16_nextNode_57 gf_J16_1 (fun r8 => ?_)
        refine s_gR (pc := 60) dJ16_nextNode_60 gf_J16_22 (fun r9 => ?_)
        refine s_dup (pc := 63) dJ16_nextNode_63 (zcat_rf _) ?_
        refine s_ast_n (pc := 64) (L2 := [(2, va_rf r1), (0, va_rf v0)]) [0, 1] dJ16_nextNode_64 rfl (by decide) rfl rfl (zcB (j := 1) rfl (zcat_rf v0) rfl) ?_
        refine s_ifnull (pc := 65) (tgt := 98) dJ16_nextNode_65 (by decide) (fun _ => ?_) (fun _ => ?_)
        · refine s_aload_n (pc := 98) 1 dJ16_nextNode_98 rfl rfl ?_
          exact s_aret (pc := 99) dJ16_nextNode_99 rfl (Or.inl ⟨_, rfl⟩)
        · exact s_sub (pc := 68) [2, 0, 1] rfl (w_J16_nextNode_68 zfuel v0 r9 r1 h7)
    · refine s_make0 (pc := 31) dJ16_nextNode_31 dJ16_nextNode_34 dJ16_nextNode_35 xf_J16_42_44 (by decide) (by decide) (fun r10 h11 => ?_)
      exact s_athrow (pc := 38) dJ16_nextNode_38 rfl (fun x => zxo x _)
  · exact zS_none
theorem c_J16_nextNode {d0 : Nat} (hd0 : 8 < d0) (v0 : Option Nat) (h : zH) : zCal D z d0 h yJ16_nextNode [va_rf v0] (f_J16_nextNode v0 h) :=
  ⟨cJ16_nextNode, 3, (some (.object "java/util/HashMap$Node")), [], 8, (show lv_args 0 [va_rf v0] = [(0, va_rf v0)] by simp [lv_args, zcat_rf, zcat_i, zcat_l, zcat_f, zcat_d]) ▸ w_J16_nextNode v0 h, (plainFor_of_name (by decide)), by simp [lg_sl, zcat_rf, zcat_i, zcat_l, zcat_f, zcat_d], q805, q113, hd0, by decide, by decide⟩
theorem w_J17_next (v0 : Option Nat) (h : zH) : zS D z yJ17_next cJ17_next 1 (some (.object "java/lang/Object")) [] 9 h 0 [(0, va_rf v0)] [] (f_J17_next v0 h) := by
  unfold f_J17_next
  refine s_aload_n (pc := 0) 0 dJ17_next_0 rfl rfl ?_
  refine zS_ite (fun ht => ?_) (fun _ => zS_none)
  refine s_callVU (pc := 1) (np := 0) (as := []) (rest := []) (owner := "java/util/HashMap$HashIterator") dJ17_next_1 ht (q := (RJ17, TJ17, 5)) rfl (c_J16_nextNode (by decide) v0 h) ⟨_, _, _, q805⟩ rfl rfl q800 q801 (Or.inl ⟨_, _, _, q804, q805⟩) (by decide) q804 q803 rfl (by decide) (zkR (fun r1 h2 => ?_)) zxo
  refine s_gR (pc := 4) dJ17_next_4 gf_J17_13 (fun r3 => ?_)
  exact s_aret (pc := 7) dJ17_next_7 rfl (Or.inl ⟨_, rfl⟩)
theorem c_J17_next {d0 : Nat} (hd0 : 9 < d0) (v0 : Option Nat) (h : zH) : zCal D z d0 h yJ17_next [va_rf v0] (f_J17_next v0 h) :=
  ⟨cJ17_next, 1, (some (.object "java/lang/Object")), [], 9, (show lv_args 0 [va_rf v0] = [(0, va_rf v0)] by simp [lv_args, zcat_rf, zcat_i, zcat_l, zcat_f, zcat_d]) ▸ w_J17_next v0 h, (plainFor_of_name (by decide)), by simp [lg_sl, zcat_rf, zcat_i, zcat_l, zcat_f, zcat_d], q799, q114, hd0, by decide, by decide⟩
theorem w_J20_nextNode (v0 : Option Nat) (h : zH) : zS D z yJ20_nextNode cJ20_nextNode 2 (some (.object "java/util/LinkedHashMap$Entry")) [] 8 h 0 [(0, va_rf v0)] [] (f_J20_nextNode v0 h) := by
  unfold f_J20_nextNode
  refine s_aload_n (pc := 0) 0 dJ20_nextNode_0 rfl rfl ?_
  refine s_gR (pc := 1) dJ20_nextNode_1 gf_J20_26 (fun r1 => ?_)
  refine s_ast_n (pc := 4) (L2 := [(0, va_rf v0)]) [0] dJ20_nextNode_4 rfl (by decide) rfl rfl (zcB (j := 0) rfl (zcat_rf v0) rfl) ?_
  refine s_aload_n (pc := 5) 1 dJ20_nextNode_5 rfl rfl ?_
  refine s_gR (pc := 6) dJ20_nextNode_6 gf_J20_1 (fun r2 => ?_)
  refine s_gI (pc := 9) dJ20_nextNode_9 gf_J20_29 (fun x3 => ?_)
  refine s_aload_n (pc := 12) 1 dJ20_nextNode_12 rfl rfl ?_
  refine s_gI (pc := 13) dJ20_nextNode_13 gf_J20_33 (fun x4 => ?_)
  refine s_icmp_eq (pc := 16) (tgt := 27) dJ20_nextNode_16 (by decide) (fun _ => ?_) (fun _ => ?_)
  · refine s_aload_n (pc := 27) 0 dJ20_nextNode_27 rfl rfl ?_
    refine s_ifnonnull (pc := 28) (tgt := 39) dJ20_nextNode_28 (by decide) (fun _ => ?_) (fun _ => ?_)
    · refine s_aload_n (pc := 39) 1 dJ20_nextNode_39 rfl rfl ?_
      refine s_aload_n (pc := 40) 0 dJ20_nextNode_40 rfl rfl ?_
      refine s_putR (pc := 41) dJ20_nextNode_41 pf_J20_36 (fun h5 => ?_)
      refine s_aload_n (pc := 44) 1 dJ20_nextNode_44 rfl rfl ?_
      refine s_aload_n (pc := 45) 1 dJ20_nextNode_45 rfl rfl ?_
      refine s_gI (pc := 46) dJ20_nextNode_46 gf_J20_13 (fun x6 => ?_)
      refine s_if_eq (pc := 49) (tgt := 59) dJ20_nextNode_49 (by decide) (fun _ => ?_) (fun _ => ?_)
      · refine s_aload_n (pc := 59) 0 dJ20_nextNode_59 rfl rfl ?_
        refine s_gR (pc := 60) dJ20_nextNode_60 gf_J20_50 (fun r7 => ?_)
        refine s_putR (pc := 63) dJ20_nextNode_63 pf_J20_26 (fun h8 => ?_)
        refine s_aload_n (pc := 66) 0 dJ20_nextNode_66 rfl rfl ?_
        exact s_aret (pc := 67) dJ20_nextNode_67 rfl (Or.inl ⟨_, rfl⟩)
      · refine s_aload_n (pc := 52) 0 dJ20_nextNode_52 rfl rfl ?_
        refine s_gR (pc := 53) dJ20_nextNode_53 gf_J20_45 (fun r9 => ?_)
        refine s_goto (pc := 56) (tgt := 63) dJ20_nextNode_56 (by decide) ?_
        refine s_putR (pc := 63) dJ20_nextNode_63 pf_J20_26 (fun h10 => ?_)
        refine s_aload_n (pc := 66) 0 dJ20_nextNode_66 rfl rfl ?_
        exact s_aret (pc := 67) dJ20_nextNode_67 rfl (Or.inl ⟨_, rfl⟩)
    · refine s_make0 (pc := 31) dJ20_nextNode_31 dJ20_nextNode_34 dJ20_nextNode_35 xf_J20_42_44 (by decide) (by decide) (fun r11 h12 => ?_)
      exact s_athrow (pc := 38) dJ20_nextNode_38 rfl (fun x => zxo x _)
  · exact zS_none
theorem c_J20_nextNode {d0 : Nat} (hd0 : 8 < d0) (v0 : Option Nat) (h : zH) : zCal D z d0 h yJ20_nextNode [va_rf v0] (f_J20_nextNode v0 h) :=
  ⟨cJ20_nextNode, 2, (some (.object "java/util/LinkedHashMap$Entry")), [], 8, (show lv_args 0 [va_rf v0] = [(0, va_rf v0)] by simp [lv_args, zcat_rf, zcat_i, zcat_l, zcat_f, zcat_d]) ▸ w_J20_nextNode v0 h, (plainFor_of_name (by decide)), by simp [lg_sl, zcat_rf, zcat_i, zcat_l, zcat_f, zcat_d], q818, q117, hd0, by decide, by decide⟩
theorem w_J40_getKey (v0 : Option Nat) (h : zH) : zS D z yJ40_getKey cJ40_getKey 1 (some (.object "java/lang/Object")) [] 1 h 0 [(0, va_rf v0)] [] (f_J40_getKey v0 h) := by
  unfold f_J40_getKey
  refine s_aload_n (pc := 0) 0 dJ40_getKey_0 rfl rfl ?_
  refine s_gR (pc := 1) dJ40_getKey_1 gf_J40_13 (fun r1 => ?_)
  exact s_aret (pc := 4) dJ40_getKey_4 rfl (Or.inl ⟨_, rfl⟩)
theorem c_J40_getKey {d0 : Nat} (hd0 : 1 < d0) (v0 : Option Nat) (h : zH) : zCal D z d0 h yJ40_getKey [va_rf v0] (f_J40_getKey v0 h) :=
  ⟨cJ40_getKey, 1, (some (.object "java/lang/Object")), [], 1, (show lv_args 0 [va_rf v0] = [(0, va_rf v0)] by simp [lv_args, zcat_rf, zcat_i, zcat_l, zcat_f, zcat_d]) ▸ w_J40_getKey v0 h, (plainFor_of_name (by decide)), by simp [lg_sl, zcat_rf, zcat_i, zcat_l, zcat_f, zcat_d], q827, q143, hd0, by decide, by decide⟩
theorem w_J21_next (v0 : Option Nat) (h : zH) : zS D z yJ21_next cJ21_next 1 (some (.object "java/lang/Object")) [] 9 h 0 [(0, va_rf v0)] [] (f_J21_next v0 h) := by
  unfold f_J21_next
  refine s_aload_n (pc := 0) 0 dJ21_next_0 rfl rfl ?_
  refine zS_ite (fun ht => ?_) (fun _ => zS_none)
  refine s_callVU (pc := 1) (np := 0) (as := []) (rest := []) (owner := "java/util/LinkedHashMap$LinkedHashIterator") dJ21_next_1 ht (q := (RJ21, TJ21, 5)) rfl (c_J20_nextNode (by decide) v0 h) ⟨_, _, _, q818⟩ rfl rfl q813 q814 (Or.inl ⟨_, _, _, q817, q818⟩) (by decide) q817 q816 rfl (by decide) (zkR (fun r1 h2 => ?_)) zxo
  refine zS_ite (fun ht => ?_) (fun _ => zS_none)
  refine s_callVU (pc := 4) (np := 0) (as := []) (rest := []) (owner := "java/util/HashMap$Node") dJ21_next_4 ht (q := (RJ41, TJ41, 6)) rfl (c_J40_getKey (by decide) r1 h2) ⟨_, _, _, q827⟩ rfl rfl q821 q822 (Or.inl ⟨_, _, _, q826, q827⟩) (by decide) q826 q825 rfl (by decide) (zkR (fun r3 h4 => ?_)) zxo
  exact s_aret (pc := 7) dJ21_next_7 rfl (Or.inl ⟨_, rfl⟩)
theorem c_J21_next {d0 : Nat} (hd0 : 9 < d0) (v0 : Option Nat) (h : zH) : zCal D z d0 h yJ21_next [va_rf v0] (f_J21_next v0 h) :=
  ⟨cJ21_next, 1, (some (.object "java/lang/Object")), [], 9, (show lv_args 0 [va_rf v0] = [(0, va_rf v0)] by simp [lv_args, zcat_rf, zcat_i, zcat_l, zcat_f, zcat_d]) ▸ w_J21_next v0 h, (plainFor_of_name (by decide)), by simp [lg_sl, zcat_rf, zcat_i, zcat_l, zcat_f, zcat_d], q812, q118, hd0, by decide, by decide⟩
theorem w_J22_next (v0 : Option Nat) (h : zH) : zS D z yJ22_next cJ22_next 1 (some (.object "java/lang/Object")) [] 9 h 0 [(0, va_rf v0)] [] (f_J22_next v0 h) := by
  unfold f_J22_next
  refine s_aload_n (pc := 0) 0 dJ22_next_0 rfl rfl ?_
  refine zS_ite (fun ht => ?_) (fun _ => zS_none)
  refine s_callVU (pc := 1) (np := 0) (as := []) (rest := []) (owner := "java/util/LinkedHashMap$LinkedHashIterator") dJ22_next_1 ht (q := (RJ22, TJ22, 5)) rfl (c_J20_nextNode (by decide) v0 h) ⟨_, _, _, q818⟩ rfl rfl q833 q834 (Or.inl ⟨_, _, _, q817, q818⟩) (by decide) q817 q835 rfl (by decide) (zkR (fun r1 h2 => ?_)) zxo
  refine s_gR (pc := 4) dJ22_next_4 gf_J22_13 (fun r3 => ?_)
  exact s_aret (pc := 7) dJ22_next_7 rfl (Or.inl ⟨_, rfl⟩)
theorem c_J22_next {d0 : Nat} (hd0 : 9 < d0) (v0 : Option Nat) (h : zH) : zCal D z d0 h yJ22_next [va_rf v0] (f_J22_next v0 h) :=
  ⟨cJ22_next, 1, (some (.object "java/lang/Object")), [], 9, (show lv_args 0 [va_rf v0] = [(0, va_rf v0)] by simp [lv_args, zcat_rf, zcat_i, zcat_l, zcat_f, zcat_d]) ▸ w_J22_next v0 h, (plainFor_of_name (by decide)), by simp [lg_sl, zcat_rf, zcat_i, zcat_l, zcat_f, zcat_d], q832, q119, hd0, by decide, by decide⟩
theorem w_X6_init_2 (v0 : Option Nat) (v1 : Int32) (v2 : Int32) (v3 : Int32) (v4 : Int32) (h : zH) : zS D z yX6_init_2 cX6_init_2 5 none [] 1 h 0 [(0, va_rf v0), (1, .int v1), (2, .int v2), (3, .int v3), (4, .int v4)] [] (f_X6_init_2 v0 v1 v2 v3 v4 h) := by
  unfold f_X6_init_2
  refine s_aload_n (pc := 0) 0 dX6_init_2_0 rfl rfl ?_
  refine zS_ite (fun hr => ?_) (fun _ => zS_none)
  refine s_objinit (pc := 1) dX6_init_2_1 hr q2003 q164 q165 (by decide) (by decide) ?_
  refine s_aload_n (pc := 4) 0 dX6_init_2_4 rfl rfl ?_
  refine s_iload_n (pc := 5) 1 dX6_init_2_5 rfl rfl ?_
  refine s_putI (pc := 6) dX6_init_2_6 pf_X6_9 (fun h1 => ?_)
  refine s_aload_n (pc := 9) 0 dX6_init_2_9 rfl rfl ?_
  refine s_iload_n (pc := 10) 2 dX6_init_2_10 rfl rfl ?_
  refine s_putI (pc := 11) dX6_init_2_11 pf_X6_15 (fun h2 => ?_)
  refine s_aload_n (pc := 14) 0 dX6_init_2_14 rfl rfl ?_
  refine s_iload_n (pc := 15) 3 dX6_init_2_15 rfl rfl ?_
  refine s_putI (pc := 16) dX6_init_2_16 pf_X6_18 (fun h3 => ?_)
  refine s_aload_n (pc := 19) 0 dX6_init_2_19 rfl rfl ?_
  refine s_iload (pc := 20) 4 dX6_init_2_20 rfl ?_
  refine s_putI (pc := 22) dX6_init_2_22 pf_X6_21 (fun h4 => ?_)
  exact s_vret (pc := 25) dX6_init_2_25 rfl
theorem c_X6_init_2 {d0 : Nat} (hd0 : 1 < d0) (v0 : Option Nat) (v1 : Int32) (v2 : Int32) (v3 : Int32) (v4 : Int32) (h : zH) : zCal D z d0 h yX6_init_2 [va_rf v0, .int v1, .int v2, .int v3, .int v4] (f_X6_init_2 v0 v1 v2 v3 v4 h) :=
  ⟨cX6_init_2, 5, none, [], 1, (show lv_args 0 [va_rf v0, .int v1, .int v2, .int v3, .int v4] = [(0, va_rf v0), (1, .int v1), (2, .int v2), (3, .int v3), (4, .int v4)] by simp [lv_args, zcat_rf, zcat_i, zcat_l, zcat_f, zcat_d]) ▸ w_X6_init_2 v0 v1 v2 v3 v4 h, (plainFor_of_name (by decide)), by simp [lg_sl, zcat_rf, zcat_i, zcat_l, zcat_f, zcat_d], q2002, q142, hd0, by decide, by decide⟩
theorem w_X6_init (v0 : Option Nat) (v1 : Option Nat) (h : zH) : zS D z yX6_init cX6_init 2 none [] 2 h 0 [(0, va_rf v0), (1, va_rf v1)] [] (f_X6_init v0 v1 h) := by
  unfold f_X6_init
  refine s_aload_n (pc := 0) 0 dX6_init_0 rfl rfl ?_
  refine s_aload_n (pc := 1) 1 dX6_init_1 rfl rfl ?_
  refine s_gI (pc := 2) dX6_init_2 gf_X6_9 (fun x1 => ?_)
  refine s_aload_n (pc := 5) 1 dX6_init_5 rfl rfl ?_
  refine s_gI (pc := 6) dX6_init_6 gf_X6_15 (fun x2 => ?_)
  refine s_aload_n (pc := 9) 1 dX6_init_9 rfl rfl ?_
  refine s_gI (pc := 10) dX6_init_10 gf_X6_18 (fun x3 => ?_)
  refine s_aload_n (pc := 13) 1 dX6_init_13 rfl rfl ?_
  refine s_gI (pc := 14) dX6_init_14 gf_X6_21 (fun x4 => ?_)
  refine zS_ite (fun hr => ?_) (fun _ => zS_none)
  refine s_callC (pc := 17) (np := 4) (as := [.int x1, .int x2, .int x3, .int x4]) (rest := []) dX6_init_17 hr (c_X6_init_2 (by decide) v0 x1 x2 x3 x4 h) ⟨_, _, q2002⟩ rfl rfl rfl q2000 q2001 rfl (by decide) (zkV (fun h5 => ?_)) zxo
  refine s_aload_n (pc := 20) 0 dX6_init_20 rfl rfl ?_
  refine s_aload_n (pc := 21) 1 dX6_init_21 rfl rfl ?_
  refine s_gI (pc := 22) dX6_init_22 gf_X6_27 (fun x6 => ?_)
  refine s_putI (pc := 25) dX6_init_25 pf_X6_27 (fun h7 => ?_)
  refine s_aload_n (pc := 28) 0 dX6_init_28 rfl rfl ?_
  refine s_aload_n (pc := 29) 1 dX6_init_29 rfl rfl ?_
  refine s_gI (pc := 30) dX6_init_30 gf_X6_30 (fun x8 => ?_)
  refine s_putI (pc := 33) dX6_init_33 pf_X6_30 (fun h9 => ?_)
  refine s_aload_n (pc := 36) 0 dX6_init_36 rfl rfl ?_
  refine s_aload_n (pc := 37) 1 dX6_init_37 rfl rfl ?_
  refine s_gI (pc := 38) dX6_init_38 gf_X6_33 (fun x10 => ?_)
  refine s_putI (pc := 41) dX6_init_41 pf_X6_33 (fun h11 => ?_)
  refine s_aload_n (pc := 44) 0 dX6_init_44 rfl rfl ?_
  refine s_aload_n (pc := 45) 1 dX6_init_45 rfl rfl ?_
  refine s_gI (pc := 46) dX6_init_46 gf_X6_36 (fun x12 => ?_)
  refine s_putN (pc := 49) dX6_init_49 pf_X6_36 (fun h13 => ?_)
  refine s_aload_n (pc := 52) 0 dX6_init_52 rfl rfl ?_
  refine s_aload_n (pc := 53) 1 dX6_init_53 rfl rfl ?_
  refine s_gR (pc := 54) dX6_init_54 gf_X6_40 (fun r14 => ?_)
  refine s_putR (pc := 57) dX6_init_57 pf_X6_40 (fun h15 => ?_)
  exact s_vret (pc := 60) dX6_init_60 rfl
theorem c_X6_init {d0 : Nat} (hd0 : 2 < d0) (v0 : Option Nat) (v1 : Option Nat) (h : zH) : zCal D z d0 h yX6_init [va_rf v0, va_rf v1] (f_X6_init v0 v1 h) :=
  ⟨cX6_init, 2, none, [], 2, (show lv_args 0 [va_rf v0, va_rf v1] = [(0, va_rf v0), (1, va_rf v1)] by simp [lv_args, zcat_rf, zcat_i, zcat_l, zcat_f, zcat_d]) ▸ w_X6_init v0 v1 h, (plainFor_of_name (by decide)), by simp [lg_sl, zcat_rf, zcat_i, zcat_l, zcat_f, zcat_d], q1999, q142, hd0, by decide, by decide⟩
theorem w_X8_hashCode (v0 : Option Nat) (h : zH) : zS D z yX8_hashCode cX8_hashCode 1 (some .int) [] 1 h 0 [(0, va_rf v0)] [] (f_X8_hashCode v0 h) := by
  unfold f_X8_hashCode
  refine s_aload_n (pc := 0) 0 dX8_hashCode_0 rfl rfl ?_
  refine s_gI (pc := 1) dX8_hashCode_1 gf_X8_7 (fun x1 => ?_)
  exact s_iret (pc := 4) dX8_hashCode_4 rfl
theorem c_X8_hashCode {d0 : Nat} (hd0 : 1 < d0) (v0 : Option Nat) (h : zH) : zCal D z d0 h yX8_hashCode [va_rf v0] (f_X8_hashCode v0 h) :=
  ⟨cX8_hashCode, 1, (some .int), [], 1, (show lv_args 0 [va_rf v0] = [(0, va_rf v0)] by simp [lv_args, zcat_rf, zcat_i, zcat_l, zcat_f, zcat_d]) ▸ w_X8_hashCode v0 h, (plainFor_of_name (by decide)), by simp [lg_sl, zcat_rf, zcat_i, zcat_l, zcat_f, zcat_d], q1562, q151, hd0, by decide, by decide⟩
theorem w_J24_hashCode_2 (v0 : Int32) (h : zH) : zS D z yJ24_hashCode_2 cJ24_hashCode_2 1 (some .int) [] 1 h 0 [(0, .int v0)] [] (f_J24_hashCode_2 v0 h) := by
  unfold f_J24_hashCode_2
  refine s_iload_n (pc := 0) 0 dJ24_hashCode_2_0 rfl rfl ?_
  exact s_iret (pc := 1) dJ24_hashCode_2_1 rfl
theorem c_J24_hashCode_2 {d0 : Nat} (hd0 : 1 < d0) (v0 : Int32) (h : zH) : zCal D z d0 h yJ24_hashCode_2 [.int v0] (f_J24_hashCode_2 v0 h) :=
  ⟨cJ24_hashCode_2, 1, (some .int), [], 1, (show lv_args 0 [.int v0] = [(0, .int v0)] by simp [lv_args, zcat_rf, zcat_i, zcat_l, zcat_f, zcat_d]) ▸ w_J24_hashCode_2 v0 h, (plainFor_of_name (by decide)), by simp [lg_sl, zcat_rf, zcat_i, zcat_l, zcat_f, zcat_d], q1583, q121, hd0, by decide, by decide⟩
theorem w_J24_hashCode (v0 : Option Nat) (h : zH) : zS D z yJ24_hashCode cJ24_hashCode 1 (some .int) [] 2 h 0 [(0, va_rf v0)] [] (f_J24_hashCode v0 h) := by
  unfold f_J24_hashCode
  refine s_aload_n (pc := 0) 0 dJ24_hashCode_0 rfl rfl ?_
  refine s_gI (pc := 1) dJ24_hashCode_1 gf_J24_205 (fun x1 => ?_)
  refine s_callSS (pc := 4) (np := 1) (as := [.int x1]) (rest := []) dJ24_hashCode_4 (c_J24_hashCode_2 (by decide) x1 h) rfl rfl q1581 q1582 rfl (by decide) (zkI (fun x2 h3 => ?_)) zxo
  exact s_iret (pc := 7) dJ24_hashCode_7 rfl
theorem c_J24_hashCode {d0 : Nat} (hd0 : 2 < d0) (v0 : Option Nat) (h : zH) : zCal D z d0 h yJ24_hashCode [va_rf v0] (f_J24_hashCode v0 h) :=
  ⟨cJ24_hashCode, 1, (some .int), [], 2, (show lv_args 0 [va_rf v0] = [(0, va_rf v0)] by simp [lv_args, zcat_rf, zcat_i, zcat_l, zcat_f, zcat_d]) ▸ w_J24_hashCode v0 h, (plainFor_of_name (by decide)), by simp [lg_sl, zcat_rf, zcat_i, zcat_l, zcat_f, zcat_d], q1580, q121, hd0, by decide, by decide⟩
theorem w_J1_hash (v0 : Option Nat) (h : zH) : zS D z yJ1_hash cJ1_hash 2 (some .int) [] 3 h 0 [(0, va_rf v0)] [] (f_J1_hash v0 h) := by
  unfold f_J1_hash
  refine s_aload_n (pc := 0) 0 dJ1_hash_0 rfl rfl ?_
  refine s_ifnonnull (pc := 1) (tgt := 8) dJ1_hash_1 (by decide) (fun _ => ?_) (fun _ => ?_)
  · refine s_aload_n (pc := 8) 0 dJ1_hash_8 rfl rfl ?_
    refine zS_ite (fun ht => ?_) (fun _ => ?_)
    · refine s_callVU (pc := 9) (np := 0) (as := []) (rest := []) (owner := "java/lang/Object") dJ1_hash_9 ht (q := (RX8, TX8, 1)) rfl (c_X8_hashCode (by decide) v0 h) ⟨_, _, _, q1562⟩ rfl rfl q1556 q1558 (Or.inr q1555) (by decide) q1561 q1560 rfl (by decide) (zkI (fun x1 h2 => ?_)) zxo
      refine s_dup (pc := 12) dJ1_hash_12 rfl ?_
      refine s_ist_n (pc := 13) (L2 := []) [] dJ1_hash_13 rfl (by decide) rfl rfl (zcA rfl) ?_
      refine s_iload_n (pc := 14) 0 dJ1_hash_14 rfl rfl ?_
      refine s_bipush (pc := 15) (v := 16) dJ1_hash_15 (by decide) ?_
      refine s_iushr (pc := 17) dJ1_hash_17 ?_
      refine s_ixor (pc := 18) dJ1_hash_18 ?_
      exact s_iret (pc := 19) dJ1_hash_19 rfl
    refine zS_ite (fun ht => ?_) (fun _ => zS_none)
    refine s_callVU (pc := 9) (np := 0) (as := []) (rest := []) (owner := "java/lang/Object") dJ1_hash_9 ht (q := (RJ24, TJ24, 1)) rfl (c_J24_hashCode (by decide) v0 h) ⟨_, _, _, q1580⟩ rfl rfl q1556 q1558 (Or.inr q1555) (by decide) q1579 q1578 rfl (by decide) (zkI (fun x1 h2 => ?_)) zxo
    refine s_dup (pc := 12) dJ1_hash_12 rfl ?_
    refine s_ist_n (pc := 13) (L2 := []) [] dJ1_hash_13 rfl (by decide) rfl rfl (zcA rfl) ?_
    refine s_iload_n (pc := 14) 0 dJ1_hash_14 rfl rfl ?_
    refine s_bipush (pc := 15) (v := 16) dJ1_hash_15 (by decide) ?_
    refine s_iushr (pc := 17) dJ1_hash_17 ?_
    refine s_ixor (pc := 18) dJ1_hash_18 ?_
    exact s_iret (pc := 19) dJ1_hash_19 rfl
  · refine s_iconst (pc := 4) (v := 0) dJ1_hash_4 (by decide) ?_
    refine s_goto (pc := 5) (tgt := 19) dJ1_hash_5 (by decide) ?_
    exact s_iret (pc := 19) dJ1_hash_19 rfl
theorem c_J1_hash {d0 : Nat} (hd0 : 3 < d0) (v0 : Option Nat) (h : zH) : zCal D z d0 h yJ1_hash [va_rf v0] (f_J1_hash v0 h) :=
  ⟨cJ1_hash, 2, (some .int), [], 3, (show lv_args 0 [va_rf v0] = [(0, va_rf v0)] by simp [lv_args, zcat_rf, zcat_i, zcat_l, zcat_f, zcat_d]) ▸ w_J1_hash v0 h, (plainFor_of_name (by decide)), by simp [lg_sl, zcat_rf, zcat_i, zcat_l, zcat_f, zcat_d], q1554, q98, hd0, by decide, by decide⟩
theorem w_J1_resize_347 (K151 : Option Nat → Option Nat → Int32 → Int32 → Option Nat → Int32 → zH → zO) (hK151 : ∀ (a0 : Option Nat) (a1 : Option Nat) (a2 : Int32) (a4 : Int32) (a6 : Option Nat) (a7 : Int32) (h : zH), zS D z yJ1_resize cJ1_resize 14 (some (.array (.object "java/util/HashMap$Node"))) [] 1 h 151 [(0, va_rf a0), (1, va_rf a1), (2, .int a2), (4, .int a4), (6, va_rf a6), (7, .int a7)] [] (K151 a0 a1 a2 a4 a6 a7 h)) (a0 : Option Nat) (a1 : Option Nat) (a2 : Int32) (a4 : Int32) (a6 : Option Nat) (a7 : Int32) (h : zH) : zS D z yJ1_resize cJ1_resize 14 (some (.array (.object "java/util/HashMap$Node"))) [] 1 h 347 [(0, va_rf a0), (1, va_rf a1), (2, .int a2), (4, .int a4), (6, va_rf a6), (7, .int a7)] [] (f_J1_resize_347 K151 a0 a1 a2 a4 a6 a7 h) := by
  unfold f_J1_resize_347
  refine s_inc (pc := 347) (v := 1) (L2 := [(0, va_rf a0), (1, va_rf a1), (2, .int a2), (4, .int a4), (6, va_rf a6)]) 5 [0, 1, 2, 3, 4] dJ1_resize_347 rfl (by decide) (by decide) rfl rfl (zcB (j := 4) rfl (zcat_rf a6) rfl) (fun x28 => ?_)
  refine s_goto (pc := 350) (tgt := 151) dJ1_resize_350 (by decide) ?_
  exact s_sub (pc := 151) [1, 2, 3, 4, 5, 0] rfl (hK151 a0 a1 a2 a4 a6 x28 h)
theorem w_J1_resize_327 (K151 : Option Nat → Option Nat → Int32 → Int32 → Option Nat → Int32 → zH → zO) (hK151 : ∀ (a0 : Option Nat) (a1 : Option Nat) (a2 : Int32) (a4 : Int32) (a6 : Option Nat) (a7 : Int32) (h : zH), zS D z yJ1_resize cJ1_resize 14 (some (.array (.object "java/util/HashMap$Node"))) [] 1 h 151 [(0, va_rf a0), (1, va_rf a1), (2, .int a2), (4, .int a4), (6, va_rf a6), (7, .int a7)] [] (K151 a0 a1 a2 a4 a6 a7 h)) (a0 : Option Nat) (a1 : Option Nat) (a2 : Int32) (a4 : Int32) (a6 : Option Nat) (a7 : Int32) (a11 : Option Nat) (a12 : Option Nat) (h : zH) : zS D z yJ1_resize cJ1_resize 14 (some (.array (.object "java/util/HashMap$Node"))) [] 1 h 327 [(0, va_rf a0), (1, va_rf a1), (2, .int a2), (4, .int a4), (6, va_rf a6), (7, .int a7), (11, va_rf a11), (12, va_rf a12)] [] (f_J1_resize_327 K151 a0 a1 a2 a4 a6 a7 a11 a12 h) := by
  unfold f_J1_resize_327
  refine s_aload (pc := 327) 7 dJ1_resize_327 rfl ?_
  refine s_ifnull (pc := 329) (tgt := 347) dJ1_resize_329 (by decide) (fun _ => ?_) (fun _ => ?_)
  · exact s_sub (pc := 347) [0, 1, 2, 3, 4, 5] rfl (w_J1_resize_347 K151 hK151 a0 a1 a2 a4 a6 a7 h)
  · refine s_aload (pc := 332) 7 dJ1_resize_332 rfl ?_
    refine s_null (pc := 334) dJ1_resize_334 ?_
    refine s_putR (pc := 335) dJ1_resize_335 pf_J1_177 (fun h26 => ?_)
    refine s_aload (pc := 338) 4 dJ1_resize_338 rfl ?_
    refine s_iload (pc := 340) 5 dJ1_resize_340 rfl ?_
    refine s_iload_n (pc := 342) 2 dJ1_resize_342 rfl rfl ?_
    refine s_iadd (pc := 343) dJ1_resize_343 ?_
    refine s_aload (pc := 344) 6 dJ1_resize_344 rfl ?_
    refine s_aast (pc := 346) dJ1_resize_346 (ztc ⟨rfl, by decide⟩ zt0) zcs_java_util_HashMap_Node (fun h27 => ?_)
    exact s_sub (pc := 347) [0, 1, 2, 3, 4, 5] rfl (w_J1_resize_347 K151 hK151 a0 a1 a2 a4 a6 a7 h27)
theorem w_J1_resize_309 (K151 : Option Nat → Option Nat → Int32 → Int32 → Option Nat → Int32 → zH → zO) (hK151 : ∀ (a0 : Option Nat) (a1 : Option Nat) (a2 : Int32) (a4 : Int32) (a6 : Option Nat) (a7 : Int32) (h : zH), zS D z yJ1_resize cJ1_resize 14 (some (.array (.object "java/util/HashMap$Node"))) [] 1 h 151 [(0, va_rf a0), (1, va_rf a1), (2, .int a2), (4, .int a4), (6, va_rf a6), (7, .int a7)] [] (K151 a0 a1 a2 a4 a6 a7 h)) (a0 : Option Nat) (a1 : Option Nat) (a2 : Int32) (a4 : Int32) (a6 : Option Nat) (a7 : Int32) (a9 : Option Nat) (a10 : Option Nat) (a11 : Option Nat) (a12 : Option Nat) (h : zH) : zS D z yJ1_resize cJ1_resize 14 (some (.array (.object "java/util/HashMap$Node"))) [] 1 h 309 [(0, va_rf a0), (1, va_rf a1), (2, .int a2), (4, .int a4), (6, va_rf a6), (7, .int a7), (9, va_rf a9), (10, va_rf a10), (11, va_rf a11), (12, va_rf a12)] [] (f_J1_resize_309 K151 a0 a1 a2 a4 a6 a7 a9 a10 a11 a12 h) := by
  unfold f_J1_resize_309
  refine s_aload (pc := 309) 7 dJ1_resize_309 rfl ?_
  refine s_ifnull (pc := 311) (tgt := 327) dJ1_resize_311 (by decide) (fun _ => ?_) (fun _ => ?_)
  · exact s_sub (pc := 327) [0, 1, 2, 3, 4, 5, 8, 9] rfl (w_J1_resize_327 K151 hK151 a0 a1 a2 a4 a6 a7 a11 a12 h)
  · refine s_aload (pc := 314) 7 dJ1_resize_314 rfl ?_
    refine s_null (pc := 316) dJ1_resize_316 ?_
    refine s_putR (pc := 317) dJ1_resize_317 pf_J1_177 (fun h24 => ?_)
    refine s_aload (pc := 320) 4 dJ1_resize_320 rfl ?_
    refine s_iload (pc := 322) 5 dJ1_resize_322 rfl ?_
    refine s_aload (pc := 324) 6 dJ1_resize_324 rfl ?_
    refine s_aast (pc := 326) dJ1_resize_326 (ztc ⟨rfl, by decide⟩ zt0) zcs_java_util_HashMap_Node (fun h25 => ?_)
    exact s_sub (pc := 327) [0, 1, 2, 3, 4, 5, 8, 9] rfl (w_J1_resize_327 K151 hK151 a0 a1 a2 a4 a6 a7 a11 a12 h25)
theorem w_J1_resize_301 (K151 : Option Nat → Option Nat → Int32 → Int32 → Option Nat → Int32 → zH → zO) (hK151 : ∀ (a0 : Option Nat) (a1 : Option Nat) (a2 : Int32) (a4 : Int32) (a6 : Option Nat) (a7 : Int32) (h : zH), zS D z yJ1_resize cJ1_resize 14 (some (.array (.object "java/util/HashMap$Node"))) [] 1 h 151 [(0, va_rf a0), (1, va_rf a1), (2, .int a2), (4, .int a4), (6, va_rf a6), (7, .int a7)] [] (K151 a0 a1 a2 a4 a6 a7 h)) (K235 : Option Nat → Option Nat → Int32 → Int32 → Option Nat → Int32 → Option Nat → Option Nat → Option Nat → Option Nat → Option Nat → zH → zO) (hK235 : ∀ (a0 : Option Nat) (a1 : Option Nat) (a2 : Int32) (a4 : Int32) (a6 : Option Nat) (a7 : Int32) (a8 : Option Nat) (a9 : Option Nat) (a10 : Option Nat) (a11 : Option Nat) (a12 : Option Nat) (h : zH), zS D z yJ1_resize cJ1_resize 14 (some (.array (.object "java/util/HashMap$Node"))) [] 1 h 235 [(0, va_rf a0), (1, va_rf a1), (2, .int a2), (4, .int a4), (6, va_rf a6), (7, .int a7), (8, va_rf a8), (9, va_rf a9), (10, va_rf a10), (11, va_rf a11), (12, va_rf a12)] [] (K235 a0 a1 a2 a4 a6 a7 a8 a9 a10 a11 a12 h)) (a0 : Option Nat) (a1 : Option Nat) (a2 : Int32) (a4 : Int32) (a6 : Option Nat) (a7 : Int32) (a9 : Option Nat) (a10 : Option Nat) (a11 : Option Nat) (a12 : Option Nat) (a13 : Option Nat) (h : zH) : zS D z yJ1_resize cJ1_resize 14 (some (.array (.object "java/util/HashMap$Node"))) [] 1 h 301 [(0, va_rf a0), (1, va_rf a1), (2, .int a2), (4, .int a4), (6, va_rf a6), (7, .int a7), (9, va_rf a9), (10, va_rf a10), (11, va_rf a11), (12, va_rf a12), (13, va_rf a13)] [] (f_J1_resize_301 K151 K235 a0 a1 a2 a4 a6 a7 a9 a10 a11 a12 a13 h) := by
  unfold f_J1_resize_301
  refine s_aload (pc := 301) 10 dJ1_resize_301 rfl ?_
  refine s_dup (pc := 303) dJ1_resize_303 (zcat_rf _) ?_
  refine s_ast (pc := 304) (L2 := [(0, va_rf a0), (1, va_rf a1), (2, .int a2), (4, .int a4), (6, va_rf a6), (7, .int a7), (9, va_rf a9), (10, va_rf a10), (11, va_rf a11), (12, va_rf a12)]) [0, 1, 2, 3, 4, 5, 6, 7, 8, 9] dJ1_resize_304 (by decide) rfl rfl (zcB (j := 5) rfl rfl rfl) ?_
  refine s_ifnonnull (pc := 306) (tgt := 235) dJ1_resize_306 (by decide) (fun _ => ?_) (fun _ => ?_)
  · exact s_sub (pc := 235) [1, 2, 3, 4, 5, 6, 0, 7, 8, 9, 10] rfl (hK235 a0 a1 a2 a4 a6 a7 a13 a9 a10 a11 a12 h)
  · exact s_sub (pc := 309) [1, 2, 3, 4, 5, 6, 7, 8, 9, 10] rfl (w_J1_resize_309 K151 hK151 a0 a1 a2 a4 a6 a7 a9 a10 a11 a12 h)
theorem w_J1_resize_271 (K151 : Option Nat → Option Nat → Int32 → Int32 → Option Nat → Int32 → zH → zO) (hK151 : ∀ (a0 : Option Nat) (a1 : Option Nat) (a2 : Int32) (a4 : Int32) (a6 : Option Nat) (a7 : Int32) (h : zH), zS D z yJ1_resize cJ1_resize 14 (some (.array (.object "java/util/HashMap$Node"))) [] 1 h 151 [(0, va_rf a0), (1, va_rf a1), (2, .int a2), (4, .int a4), (6, va_rf a6), (7, .int a7)] [] (K151 a0 a1 a2 a4 a6 a7 h)) (K235 : Option Nat → Option Nat → Int32 → Int32 → Option Nat → Int32 → Option Nat → Option Nat → Option Nat → Option Nat → Option Nat → zH → zO) (hK235 : ∀ (a0 : Option Nat) (a1 : Option Nat) (a2 : Int32) (a4 : Int32) (a6 : Option Nat) (a7 : Int32) (a8 : Option Nat) (a9 : Option Nat) (a10 : Option Nat) (a11 : Option Nat) (a12 : Option Nat) (h : zH), zS D z yJ1_resize cJ1_resize 14 (some (.array (.object "java/util/HashMap$Node"))) [] 1 h 235 [(0, va_rf a0), (1, va_rf a1), (2, .int a2), (4, .int a4), (6, va_rf a6), (7, .int a7), (8, va_rf a8), (9, va_rf a9), (10, va_rf a10), (11, va_rf a11), (12, va_rf a12)] [] (K235 a0 a1 a2 a4 a6 a7 a8 a9 a10 a11 a12 h)) (a0 : Option Nat) (a1 : Option Nat) (a2 : Int32) (a4 : Int32) (a6 : Option Nat) (a7 : Int32) (a8 : Option Nat) (a9 : Option Nat) (a11 : Option Nat) (a12 : Option Nat) (a13 : Option Nat) (h : zH) : zS D z yJ1_resize cJ1_resize 14 (some (.array (.object "java/util/HashMap$Node"))) [] 1 h 271 [(0, va_rf a0), (1, va_rf a1), (2, .int a2), (4, .int a4), (6, va_rf a6), (7, .int a7), (8, va_rf a8), (9, va_rf a9), (11, va_rf a11), (12, va_rf a12), (13, va_rf a13)] [] (f_J1_resize_271 K151 K235 a0 a1 a2 a4 a6 a7 a8 a9 a11 a12 a13 h) := by
  unfold f_J1_resize_271
  refine s_aload (pc := 271) 6 dJ1_resize_271 rfl ?_
  refine s_ast (pc := 273) (L2 := [(0, va_rf a0), (1, va_rf a1), (2, .int a2), (4, .int a4), (6, va_rf a6), (7, .int a7), (9, va_rf a9), (11, va_rf a11), (12, va_rf a12), (13, va_rf a13)]) [0, 1, 2, 3, 4, 5, 7, 8, 9, 10] dJ1_resize_273 (by decide) rfl rfl (zcB (j := 6) rfl (zcat_rf a9) rfl) ?_
  refine s_goto (pc := 275) (tgt := 301) dJ1_resize_275 (by decide) ?_
  exact s_sub (pc := 301) [1, 2, 3, 4, 5, 6, 7, 0, 8, 9, 10] rfl (w_J1_resize_301 K151 hK151 K235 hK235 a0 a1 a2 a4 a6 a7 a9 a8 a11 a12 a13 h)
theorem w_J1_resize_297 (K151 : Option Nat → Option Nat → Int32 → Int32 → Option Nat → Int32 → zH → zO) (hK151 : ∀ (a0 : Option Nat) (a1 : Option Nat) (a2 : Int32) (a4 : Int32) (a6 : Option Nat) (a7 : Int32) (h : zH), zS D z yJ1_resize cJ1_resize 14 (some (.array (.object "java/util/HashMap$Node"))) [] 1 h 151 [(0, va_rf a0), (1, va_rf a1), (2, .int a2), (4, .int a4), (6, va_rf a6), (7, .int a7)] [] (K151 a0 a1 a2 a4 a6 a7 h)) (K235 : Option Nat → Option Nat → Int32 → Int32 → Option Nat → Int32 → Option Nat → Option Nat → Option Nat → Option Nat → Option Nat → zH → zO) (hK235 : ∀ (a0 : Option Nat) (a1 : Option Nat) (a2 : Int32) (a4 : Int32) (a6 : Option Nat) (a7 : Int32) (a8 : Option Nat) (a9 : Option Nat) (a10 : Option Nat) (a11 : Option Nat) (a12 : Option Nat) (h : zH), zS D z yJ1_resize cJ1_resize 14 (some (.array (.object "java/util/HashMap$Node"))) [] 1 h 235 [(0, va_rf a0), (1, va_rf a1), (2, .int a2), (4, .int a4), (6, va_rf a6), (7, .int a7), (8, va_rf a8), (9, va_rf a9), (10, va_rf a10), (11, va_rf a11), (12, va_rf a12)] [] (K235 a0 a1 a2 a4 a6 a7 a8 a9 a10 a11 a12 h)) (a0 : Option Nat) (a1 : Option Nat) (a2 : Int32) (a4 : Int32) (a6 : Option Nat) (a7 : Int32) (a8 : Option Nat) (a9 : Option Nat) (a10 : Option Nat) (a11 : Option Nat) (a13 : Option Nat) (h : zH) : zS D z yJ1_resize cJ1_resize 14 (some (.array (.object "java/util/HashMap$Node"))) [] 1 h 297 [(0, va_rf a0), (1, va_rf a1), (2, .int a2), (4, .int a4), (6, va_rf a6), (7, .int a7), (8, va_rf a8), (9, va_rf a9), (10, va_rf a10), (11, va_rf a11), (13, va_rf a13)] [] (f_J1_resize_297 K151 K235 a0 a1 a2 a4 a6 a7 a8 a9 a10 a11 a13 h) := by
  unfold f_J1_resize_297
  refine s_aload (pc := 297) 6 dJ1_resize_297 rfl ?_
  refine s_ast (pc := 299) (L2 := [(0, va_rf a0), (1, va_rf a1), (2, .int a2), (4, .int a4), (6, va_rf a6), (7, .int a7), (9, va_rf a9), (10, va_rf a10), (11, va_rf a11), (13, va_rf a13)]) [0, 1, 2, 3, 4, 5, 7, 8, 9, 10] dJ1_resize_299 (by decide) rfl rfl (zcB (j := 8) rfl (zcat_rf a11) rfl) ?_
  exact s_sub (pc := 301) [1, 2, 3, 4, 5, 6, 7, 8, 9, 0, 10] rfl (w_J1_resize_301 K151 hK151 K235 hK235 a0 a1 a2 a4 a6 a7 a9 a10 a11 a8 a13 h)
theorem w_J1_resize_235 (K151 : Option Nat → Option Nat → Int32 → Int32 → Option Nat → Int32 → zH → zO) (hK151 : ∀ (a0 : Option Nat) (a1 : Option Nat) (a2 : Int32) (a4 : Int32) (a6 : Option Nat) (a7 : Int32) (h : zH), zS D z yJ1_resize cJ1_resize 14 (some (.array (.object "java/util/HashMap$Node"))) [] 1 h 151 [(0, va_rf a0), (1, va_rf a1), (2, .int a2), (4, .int a4), (6, va_rf a6), (7, .int a7)] [] (K151 a0 a1 a2 a4 a6 a7 h)) : ∀ (n : Nat) (a0 : Option Nat) (a1 : Option Nat) (a2 : Int32) (a4 : Int32) (a6 : Option Nat) (a7 : Int32) (a8 : Option Nat) (a9 : Option Nat) (a10 : Option Nat) (a11 : Option Nat) (a12 : Option Nat) (h : zH), zS D z yJ1_resize cJ1_resize 14 (some (.array (.object "java/util/HashMap$Node"))) [] 1 h 235 [(0, va_rf a0), (1, va_rf a1), (2, .int a2), (4, .int a4), (6, va_rf a6), (7, .int a7), (8, va_rf a8), (9, va_rf a9), (10, va_rf a10), (11, va_rf a11), (12, va_rf a12)] [] (f_J1_resize_235 K151 n a0 a1 a2 a4 a6 a7 a8 a9 a10 a11 a12 h) := by
  intro n
  induction n with
  | zero => intros; exact zS_none
  | succ n ih =>
    intro a0 a1 a2 a4 a6 a7 a8 a9 a10 a11 a12 h
    rw [f_J1_resize_235.eq_2]
    refine s_aload (pc := 235) 6 dJ1_resize_235 rfl ?_
    refine s_gR (pc := 237) dJ1_resize_237 gf_J1_177 (fun r20 => ?_)
    refine s_ast (pc := 240) (L2 := [(0, va_rf a0), (1, va_rf a1), (2, .int a2), (4, .int a4), (6, va_rf a6), (7, .int a7), (8, va_rf a8), (9, va_rf a9), (10, va_rf a10), (11, va_rf a11), (12, va_rf a12)]) [0, 1, 2, 3, 4, 5, 6, 7, 8, 9, 10] dJ1_resize_240 (by decide) rfl rfl (zcB (j := 10) rfl (zcat_rf a12) rfl) ?_
    refine s_aload (pc := 242) 7 dJ1_resize_242 rfl ?_
    refine s_gI (pc := 244) dJ1_resize_244 gf_J1_168 (fun x21 => ?_)
    refine s_iload_n (pc := 247) 3 dJ1_resize_247 rfl rfl ?_
    refine s_iand (pc := 248) dJ1_resize_248 ?_
    refine s_if_ne (pc := 249) (tgt := 278) dJ1_resize_249 (by decide) (fun _ => ?_) (fun _ => ?_)
    · refine s_aload (pc := 278) 11 dJ1_resize_278 rfl ?_
      refine s_ifnonnull (pc := 280) (tgt := 290) dJ1_resize_280 (by decide) (fun _ => ?_) (fun _ => ?_)
      · refine s_aload (pc := 290) 11 dJ1_resize_290 rfl ?_
        refine s_aload (pc := 292) 7 dJ1_resize_292 rfl ?_
        refine s_putR (pc := 294) dJ1_resize_294 pf_J1_177 (fun h22 => ?_)
        exact s_sub (pc := 297) [1, 2, 3, 4, 5, 6, 7, 8, 9, 10, 0] rfl (w_J1_resize_297 K151 hK151 (f_J1_resize_235 K151 n) ih a0 a1 a2 a4 a6 a7 a8 a9 a10 a11 r20 h22)
      · refine s_aload (pc := 283) 7 dJ1_resize_283 rfl ?_
        refine s_ast (pc := 285) (L2 := [(13, va_rf r20), (0, va_rf a0), (1, va_rf a1), (2, .int a2), (4, .int a4), (6, va_rf a6), (7, .int a7), (8, va_rf a8), (9, va_rf a9), (10, va_rf a10)]) [0, 1, 2, 3, 4, 5, 6, 7, 8, 9] dJ1_resize_285 (by decide) rfl rfl (zcB (j := 9) rfl (zcat_rf a10) rfl) ?_
        refine s_goto (pc := 287) (tgt := 297) dJ1_resize_287 (by decide) ?_
        exact s_sub (pc := 297) [2, 3, 4, 5, 6, 7, 8, 9, 10, 0, 1] rfl (w_J1_resize_297 K151 hK151 (f_J1_resize_235 K151 n) ih a0 a1 a2 a4 a6 a7 a8 a9 a10 a8 r20 h)
    · refine s_aload (pc := 252) 9 dJ1_resize_252 rfl ?_
      refine s_ifnonnull (pc := 254) (tgt := 264) dJ1_resize_254 (by decide) (fun _ => ?_) (fun _ => ?_)
      · refine s_aload (pc := 264) 9 dJ1_resize_264 rfl ?_
        refine s_aload (pc := 266) 7 dJ1_resize_266 rfl ?_
        refine s_putR (pc := 268) dJ1_resize_268 pf_J1_177 (fun h23 => ?_)
        exact s_sub (pc := 271) [1, 2, 3, 4, 5, 6, 7, 8, 10, 11, 0] rfl (w_J1_resize_271 K151 hK151 (f_J1_resize_235 K151 n) ih a0 a1 a2 a4 a6 a7 a8 a9 a11 a12 r20 h23)
      · refine s_aload (pc := 257) 7 dJ1_resize_257 rfl ?_
        refine s_ast (pc := 259) (L2 := [(13, va_rf r20), (0, va_rf a0), (1, va_rf a1), (2, .int a2), (4, .int a4), (6, va_rf a6), (7, .int a7), (8, va_rf a8), (11, va_rf a11), (12, va_rf a12)]) [0, 1, 2, 3, 4, 5, 6, 7, 10, 11] dJ1_resize_259 (by decide) rfl rfl (zcB (j := 7) rfl (zcat_rf a8) rfl) ?_
        refine s_goto (pc := 261) (tgt := 271) dJ1_resize_261 (by decide) ?_
        exact s_sub (pc := 271) [2, 3, 4, 5, 6, 7, 8, 0, 9, 10, 1] rfl (w_J1_resize_271 K151 hK151 (f_J1_resize_235 K151 n) ih a0 a1 a2 a4 a6 a7 a8 a8 a11 a12 r20 h)
theorem w_J1_resize_151 : ∀ (n : Nat) (a0 : Option Nat) (a1 : Option Nat) (a2 : Int32) (a4 : Int32) (a6 : Option Nat) (a7 : Int32) (h : zH), zS D z yJ1_resize cJ1_resize 14 (some (.array (.object "java/util/HashMap$Node"))) [] 1 h 151 [(0, va_rf a0), (1, va_rf a1), (2, .int a2), (4, .int a4), (6, va_rf a6), (7, .int a7)] [] (f_J1_resize_151 n a0 a1 a2 a4 a6 a7 h) := by
  intro n
  induction n with
  | zero => intros; exact zS_none
  | succ n ih =>
    intro a0 a1 a2 a4 a6 a7 h
    rw [f_J1_resize_151.eq_2]
    refine s_iload (pc := 151) 5 dJ1_resize_151 rfl ?_
    refine s_iload_n (pc := 153) 2 dJ1_resize_153 rfl rfl ?_
    refine s_icmp_ge (pc := 154) (tgt := 353) dJ1_resize_154 (by decide) (fun _ => ?_) (fun _ => ?_)
    · refine s_aload (pc := 353) 4 dJ1_resize_353 rfl ?_
      exact s_aret (pc := 355) dJ1_resize_355 rfl (Or.inr ⟨_, rfl⟩)
    · refine s_aload_n (pc := 157) 1 dJ1_resize_157 rfl rfl ?_
      refine s_iload (pc := 158) 5 dJ1_resize_158 rfl ?_
      refine s_aald (pc := 160) dJ1_resize_160 zrefs_ok (fun r13 => ?_)
      refine s_dup (pc := 161) dJ1_resize_161 (zcat_rf _) ?_
      refine s_ast (pc := 162) (L2 := [(0, va_rf a0), (1, va_rf a1), (2, .int a2), (4, .int a4), (6, va_rf a6), (7, .int a7)]) [0, 1, 2, 3, 4, 5] dJ1_resize_162 (by decide) rfl rfl (zcB (j := 5) rfl rfl rfl) ?_
      refine s_ifnull (pc := 164) (tgt := 347) dJ1_resize_164 (by decide) (fun _ => ?_) (fun _ => ?_)
      · exact s_sub (pc := 347) [1, 2, 3, 4, 5, 6] rfl (w_J1_resize_347 (f_J1_resize_151 n) ih a0 a1 a2 a4 a6 a7 h)
      · refine s_aload_n (pc := 167) 2 dJ1_resize_167 rfl rfl ?_
        refine s_iload (pc := 168) 6 dJ1_resize_168 rfl ?_
        refine s_null (pc := 170) dJ1_resize_170 ?_
        refine s_aast (pc := 171) dJ1_resize_171 (ztc ⟨rfl, by decide⟩ zt0) zcs_java_util_HashMap_Node (fun h14 => ?_)
        refine s_aload (pc := 172) 0 dJ1_resize_172 rfl ?_
        refine s_gR (pc := 174) dJ1_resize_174 gf_J1_177 (fun r15 => ?_)
        refine s_ifnonnull (pc := 177) (tgt := 198) dJ1_resize_177 (by decide) (fun _ => ?_) (fun _ => ?_)
        · refine s_aload (pc := 198) 0 dJ1_resize_198 rfl ?_
          refine s_inst (pc := 200) dJ1_resize_200 q1694 (zt0) (ztc ⟨_, rfl, by decide +kernel⟩ (ztc ⟨_, rfl, by decide +kernel⟩ (zt0))) (fun x16 => ?_)
          refine s_if_eq (pc := 203) (tgt := 223) dJ1_resize_203 (by decide) (fun _ => ?_) (fun _ => ?_)
          · refine s_null (pc := 223) dJ1_resize_223 ?_
            refine s_ast (pc := 224) (L2 := [(8, va_rf r13), (0, va_rf a0), (1, va_rf a1), (2, .int a2), (4, .int a4), (6, va_rf a6), (7, .int a7)]) [0, 1, 2, 3, 4, 5, 6] dJ1_resize_224 (by decide) rfl rfl (zcB (j := 0) rfl (zcat_rf r13) rfl) ?_
            refine s_null (pc := 226) dJ1_resize_226 ?_
            refine s_ast (pc := 227) (L2 := [(9, va_rf none), (8, va_rf r13), (0, va_rf a0), (1, va_rf a1), (2, .int a2), (4, .int a4), (6, va_rf a6), (7, .int a7)]) [0, 1, 2, 3, 4, 5, 6, 7] dJ1_resize_227 (by decide) rfl rfl (zcB (j := 0) rfl (zcat_rf none) rfl) ?_
            refine s_null (pc := 229) dJ1_resize_229 ?_
            refine s_ast (pc := 230) (L2 := [(10, va_rf none), (9, va_rf none), (8, va_rf r13), (0, va_rf a0), (1, va_rf a1), (2, .int a2), (4, .int a4), (6, va_rf a6), (7, .int a7)]) [0, 1, 2, 3, 4, 5, 6, 7, 8] dJ1_resize_230 (by decide) rfl rfl (zcB (j := 0) rfl (zcat_rf none) rfl) ?_
            refine s_null (pc := 232) dJ1_resize_232 ?_
            refine s_ast (pc := 233) (L2 := [(11, va_rf none), (10, va_rf none), (9, va_rf none), (8, va_rf r13), (0, va_rf a0), (1, va_rf a1), (2, .int a2), (4, .int a4), (6, va_rf a6), (7, .int a7)]) [0, 1, 2, 3, 4, 5, 6, 7, 8, 9] dJ1_resize_233 (by decide) rfl rfl (zcB (j := 0) rfl (zcat_rf none) rfl) ?_
            exact s_sub (pc := 235) [5, 6, 7, 8, 9, 10, 4, 3, 2, 1, 0] rfl (w_J1_resize_235 (f_J1_resize_151 n) ih zfuel a0 a1 a2 a4 a6 a7 r13 none none none none h14)
          · refine s_aload (pc := 206) 0 dJ1_resize_206 rfl ?_
            refine s_cast (pc := 208) dJ1_resize_208 q1694 zcs_java_util_HashMap_TreeNode ?_
            refine s_aload_n (pc := 211) 1 dJ1_resize_211 rfl rfl ?_
            refine s_aload (pc := 212) 5 dJ1_resize_212 rfl ?_
            refine s_iload (pc := 214) 6 dJ1_resize_214 rfl ?_
            refine s_iload_n (pc := 216) 3 dJ1_resize_216 rfl rfl ?_
            exact zS_none
        · refine s_aload (pc := 180) 5 dJ1_resize_180 rfl ?_
          refine s_aload (pc := 182) 0 dJ1_resize_182 rfl ?_
          refine s_gI (pc := 184) dJ1_resize_184 gf_J1_168 (fun x18 => ?_)
          refine s_iload (pc := 187) 4 dJ1_resize_187 rfl ?_
          refine s_iconst (pc := 189) (v := 1) dJ1_resize_189 (by decide) ?_
          refine s_isub (pc := 190) dJ1_resize_190 ?_
          refine s_iand (pc := 191) dJ1_resize_191 ?_
          refine s_aload (pc := 192) 0 dJ1_resize_192 rfl ?_
          refine s_aast (pc := 194) dJ1_resize_194 (ztc ⟨rfl, by decide⟩ zt0) zcs_java_util_HashMap_Node (fun h19 => ?_)
          refine s_goto (pc := 195) (tgt := 347) dJ1_resize_195 (by decide) ?_
          exact s_sub (pc := 347) [1, 2, 3, 4, 5, 6] rfl (w_J1_resize_347 (f_J1_resize_151 n) ih a0 a1 a2 a4 a6 a7 h19)
theorem w_J1_resize_125 (a0 : Option Nat) (a1 : Option Nat) (a2 : Int32) (a4 : Int32) (a5 : Int32) (h : zH) : zS D z yJ1_resize cJ1_resize 14 (some (.array (.object "java/util/HashMap$Node"))) [] 1 h 125 [(0, va_rf a0), (1, va_rf a1), (2, .int a2), (4, .int a4), (5, .int a5)] [] (f_J1_resize_125 a0 a1 a2 a4 a5 h) := by
  unfold f_J1_resize_125
  refine s_aload_n (pc := 125) 0 dJ1_resize_125 rfl rfl ?_
  refine s_iload (pc := 126) 4 dJ1_resize_126 rfl ?_
  refine s_putI (pc := 128) dJ1_resize_128 pf_J1_88 (fun h9 => ?_)
  refine s_iload (pc := 131) 3 dJ1_resize_131 rfl ?_
  refine s_newq (pc := 133) (E := "java/util/HashMap$Node") dJ1_resize_133 ⟨rfl, by decide⟩ q2067 q2068 (fun r10 h11 => ?_)
  refine s_ast (pc := 136) (L2 := [(0, va_rf a0), (1, va_rf a1), (2, .int a2), (4, .int a4)]) [0, 1, 2, 3] dJ1_resize_136 (by decide) rfl rfl (zcA rfl) ?_
  refine s_aload_n (pc := 138) 1 dJ1_resize_138 rfl rfl ?_
  refine s_aload (pc := 139) 0 dJ1_resize_139 rfl ?_
  refine s_putA (pc := 141) dJ1_resize_141 pf_J1_105 (fun h12 => ?_)
  refine s_aload_n (pc := 144) 2 dJ1_resize_144 rfl rfl ?_
  refine s_ifnull (pc := 145) (tgt := 353) dJ1_resize_145 (by decide) (fun _ => ?_) (fun _ => ?_)
  · refine s_aload (pc := 353) 0 dJ1_resize_353 rfl ?_
    exact s_aret (pc := 355) dJ1_resize_355 rfl (Or.inr ⟨_, rfl⟩)
  · refine s_iconst (pc := 148) (v := 0) dJ1_resize_148 (by decide) ?_
    refine s_ist (pc := 149) (L2 := [(6, va_rf r10), (0, va_rf a0), (1, va_rf a1), (2, .int a2), (4, .int a4)]) [0, 1, 2, 3, 4] dJ1_resize_149 (by decide) rfl rfl (zcB (j := 0) rfl (zcat_rf r10) rfl) ?_
    exact s_sub (pc := 151) [2, 3, 4, 5, 1, 0] rfl (w_J1_resize_151 zfuel a0 a1 a2 a4 r10 0 h12)
theorem w_J1_resize_123 (a0 : Option Nat) (a1 : Option Nat) (a2 : Int32) (a4 : Int32) (s0 : Int32) (h : zH) : zS D z yJ1_resize cJ1_resize 14 (some (.array (.object "java/util/HashMap$Node"))) [] 1 h 123 [(0, va_rf a0), (1, va_rf a1), (2, .int a2), (4, .int a4)] [.int s0] (f_J1_resize_123 a0 a1 a2 a4 s0 h) := by
  unfold f_J1_resize_123
  refine s_ist (pc := 123) (L2 := [(0, va_rf a0), (1, va_rf a1), (2, .int a2), (4, .int a4)]) [0, 1, 2, 3] dJ1_resize_123 (by decide) rfl rfl (zcB (j := 3) rfl rfl rfl) ?_
  exact s_sub (pc := 125) [1, 2, 3, 4, 0] rfl (w_J1_resize_125 a0 a1 a2 a4 s0 h)
theorem w_J1_resize_121 (a0 : Option Nat) (a1 : Option Nat) (a2 : Int32) (a4 : Int32) (h : zH) : zS D z yJ1_resize cJ1_resize 14 (some (.array (.object "java/util/HashMap$Node"))) [] 1 h 121 [(0, va_rf a0), (1, va_rf a1), (2, .int a2), (4, .int a4)] [] (f_J1_resize_121 a0 a1 a2 a4 h) := by
  unfold f_J1_resize_121
  refine s_ldc (pc := 121) (v := 2147483647) dJ1_resize_121 q2065 ?_
  exact s_sub (pc := 123) [0, 1, 2, 3] rfl (w_J1_resize_123 a0 a1 a2 a4 2147483647 h)
theorem w_J1_resize_85 (a0 : Option Nat) (a1 : Option Nat) (a2 : Int32) (a4 : Int32) (a5 : Int32) (h : zH) : zS D z yJ1_resize cJ1_resize 14 (some (.array (.object "java/util/HashMap$Node"))) [] 1 h 85 [(0, va_rf a0), (1, va_rf a1), (2, .int a2), (4, .int a4), (5, .int a5)] [] (f_J1_resize_85 a0 a1 a2 a4 a5 h) := by
  unfold f_J1_resize_85
  refine s_iload (pc := 85) 4 dJ1_resize_85 rfl ?_
  refine s_if_ne (pc := 87) (tgt := 125) dJ1_resize_87 (by decide) (fun _ => ?_) (fun _ => ?_)
  · exact s_sub (pc := 125) [0, 1, 2, 3, 4] rfl (w_J1_resize_125 a0 a1 a2 a4 a5 h)
  · refine s_iload (pc := 90) 3 dJ1_resize_90 rfl ?_
    refine s_i2f (pc := 92) dJ1_resize_92 ?_
    refine s_aload_n (pc := 93) 0 dJ1_resize_93 rfl rfl ?_
    refine s_gF (pc := 94) dJ1_resize_94 gf_J1_81 (fun x7 => ?_)
    refine s_fmul (pc := 97) dJ1_resize_97 (fun _ => ?_)
    refine s_nm (pc := 98) Value.float (fun x8 => ?_)
    refine s_fst (pc := 98) (L2 := [(0, va_rf a0), (1, va_rf a1), (2, .int a2), (4, .int a4)]) [0, 1, 2, 3] dJ1_resize_98 (by decide) rfl rfl (zcA rfl) ?_
    refine s_iload (pc := 100) 4 dJ1_resize_100 rfl ?_
    refine s_ldc (pc := 102) (v := 1073741824) dJ1_resize_102 q2064 ?_
    refine s_icmp_ge (pc := 104) (tgt := 121) dJ1_resize_104 (by decide) (fun _ => ?_) (fun _ => ?_)
    · exact s_sub (pc := 121) [1, 2, 3, 4] rfl (w_J1_resize_121 a0 a1 a2 a4 h)
    · refine s_fload (pc := 107) 0 dJ1_resize_107 rfl ?_
      refine s_ldcf (pc := 109) (v := 1317011456) dJ1_resize_109 q2066 ?_
      refine s_fcmp (pc := 111) dJ1_resize_111 ?_
      refine s_if_ge (pc := 112) (tgt := 121) dJ1_resize_112 (by decide) (fun _ => ?_) (fun _ => ?_)
      · exact s_sub (pc := 121) [1, 2, 3, 4] rfl (w_J1_resize_121 a0 a1 a2 a4 h)
      · refine s_fload (pc := 115) 0 dJ1_resize_115 rfl ?_
        refine s_f2i (pc := 117) dJ1_resize_117 ?_
        refine s_goto (pc := 118) (tgt := 123) dJ1_resize_118 (by decide) ?_
        exact s_sub (pc := 123) [1, 2, 3, 4] rfl (w_J1_resize_123 a0 a1 a2 a4 (FP.f2i x8) h)
theorem w_J1_resize_15 (a0 : Option Nat) (a1 : Option Nat) (s0 : Int32) (h : zH) : zS D z yJ1_resize cJ1_resize 14 (some (.array (.object "java/util/HashMap$Node"))) [] 1 h 15 [(0, va_rf a0), (1, va_rf a1)] [.int s0] (f_J1_resize_15 a0 a1 s0 h) := by
  unfold f_J1_resize_15
  refine s_ist_n (pc := 15) (L2 := [(0, va_rf a0), (1, va_rf a1)]) [0, 1] dJ1_resize_15 rfl (by decide) rfl rfl (zcB (j := 1) rfl (zcat_rf a1) rfl) ?_
  refine s_aload_n (pc := 16) 1 dJ1_resize_16 rfl rfl ?_
  refine s_gI (pc := 17) dJ1_resize_17 gf_J1_88 (fun x3 => ?_)
  refine s_ist_n (pc := 20) (L2 := [(2, .int s0), (0, va_rf a0), (1, va_rf a1)]) [0, 1, 2] dJ1_resize_20 rfl (by decide) rfl rfl (zcB (j := 0) rfl rfl rfl) ?_
  refine s_iconst (pc := 21) (v := 0) dJ1_resize_21 (by decide) ?_
  refine s_ist (pc := 22) (L2 := [(3, .int x3), (2, .int s0), (0, va_rf a0), (1, va_rf a1)]) [0, 1, 2, 3] dJ1_resize_22 (by decide) rfl rfl (zcA rfl) ?_
  refine s_iload_n (pc := 24) 2 dJ1_resize_24 rfl rfl ?_
  refine s_if_le (pc := 25) (tgt := 67) dJ1_resize_25 (by decide) (fun _ => ?_) (fun _ => ?_)
  · refine s_iload_n (pc := 67) 1 dJ1_resize_67 rfl rfl ?_
    refine s_if_le (pc := 68) (tgt := 77) dJ1_resize_68 (by decide) (fun _ => ?_) (fun _ => ?_)
    · refine s_bipush (pc := 77) (v := 16) dJ1_resize_77 (by decide) ?_
      refine s_ist (pc := 79) (L2 := [(2, .int s0), (0, va_rf a0), (1, va_rf a1)]) [2, 3, 4] dJ1_resize_79 (by decide) rfl rfl (zcA rfl) ?_
      refine s_bipush (pc := 81) (v := 12) dJ1_resize_81 (by decide) ?_
      refine s_ist (pc := 83) (L2 := [(4, .int 16), (2, .int s0), (0, va_rf a0), (1, va_rf a1)]) [0, 1, 2, 3] dJ1_resize_83 (by decide) rfl rfl (zcB (j := 0) rfl rfl rfl) ?_
      exact s_sub (pc := 85) [3, 4, 2, 1, 0] rfl (w_J1_resize_85 a0 a1 s0 16 12 h)
    · refine s_iload_n (pc := 71) 1 dJ1_resize_71 rfl rfl ?_
      refine s_ist (pc := 72) (L2 := [(5, .int 0), (2, .int s0), (0, va_rf a0), (1, va_rf a1)]) [0, 2, 3, 4] dJ1_resize_72 (by decide) rfl rfl (zcA rfl) ?_
      refine s_goto (pc := 74) (tgt := 85) dJ1_resize_74 (by decide) ?_
      exact s_sub (pc := 85) [3, 4, 2, 0, 1] rfl (w_J1_resize_85 a0 a1 s0 x3 0 h)
  · refine s_iload_n (pc := 28) 2 dJ1_resize_28 rfl rfl ?_
    refine s_ldc (pc := 29) (v := 1073741824) dJ1_resize_29 q2064 ?_
    refine s_icmp_lt (pc := 31) (tgt := 42) dJ1_resize_31 (by decide) (fun _ => ?_) (fun _ => ?_)
    · refine s_iload_n (pc := 42) 2 dJ1_resize_42 rfl rfl ?_
      refine s_iconst (pc := 43) (v := 1) dJ1_resize_43 (by decide) ?_
      refine s_ishl (pc := 44) dJ1_resize_44 ?_
      refine s_nm (pc := 45) Value.int (fun x4 => ?_)
      refine s_dup (pc := 45) dJ1_resize_45 rfl ?_
      refine s_ist (pc := 46) (L2 := [(5, .int 0), (3, .int x3), (2, .int s0), (0, va_rf a0), (1, va_rf a1)]) [0, 1, 2, 3, 4] dJ1_resize_46 (by decide) rfl rfl (zcB (j := 1) rfl rfl rfl) ?_
      refine s_ldc (pc := 48) (v := 1073741824) dJ1_resize_48 q2064 ?_
      refine s_icmp_ge (pc := 50) (tgt := 85) dJ1_resize_50 (by decide) (fun _ => ?_) (fun _ => ?_)
      · exact s_sub (pc := 85) [4, 5, 3, 0, 1] rfl (w_J1_resize_85 a0 a1 s0 x4 0 h)
      · refine s_iload_n (pc := 53) 3 dJ1_resize_53 rfl rfl ?_
        refine s_bipush (pc := 54) (v := 16) dJ1_resize_54 (by decide) ?_
        refine s_icmp_lt (pc := 56) (tgt := 85) dJ1_resize_56 (by decide) (fun _ => ?_) (fun _ => ?_)
        · exact s_sub (pc := 85) [4, 5, 3, 0, 1] rfl (w_J1_resize_85 a0 a1 s0 x4 0 h)
        · refine s_iload_n (pc := 59) 2 dJ1_resize_59 rfl rfl ?_
          refine s_iconst (pc := 60) (v := 1) dJ1_resize_60 (by decide) ?_
          refine s_ishl (pc := 61) dJ1_resize_61 ?_
          refine s_nm (pc := 62) Value.int (fun x5 => ?_)
          refine s_ist (pc := 62) (L2 := [(4, .int x4), (2, .int s0), (0, va_rf a0), (1, va_rf a1)]) [0, 3, 4, 5] dJ1_resize_62 (by decide) rfl rfl (zcB (j := 0) rfl rfl rfl) ?_
          refine s_goto (pc := 64) (tgt := 85) dJ1_resize_64 (by decide) ?_
          exact s_sub (pc := 85) [3, 4, 2, 1, 0] rfl (w_J1_resize_85 a0 a1 s0 x4 x5 h)
    · refine s_aload_n (pc := 34) 3 dJ1_resize_34 rfl rfl ?_
      refine s_ldc (pc := 35) (v := 2147483647) dJ1_resize_35 q2065 ?_
      refine s_putI (pc := 37) dJ1_resize_37 pf_J1_88 (fun h6 => ?_)
      refine s_aload_n (pc := 40) 4 dJ1_resize_40 rfl rfl ?_
      exact s_aret (pc := 41) dJ1_resize_41 rfl (Or.inr ⟨_, rfl⟩)
theorem w_J1_resize (v0 : Option Nat) (h : zH) : zS D z yJ1_resize cJ1_resize 14 (some (.array (.object "java/util/HashMap$Node"))) [] 1 h 0 [(0, va_rf v0)] [] (f_J1_resize v0 h) := by
  unfold f_J1_resize
  refine s_aload_n (pc := 0) 0 dJ1_resize_0 rfl rfl ?_
  refine s_gR (pc := 1) dJ1_resize_1 gf_J1_105 (fun r1 => ?_)
  refine s_ast_n (pc := 4) (L2 := [(0, va_rf v0)]) [0] dJ1_resize_4 rfl (by decide) rfl rfl (zcB (j := 0) rfl (zcat_rf v0) rfl) ?_
  refine s_aload_n (pc := 5) 0 dJ1_resize_5 rfl rfl ?_
  refine s_ifnonnull (pc := 6) (tgt := 13) dJ1_resize_6 (by decide) (fun _ => ?_) (fun _ => ?_)
  · refine s_aload_n (pc := 13) 0 dJ1_resize_13 rfl rfl ?_
    refine s_alen (pc := 14) dJ1_resize_14 zarrs_ok (fun x2 => ?_)
    exact s_sub (pc := 15) [1, 0] rfl (w_J1_resize_15 v0 r1 x2 h)
  · refine s_iconst (pc := 9) (v := 0) dJ1_resize_9 (by decide) ?_
    refine s_goto (pc := 10) (tgt := 15) dJ1_resize_10 (by decide) ?_
    exact s_sub (pc := 15) [1, 0] rfl (w_J1_resize_15 v0 r1 0 h)
theorem c_J1_resize {d0 : Nat} (hd0 : 1 < d0) (v0 : Option Nat) (h : zH) : zCal D z d0 h yJ1_resize [va_rf v0] (f_J1_resize v0 h) :=
  ⟨cJ1_resize, 14, (some (.array (.object "java/util/HashMap$Node"))), [], 1, (show lv_args 0 [va_rf v0] = [(0, va_rf v0)] by simp [lv_args, zcat_rf, zcat_i, zcat_l, zcat_f, zcat_d]) ▸ w_J1_resize v0 h, (plainFor_of_name (by decide)), by simp [lg_sl, zcat_rf, zcat_i, zcat_l, zcat_f, zcat_d], q2063, q98, hd0, by decide, by decide⟩
theorem w_J40_init (v0 : Option Nat) (v1 : Int32) (v2 : Option Nat) (v3 : Option Nat) (v4 : Option Nat) (h : zH) : zS D z yJ40_init cJ40_init 5 none [] 1 h 0 [(0, va_rf v0), (1, .int v1), (2, va_rf v2), (3, va_rf v3), (4, va_rf v4)] [] (f_J40_init v0 v1 v2 v3 v4 h) := by
  unfold f_J40_init
  refine s_aload_n (pc := 0) 0 dJ40_init_0 rfl rfl ?_
  refine zS_ite (fun hr => ?_) (fun _ => zS_none)
  refine s_objinit (pc := 1) dJ40_init_1 hr q2093 q164 q165 (by decide) (by decide) ?_
  refine s_aload_n (pc := 4) 0 dJ40_init_4 rfl rfl ?_
  refine s_iload_n (pc := 5) 1 dJ40_init_5 rfl rfl ?_
  refine s_putI (pc := 6) dJ40_init_6 pf_J40_7 (fun h1 => ?_)
  refine s_aload_n (pc := 9) 0 dJ40_init_9 rfl rfl ?_
  refine s_aload_n (pc := 10) 2 dJ40_init_10 rfl rfl ?_
  refine s_putR (pc := 11) dJ40_init_11 pf_J40_13 (fun h2 => ?_)
  refine s_aload_n (pc := 14) 0 dJ40_init_14 rfl rfl ?_
  refine s_aload_n (pc := 15) 3 dJ40_init_15 rfl rfl ?_
  refine s_putR (pc := 16) dJ40_init_16 pf_J40_17 (fun h3 => ?_)
  refine s_aload_n (pc := 19) 0 dJ40_init_19 rfl rfl ?_
  refine s_aload (pc := 20) 4 dJ40_init_20 rfl ?_
  refine s_putR (pc := 22) dJ40_init_22 pf_J40_20 (fun h4 => ?_)
  exact s_vret (pc := 25) dJ40_init_25 rfl
theorem c_J40_init {d0 : Nat} (hd0 : 1 < d0) (v0 : Option Nat) (v1 : Int32) (v2 : Option Nat) (v3 : Option Nat) (v4 : Option Nat) (h : zH) : zCal D z d0 h yJ40_init [va_rf v0, .int v1, va_rf v2, va_rf v3, va_rf v4] (f_J40_init v0 v1 v2 v3 v4 h) :=
  ⟨cJ40_init, 5, none, [], 1, (show lv_args 0 [va_rf v0, .int v1, va_rf v2, va_rf v3, va_rf v4] = [(0, va_rf v0), (1, .int v1), (2, va_rf v2), (3, va_rf v3), (4, va_rf v4)] by simp [lv_args, zcat_rf, zcat_i, zcat_l, zcat_f, zcat_d]) ▸ w_J40_init v0 v1 v2 v3 v4 h, (plainFor_of_name (by decide)), by simp [lg_sl, zcat_rf, zcat_i, zcat_l, zcat_f, zcat_d], q2092, q143, hd0, by decide, by decide⟩
theorem w_J1_newNode (v0 : Option Nat) (v1 : Int32) (v2 : Option Nat) (v3 : Option Nat) (v4 : Option Nat) (h : zH) : zS D z yJ1_newNode cJ1_newNode 5 (some (.object "java/util/HashMap$Node")) [] 2 h 0 [(0, va_rf v0), (1, .int v1), (2, va_rf v2), (3, va_rf v3), (4, va_rf v4)] [] (f_J1_newNode v0 v1 v2 v3 v4 h) := by
  unfold f_J1_newNode
  refine s_new (pc := 0) dJ1_newNode_0 nf_J1_163 (fun r1 h2 => ?_)
  refine s_dup (pc := 3) dJ1_newNode_3 (zcat_rf _) ?_
  refine s_iload_n (pc := 4) 1 dJ1_newNode_4 rfl rfl ?_
  refine s_aload_n (pc := 5) 2 dJ1_newNode_5 rfl rfl ?_
  refine s_aload_n (pc := 6) 3 dJ1_newNode_6 rfl rfl ?_
  refine s_aload (pc := 7) 4 dJ1_newNode_7 rfl ?_
  refine zS_ite (fun hr => ?_) (fun _ => zS_none)
  refine s_callC (pc := 9) (np := 4) (as := [.int v1, va_rf v2, va_rf v3, va_rf v4]) (rest := [va_rf r1]) dJ1_newNode_9 hr (c_J40_init (by decide) r1 v1 v2 v3 v4 h2) ⟨_, _, q2092⟩ rfl rfl rfl q2143 q2091 rfl (by simp [zcat_rf, zcat_i, zcat_l, zcat_f, zcat_d]) (zkV (fun h3 => ?_)) zxo
  exact s_aret (pc := 12) dJ1_newNode_12 rfl (Or.inl ⟨_, rfl⟩)
theorem c_J1_newNode {d0 : Nat} (hd0 : 2 < d0) (v0 : Option Nat) (v1 : Int32) (v2 : Option Nat) (v3 : Option Nat) (v4 : Option Nat) (h : zH) : zCal D z d0 h yJ1_newNode [va_rf v0, .int v1, va_rf v2, va_rf v3, va_rf v4] (f_J1_newNode v0 v1 v2 v3 v4 h) :=
  ⟨cJ1_newNode, 5, (some (.object "java/util/HashMap$Node")), [], 2, (show lv_args 0 [va_rf v0, .int v1, va_rf v2, va_rf v3, va_rf v4] = [(0, va_rf v0), (1, .int v1), (2, va_rf v2), (3, va_rf v3), (4, va_rf v4)] by simp [lv_args, zcat_rf, zcat_i, zcat_l, zcat_f, zcat_d]) ▸ w_J1_newNode v0 v1 v2 v3 v4 h, (plainFor_of_name (by decide)), by simp [lg_sl, zcat_rf, zcat_i, zcat_l, zcat_f, zcat_d], q2178, q98, hd0, by decide, by decide⟩
theorem w_J41_init (v0 : Option Nat) (v1 : Int32) (v2 : Option Nat) (v3 : Option Nat) (v4 : Option Nat) (h : zH) : zS D z yJ41_init cJ41_init 5 none [] 2 h 0 [(0, va_rf v0), (1, .int v1), (2, va_rf v2), (3, va_rf v3), (4, va_rf v4)] [] (f_J41_init v0 v1 v2 v3 v4 h) := by
  unfold f_J41_init
  refine s_aload_n (pc := 0) 0 dJ41_init_0 rfl rfl ?_
  refine s_iload_n (pc := 1) 1 dJ41_init_1 rfl rfl ?_
  refine s_aload_n (pc := 2) 2 dJ41_init_2 rfl rfl ?_
  refine s_aload_n (pc := 3) 3 dJ41_init_3 rfl rfl ?_
  refine s_aload (pc := 4) 4 dJ41_init_4 rfl ?_
  refine zS_ite (fun hr => ?_) (fun _ => zS_none)
  refine s_callC (pc := 6) (np := 4) (as := [.int v1, va_rf v2, va_rf v3, va_rf v4]) (rest := []) dJ41_init_6 hr (c_J40_init (by decide) v0 v1 v2 v3 v4 h) ⟨_, _, q2092⟩ rfl rfl rfl q2090 q2091 rfl (by decide) (zkV (fun h1 => ?_)) zxo
  exact s_vret (pc := 9) dJ41_init_9 rfl
theorem c_J41_init {d0 : Nat} (hd0 : 2 < d0) (v0 : Option Nat) (v1 : Int32) (v2 : Option Nat) (v3 : Option Nat) (v4 : Option Nat) (h : zH) : zCal D z d0 h yJ41_init [va_rf v0, .int v1, va_rf v2, va_rf v3, va_rf v4] (f_J41_init v0 v1 v2 v3 v4 h) :=
  ⟨cJ41_init, 5, none, [], 2, (show lv_args 0 [va_rf v0, .int v1, va_rf v2, va_rf v3, va_rf v4] = [(0, va_rf v0), (1, .int v1), (2, va_rf v2), (3, va_rf v3), (4, va_rf v4)] by simp [lv_args, zcat_rf, zcat_i, zcat_l, zcat_f, zcat_d]) ▸ w_J41_init v0 v1 v2 v3 v4 h, (plainFor_of_name (by decide)), by simp [lg_sl, zcat_rf, zcat_i, zcat_l, zcat_f, zcat_d], q2089, q144, hd0, by decide, by decide⟩
theorem w_J2_linkNodeAtEnd (v0 : Option Nat) (v1 : Option Nat) (h : zH) : zS D z yJ2_linkNodeAtEnd cJ2_linkNodeAtEnd 3 none [] 1 h 0 [(0, va_rf v0), (1, va_rf v1)] [] (f_J2_linkNodeAtEnd v0 v1 h) := by
  unfold f_J2_linkNodeAtEnd
  refine s_aload_n (pc := 0) 0 dJ2_linkNodeAtEnd_0 rfl rfl ?_
  refine s_gI (pc := 1) dJ2_linkNodeAtEnd_1 gf_J2_1 (fun x1 => ?_)
  refine s_iconst (pc := 4) (v := 1) dJ2_linkNodeAtEnd_4 (by decide) ?_
  refine s_icmp_ne (pc := 5) (tgt := 43) dJ2_linkNodeAtEnd_5 (by decide) (fun _ => ?_) (fun _ => ?_)
  · refine s_aload_n (pc := 43) 0 dJ2_linkNodeAtEnd_43 rfl rfl ?_
    refine s_gR (pc := 44) dJ2_linkNodeAtEnd_44 gf_J2_11 (fun r2 => ?_)
    refine s_ast_n (pc := 47) (L2 := [(0, va_rf v0), (1, va_rf v1)]) [0, 1] dJ2_linkNodeAtEnd_47 rfl (by decide) rfl rfl (zcB (j := 1) rfl (zcat_rf v1) rfl) ?_
    refine s_aload_n (pc := 48) 1 dJ2_linkNodeAtEnd_48 rfl rfl ?_
    refine s_aload_n (pc := 49) 2 dJ2_linkNodeAtEnd_49 rfl rfl ?_
    refine s_putR (pc := 50) dJ2_linkNodeAtEnd_50 pf_J2_11 (fun h3 => ?_)
    refine s_aload_n (pc := 53) 0 dJ2_linkNodeAtEnd_53 rfl rfl ?_
    refine s_ifnonnull (pc := 54) (tgt := 65) dJ2_linkNodeAtEnd_54 (by decide) (fun _ => ?_) (fun _ => ?_)
    · refine s_aload_n (pc := 65) 2 dJ2_linkNodeAtEnd_65 rfl rfl ?_
      refine s_aload_n (pc := 66) 0 dJ2_linkNodeAtEnd_66 rfl rfl ?_
      refine s_putR (pc := 67) dJ2_linkNodeAtEnd_67 pf_J2_19 (fun h4 => ?_)
      refine s_aload_n (pc := 70) 0 dJ2_linkNodeAtEnd_70 rfl rfl ?_
      refine s_aload_n (pc := 71) 2 dJ2_linkNodeAtEnd_71 rfl rfl ?_
      refine s_putR (pc := 72) dJ2_linkNodeAtEnd_72 pf_J2_14 (fun h5 => ?_)
      exact s_vret (pc := 75) dJ2_linkNodeAtEnd_75 rfl
    · refine s_aload_n (pc := 57) 1 dJ2_linkNodeAtEnd_57 rfl rfl ?_
      refine s_aload_n (pc := 58) 2 dJ2_linkNodeAtEnd_58 rfl rfl ?_
      refine s_putR (pc := 59) dJ2_linkNodeAtEnd_59 pf_J2_7 (fun h6 => ?_)
      refine s_goto (pc := 62) (tgt := 75) dJ2_linkNodeAtEnd_62 (by decide) ?_
      exact s_vret (pc := 75) dJ2_linkNodeAtEnd_75 rfl
  · refine s_aload_n (pc := 8) 0 dJ2_linkNodeAtEnd_8 rfl rfl ?_
    refine s_gR (pc := 9) dJ2_linkNodeAtEnd_9 gf_J2_7 (fun r7 => ?_)
    refine s_ast_n (pc := 12) (L2 := [(0, va_rf v0), (1, va_rf v1)]) [0, 1] dJ2_linkNodeAtEnd_12 rfl (by decide) rfl rfl (zcB (j := 1) rfl (zcat_rf v1) rfl) ?_
    refine s_aload_n (pc := 13) 1 dJ2_linkNodeAtEnd_13 rfl rfl ?_
    refine s_aload_n (pc := 14) 2 dJ2_linkNodeAtEnd_14 rfl rfl ?_
    refine s_putR (pc := 15) dJ2_linkNodeAtEnd_15 pf_J2_7 (fun h8 => ?_)
    refine s_aload_n (pc := 18) 0 dJ2_linkNodeAtEnd_18 rfl rfl ?_
    refine s_ifnonnull (pc := 19) (tgt := 30) dJ2_linkNodeAtEnd_19 (by decide) (fun _ => ?_) (fun _ => ?_)
    · refine s_aload_n (pc := 30) 2 dJ2_linkNodeAtEnd_30 rfl rfl ?_
      refine s_aload_n (pc := 31) 0 dJ2_linkNodeAtEnd_31 rfl rfl ?_
      refine s_putR (pc := 32) dJ2_linkNodeAtEnd_32 pf_J2_14 (fun h9 => ?_)
      refine s_aload_n (pc := 35) 0 dJ2_linkNodeAtEnd_35 rfl rfl ?_
      refine s_aload_n (pc := 36) 2 dJ2_linkNodeAtEnd_36 rfl rfl ?_
      refine s_putR (pc := 37) dJ2_linkNodeAtEnd_37 pf_J2_19 (fun h10 => ?_)
      refine s_goto (pc := 40) (tgt := 75) dJ2_linkNodeAtEnd_40 (by decide) ?_
      exact s_vret (pc := 75) dJ2_linkNodeAtEnd_75 rfl
    · refine s_aload_n (pc := 22) 1 dJ2_linkNodeAtEnd_22 rfl rfl ?_
      refine s_aload_n (pc := 23) 2 dJ2_linkNodeAtEnd_23 rfl rfl ?_
      refine s_putR (pc := 24) dJ2_linkNodeAtEnd_24 pf_J2_11 (fun h11 => ?_)
      refine s_goto (pc := 27) (tgt := 40) dJ2_linkNodeAtEnd_27 (by decide) ?_
      refine s_goto (pc := 40) (tgt := 75) dJ2_linkNodeAtEnd_40 (by decide) ?_
      exact s_vret (pc := 75) dJ2_linkNodeAtEnd_75 rfl
theorem c_J2_linkNodeAtEnd {d0 : Nat} (hd0 : 1 < d0) (v0 : Option Nat) (v1 : Option Nat) (h : zH) : zCal D z d0 h yJ2_linkNodeAtEnd [va_rf v0, va_rf v1] (f_J2_linkNodeAtEnd v0 v1 h) :=
  ⟨cJ2_linkNodeAtEnd, 3, none, [], 1, (show lv_args 0 [va_rf v0, va_rf v1] = [(0, va_rf v0), (1, va_rf v1)] by simp [lv_args, zcat_rf, zcat_i, zcat_l, zcat_f, zcat_d]) ▸ w_J2_linkNodeAtEnd v0 v1 h, (plainFor_of_name (by decide)), by simp [lg_sl, zcat_rf, zcat_i, zcat_l, zcat_f, zcat_d], q2177, q99, hd0, by decide, by decide⟩
theorem w_J2_newNode (v0 : Option Nat) (v1 : Int32) (v2 : Option Nat) (v3 : Option Nat) (v4 : Option Nat) (h : zH) : zS D z yJ2_newNode cJ2_newNode 6 (some (.object "java/util/HashMap$Node")) [] 3 h 0 [(0, va_rf v0), (1, .int v1), (2, va_rf v2), (3, va_rf v3), (4, va_rf v4)] [] (f_J2_newNode v0 v1 v2 v3 v4 h) := by
  unfold f_J2_newNode
  refine s_new (pc := 0) dJ2_newNode_0 nf_J2_15 (fun r1 h2 => ?_)
  refine s_dup (pc := 3) dJ2_newNode_3 (zcat_rf _) ?_
  refine s_iload_n (pc := 4) 1 dJ2_newNode_4 rfl rfl ?_
  refine s_aload_n (pc := 5) 2 dJ2_newNode_5 rfl rfl ?_
  refine s_aload_n (pc := 6) 3 dJ2_newNode_6 rfl rfl ?_
  refine s_aload (pc := 7) 4 dJ2_newNode_7 rfl ?_
  refine zS_ite (fun hr => ?_) (fun _ => zS_none)
  refine s_callC (pc := 9) (np := 4) (as := [.int v1, va_rf v2, va_rf v3, va_rf v4]) (rest := [va_rf r1]) dJ2_newNode_9 hr (c_J41_init (by decide) r1 v1 v2 v3 v4 h2) ⟨_, _, q2089⟩ rfl rfl rfl q2087 q2088 rfl (by simp [zcat_rf, zcat_i, zcat_l, zcat_f, zcat_d]) (zkV (fun h3 => ?_)) zxo
  refine s_ast (pc := 12) (L2 := [(0, va_rf v0)]) [0] dJ2_newNode_12 (by decide) rfl rfl (zcA rfl) ?_
  refine s_aload_n (pc := 14) 1 dJ2_newNode_14 rfl rfl ?_
  refine s_aload (pc := 15) 0 dJ2_newNode_15 rfl ?_
  refine zS_ite (fun ht => ?_) (fun _ => zS_none)
  refine s_callV (pc := 17) (np := 1) (as := [va_rf r1]) (rest := []) dJ2_newNode_17 ht (q := (RJ2, TJ2, 12)) rfl (c_J2_linkNodeAtEnd (by decide) v0 r1 h3) rfl rfl q2174 q2176 qs16 rfl (by decide) (zkV (fun h4 => ?_)) zxo
  refine s_aload (pc := 20) 0 dJ2_newNode_20 rfl ?_
  exact s_aret (pc := 22) dJ2_newNode_22 rfl (Or.inl ⟨_, rfl⟩)
theorem c_J2_newNode {d0 : Nat} (hd0 : 3 < d0) (v0 : Option Nat) (v1 : Int32) (v2 : Option Nat) (v3 : Option Nat) (v4 : Option Nat) (h : zH) : zCal D z d0 h yJ2_newNode [va_rf v0, .int v1, va_rf v2, va_rf v3, va_rf v4] (f_J2_newNode v0 v1 v2 v3 v4 h) :=
  ⟨cJ2_newNode, 6, (some (.object "java/util/HashMap$Node")), [], 3, (show lv_args 0 [va_rf v0, .int v1, va_rf v2, va_rf v3, va_rf v4] = [(0, va_rf v0), (1, .int v1), (2, va_rf v2), (3, va_rf v3), (4, va_rf v4)] by simp [lv_args, zcat_rf, zcat_i, zcat_l, zcat_f, zcat_d]) ▸ w_J2_newNode v0 v1 v2 v3 v4 h, (plainFor_of_name (by decide)), by simp [lg_sl, zcat_rf, zcat_i, zcat_l, zcat_f, zcat_d], q2173, q99, hd0, by decide, by decide⟩
theorem w_X8_equals (v0 : Option Nat) (v1 : Option Nat) (h : zH) : zS D z yX8_equals cX8_equals 3 (some .boolean) [] 1 h 0 [(0, va_rf v0), (1, va_rf v1)] [] (f_X8_equals v0 v1 h) := by
  unfold f_X8_equals
  refine s_aload_n (pc := 0) 1 dX8_equals_0 rfl rfl ?_
  refine s_inst (pc := 1) dX8_equals_1 q1658 (ztc ⟨_, rfl, Or.inl rfl⟩ (zt0)) (zt0) (fun x1 => ?_)
  refine s_if_eq (pc := 4) (tgt := 27) dX8_equals_4 (by decide) (fun _ => ?_) (fun _ => ?_)
  · refine s_iconst (pc := 27) (v := 0) dX8_equals_27 (by decide) ?_
    exact s_nret (pc := 28) dX8_equals_28 rfl
  · refine s_aload_n (pc := 7) 1 dX8_equals_7 rfl rfl ?_
    refine s_cast (pc := 8) dX8_equals_8 q1658 zcs_FloatingDock_Metre ?_
    refine s_ast_n (pc := 11) (L2 := [(0, va_rf v0)]) [0] dX8_equals_11 rfl (by decide) rfl rfl (zcA rfl) ?_
    refine s_aload_n (pc := 12) 0 dX8_equals_12 rfl rfl ?_
    refine s_gI (pc := 13) dX8_equals_13 gf_X8_7 (fun x2 => ?_)
    refine s_aload_n (pc := 16) 1 dX8_equals_16 rfl rfl ?_
    refine s_gI (pc := 17) dX8_equals_17 gf_X8_7 (fun x3 => ?_)
    refine s_icmp_ne (pc := 20) (tgt := 27) dX8_equals_20 (by decide) (fun _ => ?_) (fun _ => ?_)
    · refine s_iconst (pc := 27) (v := 0) dX8_equals_27 (by decide) ?_
      exact s_nret (pc := 28) dX8_equals_28 rfl
    · refine s_iconst (pc := 23) (v := 1) dX8_equals_23 (by decide) ?_
      refine s_goto (pc := 24) (tgt := 28) dX8_equals_24 (by decide) ?_
      exact s_nret (pc := 28) dX8_equals_28 rfl
theorem c_X8_equals {d0 : Nat} (hd0 : 1 < d0) (v0 : Option Nat) (v1 : Option Nat) (h : zH) : zCal D z d0 h yX8_equals [va_rf v0, va_rf v1] (f_X8_equals v0 v1 h) :=
  ⟨cX8_equals, 3, (some .boolean), [], 1, (show lv_args 0 [va_rf v0, va_rf v1] = [(0, va_rf v0), (1, va_rf v1)] by simp [lv_args, zcat_rf, zcat_i, zcat_l, zcat_f, zcat_d]) ▸ w_X8_equals v0 v1 h, (plainFor_of_name (by decide)), by simp [lg_sl, zcat_rf, zcat_i, zcat_l, zcat_f, zcat_d], q1657, q151, hd0, by decide, by decide⟩
theorem w_J24_intValue (v0 : Option Nat) (h : zH) : zS D z yJ24_intValue cJ24_intValue 1 (some .int) [] 1 h 0 [(0, va_rf v0)] [] (f_J24_intValue v0 h) := by
  unfold f_J24_intValue
  refine s_aload_n (pc := 0) 0 dJ24_intValue_0 rfl rfl ?_
  refine s_gI (pc := 1) dJ24_intValue_1 gf_J24_205 (fun x1 => ?_)
  exact s_iret (pc := 4) dJ24_intValue_4 rfl
theorem c_J24_intValue {d0 : Nat} (hd0 : 1 < d0) (v0 : Option Nat) (h : zH) : zCal D z d0 h yJ24_intValue [va_rf v0] (f_J24_intValue v0 h) :=
  ⟨cJ24_intValue, 1, (some .int), [], 1, (show lv_args 0 [va_rf v0] = [(0, va_rf v0)] by simp [lv_args, zcat_rf, zcat_i, zcat_l, zcat_f, zcat_d]) ▸ w_J24_intValue v0 h, (plainFor_of_name (by decide)), by simp [lg_sl, zcat_rf, zcat_i, zcat_l, zcat_f, zcat_d], q1680, q121, hd0, by decide, by decide⟩
theorem w_J24_equals (v0 : Option Nat) (v1 : Option Nat) (h : zH) : zS D z yJ24_equals cJ24_equals 2 (some .boolean) [] 2 h 0 [(0, va_rf v0), (1, va_rf v1)] [] (f_J24_equals v0 v1 h) := by
  unfold f_J24_equals
  refine s_aload_n (pc := 0) 1 dJ24_equals_0 rfl rfl ?_
  refine s_inst (pc := 1) dJ24_equals_1 q689 (ztc ⟨_, rfl, Or.inl rfl⟩ (zt0)) (zt0) (fun x1 => ?_)
  refine s_if_eq (pc := 4) (tgt := 27) dJ24_equals_4 (by decide) (fun _ => ?_) (fun _ => ?_)
  · refine s_iconst (pc := 27) (v := 0) dJ24_equals_27 (by decide) ?_
    exact s_nret (pc := 28) dJ24_equals_28 rfl
  · refine s_aload_n (pc := 7) 0 dJ24_equals_7 rfl rfl ?_
    refine s_gI (pc := 8) dJ24_equals_8 gf_J24_205 (fun x2 => ?_)
    refine s_aload_n (pc := 11) 1 dJ24_equals_11 rfl rfl ?_
    refine s_cast (pc := 12) dJ24_equals_12 q689 zcs_java_lang_Integer ?_
    refine zS_ite (fun ht => ?_) (fun _ => zS_none)
    refine s_callV (pc := 15) (np := 0) (as := []) (rest := [.int x2]) dJ24_equals_15 ht (q := (RJ24, TJ24, 1)) rfl (c_J24_intValue (by decide) v1 h) rfl rfl q1677 q1678 q1679 rfl (by simp [zcat_rf, zcat_i, zcat_l, zcat_f, zcat_d]) (zkI (fun x3 h4 => ?_)) zxo
    refine s_icmp_ne (pc := 18) (tgt := 25) dJ24_equals_18 (by decide) (fun _ => ?_) (fun _ => ?_)
    · refine s_iconst (pc := 25) (v := 0) dJ24_equals_25 (by decide) ?_
      exact s_nret (pc := 26) dJ24_equals_26 rfl
    · refine s_iconst (pc := 21) (v := 1) dJ24_equals_21 (by decide) ?_
      refine s_goto (pc := 22) (tgt := 26) dJ24_equals_22 (by decide) ?_
      exact s_nret (pc := 26) dJ24_equals_26 rfl
theorem c_J24_equals {d0 : Nat} (hd0 : 2 < d0) (v0 : Option Nat) (v1 : Option Nat) (h : zH) : zCal D z d0 h yJ24_equals [va_rf v0, va_rf v1] (f_J24_equals v0 v1 h) :=
  ⟨cJ24_equals, 2, (some .boolean), [], 2, (show lv_args 0 [va_rf v0, va_rf v1] = [(0, va_rf v0), (1, va_rf v1)] by simp [lv_args, zcat_rf, zcat_i, zcat_l, zcat_f, zcat_d]) ▸ w_J24_equals v0 v1 h, (plainFor_of_name (by decide)), by simp [lg_sl, zcat_rf, zcat_i, zcat_l, zcat_f, zcat_d], q1676, q121, hd0, by decide, by decide⟩
theorem w_J1_afterNodeAccess (v0 : Option Nat) (v1 : Option Nat) (h : zH) : zS D z yJ1_afterNodeAccess cJ1_afterNodeAccess 2 none [] 1 h 0 [(0, va_rf v0), (1, va_rf v1)] [] (f_J1_afterNodeAccess v0 v1 h) := by
  unfold f_J1_afterNodeAccess
  exact s_vret (pc := 0) dJ1_afterNodeAccess_0 rfl
theorem c_J1_afterNodeAccess {d0 : Nat} (hd0 : 1 < d0) (v0 : Option Nat) (v1 : Option Nat) (h : zH) : zCal D z d0 h yJ1_afterNodeAccess [va_rf v0, va_rf v1] (f_J1_afterNodeAccess v0 v1 h) :=
  ⟨cJ1_afterNodeAccess, 2, none, [], 1, (show lv_args 0 [va_rf v0, va_rf v1] = [(0, va_rf v0), (1, va_rf v1)] by simp [lv_args, zcat_rf, zcat_i, zcat_l, zcat_f, zcat_d]) ▸ w_J1_afterNodeAccess v0 v1 h, (plainFor_of_name (by decide)), by simp [lg_sl, zcat_rf, zcat_i, zcat_l, zcat_f, zcat_d], q2243, q98, hd0, by decide, by decide⟩
theorem w_J2_afterNodeAccess_122 (a0 : Option Nat) (a4 : Option Nat) (h : zH) : zS D z yJ2_afterNodeAccess cJ2_afterNodeAccess 7 none [] 1 h 122 [(0, va_rf a0), (4, va_rf a4)] [] (f_J2_afterNodeAccess_122 a0 a4 h) := by
  unfold f_J2_afterNodeAccess_122
  refine s_aload_n (pc := 122) 0 dJ2_afterNodeAccess_122 rfl rfl ?_
  refine s_aload (pc := 123) 1 dJ2_afterNodeAccess_123 rfl ?_
  refine s_putR (pc := 125) dJ2_afterNodeAccess_125 pf_J2_11 (fun h28 => ?_)
  refine s_aload_n (pc := 128) 0 dJ2_afterNodeAccess_128 rfl rfl ?_
  refine s_dup (pc := 129) dJ2_afterNodeAccess_129 (zcat_rf _) ?_
  refine s_gI (pc := 130) dJ2_afterNodeAccess_130 gf_J2_68 (fun x29 => ?_)
  refine s_iconst (pc := 133) (v := 1) dJ2_afterNodeAccess_133 (by decide) ?_
  refine s_iadd (pc := 134) dJ2_afterNodeAccess_134 ?_
  refine s_putI (pc := 135) dJ2_afterNodeAccess_135 pf_J2_68 (fun h30 => ?_)
  refine s_goto (pc := 138) (tgt := 265) dJ2_afterNodeAccess_138 (by decide) ?_
  exact s_vret (pc := 265) dJ2_afterNodeAccess_265 rfl
theorem w_J2_afterNodeAccess_97 (a0 : Option Nat) (a2 : Option Nat) (a4 : Option Nat) (h : zH) : zS D z yJ2_afterNodeAccess cJ2_afterNodeAccess 7 none [] 1 h 97 [(0, va_rf a0), (2, va_rf a2), (4, va_rf a4)] [] (f_J2_afterNodeAccess_97 a0 a2 a4 h) := by
  unfold f_J2_afterNodeAccess_97
  refine s_aload_n (pc := 97) 1 dJ2_afterNodeAccess_97 rfl rfl ?_
  refine s_ifnonnull (pc := 98) (tgt := 110) dJ2_afterNodeAccess_98 (by decide) (fun _ => ?_) (fun _ => ?_)
  · refine s_aload (pc := 110) 2 dJ2_afterNodeAccess_110 rfl ?_
    refine s_aload_n (pc := 112) 1 dJ2_afterNodeAccess_112 rfl rfl ?_
    refine s_putR (pc := 113) dJ2_afterNodeAccess_113 pf_J2_19 (fun h25 => ?_)
    refine s_aload_n (pc := 116) 1 dJ2_afterNodeAccess_116 rfl rfl ?_
    refine s_aload (pc := 117) 2 dJ2_afterNodeAccess_117 rfl ?_
    refine s_putR (pc := 119) dJ2_afterNodeAccess_119 pf_J2_14 (fun h26 => ?_)
    exact s_sub (pc := 122) [0, 2] rfl (w_J2_afterNodeAccess_122 a0 a4 h26)
  · refine s_aload_n (pc := 101) 0 dJ2_afterNodeAccess_101 rfl rfl ?_
    refine s_aload (pc := 102) 2 dJ2_afterNodeAccess_102 rfl ?_
    refine s_putR (pc := 104) dJ2_afterNodeAccess_104 pf_J2_7 (fun h27 => ?_)
    refine s_goto (pc := 107) (tgt := 122) dJ2_afterNodeAccess_107 (by decide) ?_
    exact s_sub (pc := 122) [0, 2] rfl (w_J2_afterNodeAccess_122 a0 a4 h27)
theorem w_J2_afterNodeAccess_79 (a0 : Option Nat) (a2 : Option Nat) (a4 : Option Nat) (a5 : Option Nat) (a6 : Option Nat) (h : zH) : zS D z yJ2_afterNodeAccess cJ2_afterNodeAccess 7 none [] 1 h 79 [(0, va_rf a0), (2, va_rf a2), (4, va_rf a4), (5, va_rf a5), (6, va_rf a6)] [] (f_J2_afterNodeAccess_79 a0 a2 a4 a5 a6 h) := by
  unfold f_J2_afterNodeAccess_79
  refine s_aload (pc := 79) 4 dJ2_afterNodeAccess_79 rfl ?_
  refine s_ifnull (pc := 81) (tgt := 94) dJ2_afterNodeAccess_81 (by decide) (fun _ => ?_) (fun _ => ?_)
  · refine s_aload (pc := 94) 3 dJ2_afterNodeAccess_94 rfl ?_
    refine s_ast_n (pc := 96) (L2 := [(0, va_rf a0), (4, va_rf a4)]) [0, 2] dJ2_afterNodeAccess_96 rfl (by decide) rfl rfl (zcA rfl) ?_
    exact s_sub (pc := 97) [1, 0, 2] rfl (w_J2_afterNodeAccess_97 a0 a5 a4 h)
  · refine s_aload (pc := 84) 4 dJ2_afterNodeAccess_84 rfl ?_
    refine s_aload (pc := 86) 3 dJ2_afterNodeAccess_86 rfl ?_
    refine s_putR (pc := 88) dJ2_afterNodeAccess_88 pf_J2_19 (fun h24 => ?_)
    refine s_goto (pc := 91) (tgt := 97) dJ2_afterNodeAccess_91 (by decide) ?_
    exact s_sub (pc := 97) [0, 1, 2] rfl (w_J2_afterNodeAccess_97 a0 a2 a4 h24)
theorem w_J2_afterNodeAccess_249 (a0 : Option Nat) (a4 : Option Nat) (h : zH) : zS D z yJ2_afterNodeAccess cJ2_afterNodeAccess 7 none [] 1 h 249 [(0, va_rf a0), (4, va_rf a4)] [] (f_J2_afterNodeAccess_249 a0 a4 h) := by
  unfold f_J2_afterNodeAccess_249
  refine s_aload_n (pc := 249) 0 dJ2_afterNodeAccess_249 rfl rfl ?_
  refine s_aload (pc := 250) 1 dJ2_afterNodeAccess_250 rfl ?_
  refine s_putR (pc := 252) dJ2_afterNodeAccess_252 pf_J2_7 (fun h15 => ?_)
  refine s_aload_n (pc := 255) 0 dJ2_afterNodeAccess_255 rfl rfl ?_
  refine s_dup (pc := 256) dJ2_afterNodeAccess_256 (zcat_rf _) ?_
  refine s_gI (pc := 257) dJ2_afterNodeAccess_257 gf_J2_68 (fun x16 => ?_)
  refine s_iconst (pc := 260) (v := 1) dJ2_afterNodeAccess_260 (by decide) ?_
  refine s_iadd (pc := 261) dJ2_afterNodeAccess_261 ?_
  refine s_putI (pc := 262) dJ2_afterNodeAccess_262 pf_J2_68 (fun h17 => ?_)
  exact s_vret (pc := 265) dJ2_afterNodeAccess_265 rfl
theorem w_J2_afterNodeAccess_224 (a0 : Option Nat) (a3 : Option Nat) (a4 : Option Nat) (h : zH) : zS D z yJ2_afterNodeAccess cJ2_afterNodeAccess 7 none [] 1 h 224 [(0, va_rf a0), (3, va_rf a3), (4, va_rf a4)] [] (f_J2_afterNodeAccess_224 a0 a3 a4 h) := by
  unfold f_J2_afterNodeAccess_224
  refine s_aload_n (pc := 224) 1 dJ2_afterNodeAccess_224 rfl rfl ?_
  refine s_ifnonnull (pc := 225) (tgt := 237) dJ2_afterNodeAccess_225 (by decide) (fun _ => ?_) (fun _ => ?_)
  · refine s_aload (pc := 237) 2 dJ2_afterNodeAccess_237 rfl ?_
    refine s_aload_n (pc := 239) 1 dJ2_afterNodeAccess_239 rfl rfl ?_
    refine s_putR (pc := 240) dJ2_afterNodeAccess_240 pf_J2_14 (fun h12 => ?_)
    refine s_aload_n (pc := 243) 1 dJ2_afterNodeAccess_243 rfl rfl ?_
    refine s_aload (pc := 244) 2 dJ2_afterNodeAccess_244 rfl ?_
    refine s_putR (pc := 246) dJ2_afterNodeAccess_246 pf_J2_19 (fun h13 => ?_)
    exact s_sub (pc := 249) [0, 2] rfl (w_J2_afterNodeAccess_249 a0 a4 h13)
  · refine s_aload_n (pc := 228) 0 dJ2_afterNodeAccess_228 rfl rfl ?_
    refine s_aload (pc := 229) 2 dJ2_afterNodeAccess_229 rfl ?_
    refine s_putR (pc := 231) dJ2_afterNodeAccess_231 pf_J2_11 (fun h14 => ?_)
    refine s_goto (pc := 234) (tgt := 249) dJ2_afterNodeAccess_234 (by decide) ?_
    exact s_sub (pc := 249) [0, 2] rfl (w_J2_afterNodeAccess_249 a0 a4 h14)
theorem w_J2_afterNodeAccess_206 (a0 : Option Nat) (a3 : Option Nat) (a4 : Option Nat) (a5 : Option Nat) (a6 : Option Nat) (h : zH) : zS D z yJ2_afterNodeAccess cJ2_afterNodeAccess 7 none [] 1 h 206 [(0, va_rf a0), (3, va_rf a3), (4, va_rf a4), (5, va_rf a5), (6, va_rf a6)] [] (f_J2_afterNodeAccess_206 a0 a3 a4 a5 a6 h) := by
  unfold f_J2_afterNodeAccess_206
  refine s_aload (pc := 206) 3 dJ2_afterNodeAccess_206 rfl ?_
  refine s_ifnull (pc := 208) (tgt := 221) dJ2_afterNodeAccess_208 (by decide) (fun _ => ?_) (fun _ => ?_)
  · refine s_aload (pc := 221) 4 dJ2_afterNodeAccess_221 rfl ?_
    refine s_ast_n (pc := 223) (L2 := [(0, va_rf a0), (4, va_rf a4)]) [0, 2] dJ2_afterNodeAccess_223 rfl (by decide) rfl rfl (zcA rfl) ?_
    exact s_sub (pc := 224) [1, 0, 2] rfl (w_J2_afterNodeAccess_224 a0 a6 a4 h)
  · refine s_aload (pc := 211) 3 dJ2_afterNodeAccess_211 rfl ?_
    refine s_aload (pc := 213) 4 dJ2_afterNodeAccess_213 rfl ?_
    refine s_putR (pc := 215) dJ2_afterNodeAccess_215 pf_J2_14 (fun h11 => ?_)
    refine s_goto (pc := 218) (tgt := 224) dJ2_afterNodeAccess_218 (by decide) ?_
    exact s_sub (pc := 224) [0, 1, 2] rfl (w_J2_afterNodeAccess_224 a0 a3 a4 h11)
theorem w_J2_afterNodeAccess_141 (a0 : Option Nat) (a1 : Option Nat) (h : zH) : zS D z yJ2_afterNodeAccess cJ2_afterNodeAccess 7 none [] 1 h 141 [(0, va_rf a0), (1, va_rf a1)] [] (f_J2_afterNodeAccess_141 a0 a1 h) := by
  unfold f_J2_afterNodeAccess_141
  refine s_aload_n (pc := 141) 0 dJ2_afterNodeAccess_141 rfl rfl ?_
  refine s_gI (pc := 142) dJ2_afterNodeAccess_142 gf_J2_1 (fun x4 => ?_)
  refine s_iconst (pc := 145) (v := 1) dJ2_afterNodeAccess_145 (by decide) ?_
  refine s_icmp_ne (pc := 146) (tgt := 265) dJ2_afterNodeAccess_146 (by decide) (fun _ => ?_) (fun _ => ?_)
  · exact s_vret (pc := 265) dJ2_afterNodeAccess_265 rfl
  · refine s_aload_n (pc := 149) 0 dJ2_afterNodeAccess_149 rfl rfl ?_
    refine s_gR (pc := 150) dJ2_afterNodeAccess_150 gf_J2_7 (fun r5 => ?_)
    refine s_dup (pc := 153) dJ2_afterNodeAccess_153 (zcat_rf _) ?_
    refine s_ast_n (pc := 154) (L2 := [(0, va_rf a0), (1, va_rf a1)]) [0, 1] dJ2_afterNodeAccess_154 rfl (by decide) rfl rfl (zcA rfl) ?_
    refine s_aload_n (pc := 155) 2 dJ2_afterNodeAccess_155 rfl rfl ?_
    refine s_acmp_eq (pc := 156) (tgt := 265) dJ2_afterNodeAccess_156 (by decide) (fun _ => ?_) (fun _ => ?_)
    · exact s_vret (pc := 265) dJ2_afterNodeAccess_265 rfl
    · refine s_aload_n (pc := 159) 2 dJ2_afterNodeAccess_159 rfl rfl ?_
      refine s_cast (pc := 160) dJ2_afterNodeAccess_160 q2085 zcs_java_util_LinkedHashMap_Entry ?_
      refine s_ast (pc := 163) (L2 := [(3, va_rf r5), (0, va_rf a0)]) [0, 1] dJ2_afterNodeAccess_163 (by decide) rfl rfl (zcB (j := 0) rfl (zcat_rf r5) rfl) ?_
      refine s_aload (pc := 165) 0 dJ2_afterNodeAccess_165 rfl ?_
      refine s_gR (pc := 167) dJ2_afterNodeAccess_167 gf_J2_19 (fun r6 => ?_)
      refine s_ast (pc := 170) (L2 := [(4, va_rf a1), (3, va_rf r5), (0, va_rf a0)]) [0, 1, 2] dJ2_afterNodeAccess_170 (by decide) rfl rfl (zcB (j := 0) rfl (zcat_rf a1) rfl) ?_
      refine s_aload (pc := 172) 1 dJ2_afterNodeAccess_172 rfl ?_
      refine s_gR (pc := 174) dJ2_afterNodeAccess_174 gf_J2_14 (fun r7 => ?_)
      refine s_ast (pc := 177) (L2 := [(5, va_rf r6), (4, va_rf a1), (3, va_rf r5), (0, va_rf a0)]) [0, 1, 2, 3] dJ2_afterNodeAccess_177 (by decide) rfl rfl (zcB (j := 0) rfl (zcat_rf r6) rfl) ?_
      refine s_aload (pc := 179) 2 dJ2_afterNodeAccess_179 rfl ?_
      refine s_null (pc := 181) dJ2_afterNodeAccess_181 ?_
      refine s_putR (pc := 182) dJ2_afterNodeAccess_182 pf_J2_19 (fun h8 => ?_)
      refine s_aload (pc := 185) 0 dJ2_afterNodeAccess_185 rfl ?_
      refine s_ifnonnull (pc := 187) (tgt := 199) dJ2_afterNodeAccess_187 (by decide) (fun _ => ?_) (fun _ => ?_)
      · refine s_aload (pc := 199) 0 dJ2_afterNodeAccess_199 rfl ?_
        refine s_aload (pc := 201) 1 dJ2_afterNodeAccess_201 rfl ?_
        refine s_putR (pc := 203) dJ2_afterNodeAccess_203 pf_J2_19 (fun h9 => ?_)
        exact s_sub (pc := 206) [4, 3, 2, 1, 0] rfl (w_J2_afterNodeAccess_206 a0 r5 a1 r6 r7 h9)
      · refine s_aload_n (pc := 190) 4 dJ2_afterNodeAccess_190 rfl rfl ?_
        refine s_aload (pc := 191) 1 dJ2_afterNodeAccess_191 rfl ?_
        refine s_putR (pc := 193) dJ2_afterNodeAccess_193 pf_J2_11 (fun h10 => ?_)
        refine s_goto (pc := 196) (tgt := 206) dJ2_afterNodeAccess_196 (by decide) ?_
        exact s_sub (pc := 206) [4, 3, 2, 1, 0] rfl (w_J2_afterNodeAccess_206 a0 r5 a1 r6 r7 h10)
theorem w_J2_afterNodeAccess_22 (a0 : Option Nat) (a1 : Option Nat) (h : zH) : zS D z yJ2_afterNodeAccess cJ2_afterNodeAccess 7 none [] 1 h 22 [(0, va_rf a0), (1, va_rf a1)] [] (f_J2_afterNodeAccess_22 a0 a1 h) := by
  unfold f_J2_afterNodeAccess_22
  refine s_aload_n (pc := 22) 0 dJ2_afterNodeAccess_22 rfl rfl ?_
  refine s_gR (pc := 23) dJ2_afterNodeAccess_23 gf_J2_11 (fun r18 => ?_)
  refine s_dup (pc := 26) dJ2_afterNodeAccess_26 (zcat_rf _) ?_
  refine s_ast_n (pc := 27) (L2 := [(0, va_rf a0), (1, va_rf a1)]) [0, 1] dJ2_afterNodeAccess_27 rfl (by decide) rfl rfl (zcB (j := 1) rfl (zcat_rf a1) rfl) ?_
  refine s_aload_n (pc := 28) 2 dJ2_afterNodeAccess_28 rfl rfl ?_
  refine s_acmp_eq (pc := 29) (tgt := 141) dJ2_afterNodeAccess_29 (by decide) (fun _ => ?_) (fun _ => ?_)
  · exact s_sub (pc := 141) [1, 2] rfl (w_J2_afterNodeAccess_141 a0 a1 h)
  · refine s_aload_n (pc := 32) 2 dJ2_afterNodeAccess_32 rfl rfl ?_
    refine s_cast (pc := 33) dJ2_afterNodeAccess_33 q2085 zcs_java_util_LinkedHashMap_Entry ?_
    refine s_ast (pc := 36) (L2 := [(2, va_rf r18), (0, va_rf a0)]) [0, 1] dJ2_afterNodeAccess_36 (by decide) rfl rfl (zcA rfl) ?_
    refine s_aload (pc := 38) 0 dJ2_afterNodeAccess_38 rfl ?_
    refine s_gR (pc := 40) dJ2_afterNodeAccess_40 gf_J2_19 (fun r19 => ?_)
    refine s_ast (pc := 43) (L2 := [(4, va_rf a1), (2, va_rf r18), (0, va_rf a0)]) [0, 1, 2] dJ2_afterNodeAccess_43 (by decide) rfl rfl (zcB (j := 0) rfl (zcat_rf a1) rfl) ?_
    refine s_aload (pc := 45) 1 dJ2_afterNodeAccess_45 rfl ?_
    refine s_gR (pc := 47) dJ2_afterNodeAccess_47 gf_J2_14 (fun r20 => ?_)
    refine s_ast (pc := 50) (L2 := [(5, va_rf r19), (4, va_rf a1), (2, va_rf r18), (0, va_rf a0)]) [0, 1, 2, 3] dJ2_afterNodeAccess_50 (by decide) rfl rfl (zcB (j := 0) rfl (zcat_rf r19) rfl) ?_
    refine s_aload (pc := 52) 2 dJ2_afterNodeAccess_52 rfl ?_
    refine s_null (pc := 54) dJ2_afterNodeAccess_54 ?_
    refine s_putR (pc := 55) dJ2_afterNodeAccess_55 pf_J2_14 (fun h21 => ?_)
    refine s_aload (pc := 58) 1 dJ2_afterNodeAccess_58 rfl ?_
    refine s_ifnonnull (pc := 60) (tgt := 72) dJ2_afterNodeAccess_60 (by decide) (fun _ => ?_) (fun _ => ?_)
    · refine s_aload (pc := 72) 1 dJ2_afterNodeAccess_72 rfl ?_
      refine s_aload (pc := 74) 0 dJ2_afterNodeAccess_74 rfl ?_
      refine s_putR (pc := 76) dJ2_afterNodeAccess_76 pf_J2_14 (fun h22 => ?_)
      exact s_sub (pc := 79) [4, 3, 2, 1, 0] rfl (w_J2_afterNodeAccess_79 a0 r18 a1 r19 r20 h22)
    · refine s_aload_n (pc := 63) 4 dJ2_afterNodeAccess_63 rfl rfl ?_
      refine s_aload (pc := 64) 0 dJ2_afterNodeAccess_64 rfl ?_
      refine s_putR (pc := 66) dJ2_afterNodeAccess_66 pf_J2_7 (fun h23 => ?_)
      refine s_goto (pc := 69) (tgt := 79) dJ2_afterNodeAccess_69 (by decide) ?_
      exact s_sub (pc := 79) [4, 3, 2, 1, 0] rfl (w_J2_afterNodeAccess_79 a0 r18 a1 r19 r20 h23)
theorem w_J2_afterNodeAccess (v0 : Option Nat) (v1 : Option Nat) (h : zH) : zS D z yJ2_afterNodeAccess cJ2_afterNodeAccess 7 none [] 1 h 0 [(0, va_rf v0), (1, va_rf v1)] [] (f_J2_afterNodeAccess v0 v1 h) := by
  unfold f_J2_afterNodeAccess
  refine s_aload_n (pc := 0) 0 dJ2_afterNodeAccess_0 rfl rfl ?_
  refine s_gI (pc := 1) dJ2_afterNodeAccess_1 gf_J2_1 (fun x1 => ?_)
  refine s_iconst (pc := 4) (v := 2) dJ2_afterNodeAccess_4 (by decide) ?_
  refine s_icmp_eq (pc := 5) (tgt := 22) dJ2_afterNodeAccess_5 (by decide) (fun _ => ?_) (fun _ => ?_)
  · exact s_sub (pc := 22) [0, 1] rfl (w_J2_afterNodeAccess_22 v0 v1 h)
  · refine s_aload_n (pc := 8) 0 dJ2_afterNodeAccess_8 rfl rfl ?_
    refine s_gI (pc := 9) dJ2_afterNodeAccess_9 gf_J2_1 (fun x2 => ?_)
    refine s_if_ne (pc := 12) (tgt := 141) dJ2_afterNodeAccess_12 (by decide) (fun _ => ?_) (fun _ => ?_)
    · exact s_sub (pc := 141) [0, 1] rfl (w_J2_afterNodeAccess_141 v0 v1 h)
    · refine s_aload_n (pc := 15) 0 dJ2_afterNodeAccess_15 rfl rfl ?_
      refine s_gI (pc := 16) dJ2_afterNodeAccess_16 gf_J2_64 (fun x3 => ?_)
      refine s_if_eq (pc := 19) (tgt := 141) dJ2_afterNodeAccess_19 (by decide) (fun _ => ?_) (fun _ => ?_)
      · exact s_sub (pc := 141) [0, 1] rfl (w_J2_afterNodeAccess_141 v0 v1 h)
      · exact s_sub (pc := 22) [0, 1] rfl (w_J2_afterNodeAccess_22 v0 v1 h)
theorem c_J2_afterNodeAccess {d0 : Nat} (hd0 : 1 < d0) (v0 : Option Nat) (v1 : Option Nat) (h : zH) : zCal D z d0 h yJ2_afterNodeAccess [va_rf v0, va_rf v1] (f_J2_afterNodeAccess v0 v1 h) :=
  ⟨cJ2_afterNodeAccess, 7, none, [], 1, (show lv_args 0 [va_rf v0, va_rf v1] = [(0, va_rf v0), (1, va_rf v1)] by simp [lv_args, zcat_rf, zcat_i, zcat_l, zcat_f, zcat_d]) ▸ w_J2_afterNodeAccess v0 v1 h, (plainFor_of_name (by decide)), by simp [lg_sl, zcat_rf, zcat_i, zcat_l, zcat_f, zcat_d], q2242, q99, hd0, by decide, by decide⟩
theorem w_J1_afterNodeInsertion (v0 : Option Nat) (v1 : Int32) (h : zH) : zS D z yJ1_afterNodeInsertion cJ1_afterNodeInsertion 2 none [] 1 h 0 [(0, va_rf v0), (1, .int v1)] [] (f_J1_afterNodeInsertion v0 v1 h) := by
  unfold f_J1_afterNodeInsertion
  exact s_vret (pc := 0) dJ1_afterNodeInsertion_0 rfl
theorem c_J1_afterNodeInsertion {d0 : Nat} (hd0 : 1 < d0) (v0 : Option Nat) (v1 : Int32) (h : zH) : zCal D z d0 h yJ1_afterNodeInsertion [va_rf v0, .int v1] (f_J1_afterNodeInsertion v0 v1 h) :=
  ⟨cJ1_afterNodeInsertion, 2, none, [], 1, (show lv_args 0 [va_rf v0, .int v1] = [(0, va_rf v0), (1, .int v1)] by simp [lv_args, zcat_rf, zcat_i, zcat_l, zcat_f, zcat_d]) ▸ w_J1_afterNodeInsertion v0 v1 h, (plainFor_of_name (by decide)), by simp [lg_sl, zcat_rf, zcat_i, zcat_l, zcat_f, zcat_d], q2255, q98, hd0, by decide, by decide⟩
theorem w_J2_removeEldestEntry (v0 : Option Nat) (v1 : Option Nat) (h : zH) : zS D z yJ2_removeEldestEntry cJ2_removeEldestEntry 2 (some .boolean) [] 1 h 0 [(0, va_rf v0), (1, va_rf v1)] [] (f_J2_removeEldestEntry v0 v1 h) := by
  unfold f_J2_removeEldestEntry
  refine s_iconst (pc := 0) (v := 0) dJ2_removeEldestEntry_0 (by decide) ?_
  exact s_nret (pc := 1) dJ2_removeEldestEntry_1 rfl
theorem c_J2_removeEldestEntry {d0 : Nat} (hd0 : 1 < d0) (v0 : Option Nat) (v1 : Option Nat) (h : zH) : zCal D z d0 h yJ2_removeEldestEntry [va_rf v0, va_rf v1] (f_J2_removeEldestEntry v0 v1 h) :=
  ⟨cJ2_removeEldestEntry, 2, (some .boolean), [], 1, (show lv_args 0 [va_rf v0, va_rf v1] = [(0, va_rf v0), (1, va_rf v1)] by simp [lv_args, zcat_rf, zcat_i, zcat_l, zcat_f, zcat_d]) ▸ w_J2_removeEldestEntry v0 v1 h, (plainFor_of_name (by decide)), by simp [lg_sl, zcat_rf, zcat_i, zcat_l, zcat_f, zcat_d], q2254, q99, hd0, by decide, by decide⟩
theorem w_J2_afterNodeInsertion (v0 : Option Nat) (v1 : Int32) (h : zH) : zS D z yJ2_afterNodeInsertion cJ2_afterNodeInsertion 4 none [] 2 h 0 [(0, va_rf v0), (1, .int v1)] [] (f_J2_afterNodeInsertion v0 v1 h) := by
  unfold f_J2_afterNodeInsertion
  refine s_iload_n (pc := 0) 1 dJ2_afterNodeInsertion_0 rfl rfl ?_
  refine s_if_eq (pc := 1) (tgt := 39) dJ2_afterNodeInsertion_1 (by decide) (fun _ => ?_) (fun _ => ?_)
  · exact s_vret (pc := 39) dJ2_afterNodeInsertion_39 rfl
  · refine s_aload_n (pc := 4) 0 dJ2_afterNodeInsertion_4 rfl rfl ?_
    refine s_gR (pc := 5) dJ2_afterNodeInsertion_5 gf_J2_7 (fun r1 => ?_)
    refine s_dup (pc := 8) dJ2_afterNodeInsertion_8 (zcat_rf _) ?_
    refine s_ast_n (pc := 9) (L2 := [(0, va_rf v0)]) [0] dJ2_afterNodeInsertion_9 rfl (by decide) rfl rfl (zcA rfl) ?_
    refine s_ifnull (pc := 10) (tgt := 39) dJ2_afterNodeInsertion_10 (by decide) (fun _ => ?_) (fun _ => ?_)
    · exact s_vret (pc := 39) dJ2_afterNodeInsertion_39 rfl
    · refine s_aload_n (pc := 13) 1 dJ2_afterNodeInsertion_13 rfl rfl ?_
      refine s_aload_n (pc := 14) 0 dJ2_afterNodeInsertion_14 rfl rfl ?_
      refine zS_ite (fun ht => ?_) (fun _ => zS_none)
      refine s_callV (pc := 15) (np := 1) (as := [va_rf r1]) (rest := []) dJ2_afterNodeInsertion_15 ht (q := (RJ2, TJ2, 12)) rfl (c_J2_removeEldestEntry (by decide) v0 r1 h) rfl rfl q2251 q2252 q2253 rfl (by decide) (zkI (fun x2 h3 => ?_)) zxo
      refine s_if_eq (pc := 18) (tgt := 39) dJ2_afterNodeInsertion_18 (by decide) (fun _ => ?_) (fun _ => ?_)
      · exact s_vret (pc := 39) dJ2_afterNodeInsertion_39 rfl
      · refine s_aload_n (pc := 21) 0 dJ2_afterNodeInsertion_21 rfl rfl ?_
        refine s_gR (pc := 22) dJ2_afterNodeInsertion_22 gf_J2_39 (fun r4 => ?_)
        refine s_ast_n (pc := 25) (L2 := [(0, va_rf v0)]) [1] dJ2_afterNodeInsertion_25 rfl (by decide) rfl rfl (zcA rfl) ?_
        refine s_aload_n (pc := 26) 1 dJ2_afterNodeInsertion_26 rfl rfl ?_
        refine s_aload_n (pc := 27) 0 dJ2_afterNodeInsertion_27 rfl rfl ?_
        exact zS_none
theorem c_J2_afterNodeInsertion {d0 : Nat} (hd0 : 2 < d0) (v0 : Option Nat) (v1 : Int32) (h : zH) : zCal D z d0 h yJ2_afterNodeInsertion [va_rf v0, .int v1] (f_J2_afterNodeInsertion v0 v1 h) :=
  ⟨cJ2_afterNodeInsertion, 4, none, [], 2, (show lv_args 0 [va_rf v0, .int v1] = [(0, va_rf v0), (1, .int v1)] by simp [lv_args, zcat_rf, zcat_i, zcat_l, zcat_f, zcat_d]) ▸ w_J2_afterNodeInsertion v0 v1 h, (plainFor_of_name (by decide)), by simp [lg_sl, zcat_rf, zcat_i, zcat_l, zcat_f, zcat_d], q2250, q99, hd0, by decide, by decide⟩
theorem w_J1_putVal_250 (a0 : Option Nat) (a10 : Option Nat) (a12 : Option Nat) (h : zH) : zS D z yJ1_putVal cJ1_putVal 13 (some (.object "java/lang/Object")) [] 4 h 250 [(0, va_rf a0), (10, va_rf a10), (12, va_rf a12)] [] (f_J1_putVal_250 a0 a10 a12 h) := by
  unfold f_J1_putVal_250
  refine s_aload_n (pc := 250) 0 dJ1_putVal_250 rfl rfl ?_
  refine s_aload (pc := 251) 1 dJ1_putVal_251 rfl ?_
  refine zS_ite (fun ht => ?_) (fun _ => ?_)
  · refine s_callV (pc := 253) (np := 1) (as := [va_rf a10]) (rest := []) dJ1_putVal_253 ht (q := (RJ1, TJ1, 8)) rfl (c_J1_afterNodeAccess (by decide) a0 a10 h) rfl rfl q2236 q2237 q2238 rfl (by decide) (zkV (fun h23 => ?_)) zxo
    refine s_aload (pc := 256) 2 dJ1_putVal_256 rfl ?_
    exact s_aret (pc := 258) dJ1_putVal_258 rfl (Or.inl ⟨_, rfl⟩)
  refine zS_ite (fun ht => ?_) (fun _ => zS_none)
  refine s_callVU (pc := 253) (np := 1) (as := [va_rf a10]) (rest := []) (owner := "java/util/HashMap") dJ1_putVal_253 ht (q := (RJ2, TJ2, 12)) rfl (c_J2_afterNodeAccess (by decide) a0 a10 h) ⟨_, _, _, q2242⟩ rfl rfl q2236 q2239 (Or.inl ⟨_, _, _, q2237, q2243⟩) (by decide) q2241 q2240 rfl (by decide) (zkV (fun h23 => ?_)) zxo
  refine s_aload (pc := 256) 2 dJ1_putVal_256 rfl ?_
  exact s_aret (pc := 258) dJ1_putVal_258 rfl (Or.inl ⟨_, rfl⟩)
theorem w_J1_putVal_244 (a0 : Option Nat) (a3 : Option Nat) (a10 : Option Nat) (a12 : Option Nat) (h : zH) : zS D z yJ1_putVal cJ1_putVal 13 (some (.object "java/lang/Object")) [] 4 h 244 [(0, va_rf a0), (3, va_rf a3), (10, va_rf a10), (12, va_rf a12)] [] (f_J1_putVal_244 a0 a3 a10 a12 h) := by
  unfold f_J1_putVal_244
  refine s_aload (pc := 244) 2 dJ1_putVal_244 rfl ?_
  refine s_aload_n (pc := 246) 1 dJ1_putVal_246 rfl rfl ?_
  refine s_putR (pc := 247) dJ1_putVal_247 pf_J1_162 (fun h24 => ?_)
  exact s_sub (pc := 250) [0, 2, 3] rfl (w_J1_putVal_250 a0 a10 a12 h24)
theorem w_J1_putVal_292 (a0 : Option Nat) (a5 : Int32) (h : zH) : zS D z yJ1_putVal cJ1_putVal 13 (some (.object "java/lang/Object")) [] 4 h 292 [(0, va_rf a0), (5, .int a5)] [] (f_J1_putVal_292 a0 a5 h) := by
  unfold f_J1_putVal_292
  refine s_aload_n (pc := 292) 0 dJ1_putVal_292 rfl rfl ?_
  refine s_iload (pc := 293) 1 dJ1_putVal_293 rfl ?_
  refine zS_ite (fun ht => ?_) (fun _ => ?_)
  · refine s_callV (pc := 295) (np := 1) (as := [.int a5]) (rest := []) dJ1_putVal_295 ht (q := (RJ1, TJ1, 8)) rfl (c_J1_afterNodeInsertion (by decide) a0 a5 h) rfl rfl q2244 q2245 q2246 rfl (by decide) (zkV (fun h21 => ?_)) zxo
    refine s_null (pc := 298) dJ1_putVal_298 ?_
    exact s_aret (pc := 299) dJ1_putVal_299 rfl (Or.inl ⟨_, rfl⟩)
  refine zS_ite (fun ht => ?_) (fun _ => zS_none)
  refine s_callVU (pc := 295) (np := 1) (as := [.int a5]) (rest := []) (owner := "java/util/HashMap") dJ1_putVal_295 ht (q := (RJ2, TJ2, 12)) rfl (c_J2_afterNodeInsertion (by decide) a0 a5 h) ⟨_, _, _, q2250⟩ rfl rfl q2244 q2247 (Or.inl ⟨_, _, _, q2245, q2255⟩) (by decide) q2249 q2248 rfl (by decide) (zkV (fun h21 => ?_)) zxo
  refine s_null (pc := 298) dJ1_putVal_298 ?_
  exact s_aret (pc := 299) dJ1_putVal_299 rfl (Or.inl ⟨_, rfl⟩)
theorem w_J1_putVal_259 (a0 : Option Nat) (a5 : Int32) (h : zH) : zS D z yJ1_putVal cJ1_putVal 13 (some (.object "java/lang/Object")) [] 4 h 259 [(0, va_rf a0), (5, .int a5)] [] (f_J1_putVal_259 a0 a5 h) := by
  unfold f_J1_putVal_259
  refine s_aload_n (pc := 259) 0 dJ1_putVal_259 rfl rfl ?_
  refine s_dup (pc := 260) dJ1_putVal_260 (zcat_rf _) ?_
  refine s_gI (pc := 261) dJ1_putVal_261 gf_J1_202 (fun x13 => ?_)
  refine s_iconst (pc := 264) (v := 1) dJ1_putVal_264 (by decide) ?_
  refine s_iadd (pc := 265) dJ1_putVal_265 ?_
  refine s_putI (pc := 266) dJ1_putVal_266 pf_J1_202 (fun h14 => ?_)
  refine s_aload_n (pc := 269) 0 dJ1_putVal_269 rfl rfl ?_
  refine s_dup (pc := 270) dJ1_putVal_270 (zcat_rf _) ?_
  refine s_gI (pc := 271) dJ1_putVal_271 gf_J1_156 (fun x15 => ?_)
  refine s_iconst (pc := 274) (v := 1) dJ1_putVal_274 (by decide) ?_
  refine s_iadd (pc := 275) dJ1_putVal_275 ?_
  refine s_nm (pc := 276) Value.int (fun x16 => ?_)
  refine s_dup_x1 (pc := 276) dJ1_putVal_276 rfl (zcat_rf _) ?_
  refine s_putI (pc := 277) dJ1_putVal_277 pf_J1_156 (fun h17 => ?_)
  refine s_aload_n (pc := 280) 0 dJ1_putVal_280 rfl rfl ?_
  refine s_gI (pc := 281) dJ1_putVal_281 gf_J1_88 (fun x18 => ?_)
  refine s_icmp_le (pc := 284) (tgt := 292) dJ1_putVal_284 (by decide) (fun _ => ?_) (fun _ => ?_)
  · exact s_sub (pc := 292) [0, 1] rfl (w_J1_putVal_292 a0 a5 h17)
  · refine s_aload_n (pc := 287) 0 dJ1_putVal_287 rfl rfl ?_
    refine zS_ite (fun ht => ?_) (fun _ => ?_)
    · refine s_callV (pc := 288) (np := 0) (as := []) (rest := []) dJ1_putVal_288 ht (q := (RJ1, TJ1, 8)) rfl (c_J1_resize (by decide) a0 h17) rfl rfl q2058 q2059 q2060 rfl (by decide) (zkR (fun r19 h20 => ?_)) zxo
      refine s_pop (pc := 291) dJ1_putVal_291 (zcat_rf _) ?_
      exact s_sub (pc := 292) [0, 1] rfl (w_J1_putVal_292 a0 a5 h20)
    refine zS_ite (fun ht => ?_) (fun _ => zS_none)
    refine s_callVU (pc := 288) (np := 0) (as := []) (rest := []) (owner := "java/util/HashMap") dJ1_putVal_288 ht (q := (RJ2, TJ2, 12)) rfl (c_J1_resize (by decide) a0 h17) ⟨_, _, _, q2063⟩ rfl rfl q2058 q2061 (Or.inl ⟨_, _, _, q2059, q2063⟩) (by decide) q2059 q2062 rfl (by decide) (zkR (fun r19 h20 => ?_)) zxo
    refine s_pop (pc := 291) dJ1_putVal_291 (zcat_rf _) ?_
    exact s_sub (pc := 292) [0, 1] rfl (w_J1_putVal_292 a0 a5 h20)
theorem w_J1_putVal_222 (a0 : Option Nat) (a3 : Option Nat) (a4 : Int32) (a5 : Int32) (a10 : Option Nat) (h : zH) : zS D z yJ1_putVal cJ1_putVal 13 (some (.object "java/lang/Object")) [] 4 h 222 [(0, va_rf a0), (3, va_rf a3), (4, .int a4), (5, .int a5), (10, va_rf a10)] [] (f_J1_putVal_222 a0 a3 a4 a5 a10 h) := by
  unfold f_J1_putVal_222
  refine s_aload (pc := 222) 4 dJ1_putVal_222 rfl ?_
  refine s_ifnull (pc := 224) (tgt := 259) dJ1_putVal_224 (by decide) (fun _ => ?_) (fun _ => ?_)
  · exact s_sub (pc := 259) [0, 3] rfl (w_J1_putVal_259 a0 a5 h)
  · refine s_aload (pc := 227) 4 dJ1_putVal_227 rfl ?_
    refine s_gR (pc := 229) dJ1_putVal_229 gf_J1_162 (fun r22 => ?_)
    refine s_ast (pc := 232) (L2 := [(0, va_rf a0), (3, va_rf a3), (4, .int a4), (10, va_rf a10)]) [0, 1, 2, 4] dJ1_putVal_232 (by decide) rfl rfl (zcA rfl) ?_
    refine s_iload (pc := 234) 3 dJ1_putVal_234 rfl ?_
    refine s_if_eq (pc := 236) (tgt := 244) dJ1_putVal_236 (by decide) (fun _ => ?_) (fun _ => ?_)
    · exact s_sub (pc := 244) [1, 2, 4, 0] rfl (w_J1_putVal_244 a0 a3 a10 r22 h)
    · refine s_aload (pc := 239) 0 dJ1_putVal_239 rfl ?_
      refine s_ifnonnull (pc := 241) (tgt := 250) dJ1_putVal_241 (by decide) (fun _ => ?_) (fun _ => ?_)
      · exact s_sub (pc := 250) [1, 4, 0] rfl (w_J1_putVal_250 a0 a10 r22 h)
      · exact s_sub (pc := 244) [1, 2, 4, 0] rfl (w_J1_putVal_244 a0 a3 a10 r22 h)
theorem w_J1_putVal_97 (a0 : Option Nat) (a3 : Option Nat) (a4 : Int32) (a5 : Int32) (a7 : Option Nat) (h : zH) : zS D z yJ1_putVal cJ1_putVal 13 (some (.object "java/lang/Object")) [] 4 h 97 [(0, va_rf a0), (3, va_rf a3), (4, .int a4), (5, .int a5), (7, va_rf a7)] [] (f_J1_putVal_97 a0 a3 a4 a5 a7 h) := by
  unfold f_J1_putVal_97
  refine s_aload (pc := 97) 4 dJ1_putVal_97 rfl ?_
  refine s_ast (pc := 99) (L2 := [(0, va_rf a0), (3, va_rf a3), (4, .int a4), (5, .int a5)]) [0, 1, 2, 3] dJ1_putVal_99 (by decide) rfl rfl (zcA rfl) ?_
  refine s_goto (pc := 101) (tgt := 222) dJ1_putVal_101 (by decide) ?_
  exact s_sub (pc := 222) [1, 2, 3, 4, 0] rfl (w_J1_putVal_222 a0 a3 a4 a5 a7 h)
theorem w_J1_putVal_145 (a0 : Option Nat) (a1 : Int32) (a2 : Option Nat) (a3 : Option Nat) (a4 : Int32) (a5 : Int32) (a6 : Option Nat) (a7 : Option Nat) (a10 : Option Nat) (a12 : Int32) (h : zH) : zS D z yJ1_putVal cJ1_putVal 13 (some (.object "java/lang/Object")) [] 4 h 145 [(0, va_rf a0), (1, .int a1), (2, va_rf a2), (3, va_rf a3), (4, .int a4), (5, .int a5), (6, va_rf a6), (7, va_rf a7), (10, va_rf a10), (12, .int a12)] [] (f_J1_putVal_145 a0 a1 a2 a3 a4 a5 a6 a7 a10 a12 h) := by
  unfold f_J1_putVal_145
  refine s_aload (pc := 145) 7 dJ1_putVal_145 rfl ?_
  refine s_aload_n (pc := 147) 0 dJ1_putVal_147 rfl rfl ?_
  refine s_iload_n (pc := 148) 1 dJ1_putVal_148 rfl rfl ?_
  refine s_aload_n (pc := 149) 2 dJ1_putVal_149 rfl rfl ?_
  refine s_aload_n (pc := 150) 3 dJ1_putVal_150 rfl rfl ?_
  refine s_null (pc := 151) dJ1_putVal_151 ?_
  refine zS_ite (fun ht => ?_) (fun _ => ?_)
  · refine s_callV (pc := 152) (np := 4) (as := [.int a1, va_rf a2, va_rf a3, va_rf none]) (rest := [va_rf a7]) dJ1_putVal_152 ht (q := (RJ1, TJ1, 8)) rfl (c_J1_newNode (by decide) a0 a1 a2 a3 none h) rfl rfl q2167 q2168 q2169 rfl (by simp [zcat_rf, zcat_i, zcat_l, zcat_f, zcat_d]) (zkR (fun r33 h34 => ?_)) zxo
    refine s_putR (pc := 155) dJ1_putVal_155 pf_J1_177 (fun h35 => ?_)
    refine s_iload (pc := 158) 9 dJ1_putVal_158 rfl ?_
    refine s_bipush (pc := 160) (v := 7) dJ1_putVal_160 (by decide) ?_
    refine s_icmp_lt (pc := 162) (tgt := 222) dJ1_putVal_162 (by decide) (fun _ => ?_) (fun _ => ?_)
    · exact s_sub (pc := 222) [0, 3, 4, 5, 8] rfl (w_J1_putVal_222 a0 a3 a4 a5 a10 h35)
    · refine s_aload_n (pc := 165) 0 dJ1_putVal_165 rfl rfl ?_
      refine s_aload (pc := 166) 6 dJ1_putVal_166 rfl ?_
      refine s_iload_n (pc := 168) 1 dJ1_putVal_168 rfl rfl ?_
      exact zS_none
  refine zS_ite (fun ht => ?_) (fun _ => zS_none)
  refine s_callVU (pc := 152) (np := 4) (as := [.int a1, va_rf a2, va_rf a3, va_rf none]) (rest := [va_rf a7]) (owner := "java/util/HashMap") dJ1_putVal_152 ht (q := (RJ2, TJ2, 12)) rfl (c_J2_newNode (by decide) a0 a1 a2 a3 none h) ⟨_, _, _, q2173⟩ rfl rfl q2167 q2170 (Or.inl ⟨_, _, _, q2168, q2178⟩) (by decide) q2172 q2171 rfl (by simp [zcat_rf, zcat_i, zcat_l, zcat_f, zcat_d]) (zkR (fun r33 h34 => ?_)) zxo
  refine s_putR (pc := 155) dJ1_putVal_155 pf_J1_177 (fun h37 => ?_)
  refine s_iload (pc := 158) 9 dJ1_putVal_158 rfl ?_
  refine s_bipush (pc := 160) (v := 7) dJ1_putVal_160 (by decide) ?_
  refine s_icmp_lt (pc := 162) (tgt := 222) dJ1_putVal_162 (by decide) (fun _ => ?_) (fun _ => ?_)
  · exact s_sub (pc := 222) [0, 3, 4, 5, 8] rfl (w_J1_putVal_222 a0 a3 a4 a5 a10 h37)
  · refine s_aload_n (pc := 165) 0 dJ1_putVal_165 rfl rfl ?_
    refine s_aload (pc := 166) 6 dJ1_putVal_166 rfl ?_
    refine s_iload_n (pc := 168) 1 dJ1_putVal_168 rfl rfl ?_
    exact zS_none
theorem w_J1_putVal_209 (a0 : Option Nat) (a3 : Option Nat) (a4 : Int32) (a5 : Int32) (a10 : Option Nat) (h : zH) : zS D z yJ1_putVal cJ1_putVal 13 (some (.object "java/lang/Object")) [] 4 h 209 [(0, va_rf a0), (3, va_rf a3), (4, .int a4), (5, .int a5), (10, va_rf a10)] [] (f_J1_putVal_209 a0 a3 a4 a5 a10 h) := by
  unfold f_J1_putVal_209
  refine s_goto (pc := 209) (tgt := 222) dJ1_putVal_209 (by decide) ?_
  exact s_sub (pc := 222) [0, 1, 2, 3, 4] rfl (w_J1_putVal_222 a0 a3 a4 a5 a10 h)
theorem w_J1_putVal_212 (K134 : Option Nat → Int32 → Option Nat → Option Nat → Int32 → Int32 → Option Nat → Option Nat → Int32 → zH → zO) (hK134 : ∀ (a0 : Option Nat) (a1 : Int32) (a2 : Option Nat) (a3 : Option Nat) (a4 : Int32) (a5 : Int32) (a6 : Option Nat) (a7 : Option Nat) (a12 : Int32) (h : zH), zS D z yJ1_putVal cJ1_putVal 13 (some (.object "java/lang/Object")) [] 4 h 134 [(0, va_rf a0), (1, .int a1), (2, va_rf a2), (3, va_rf a3), (4, .int a4), (5, .int a5), (6, va_rf a6), (7, va_rf a7), (12, .int a12)] [] (K134 a0 a1 a2 a3 a4 a5 a6 a7 a12 h)) (a0 : Option Nat) (a1 : Int32) (a2 : Option Nat) (a3 : Option Nat) (a4 : Int32) (a5 : Int32) (a6 : Option Nat) (a10 : Option Nat) (a12 : Int32) (h : zH) : zS D z yJ1_putVal cJ1_putVal 13 (some (.object "java/lang/Object")) [] 4 h 212 [(0, va_rf a0), (1, .int a1), (2, va_rf a2), (3, va_rf a3), (4, .int a4), (5, .int a5), (6, va_rf a6), (10, va_rf a10), (12, .int a12)] [] (f_J1_putVal_212 K134 a0 a1 a2 a3 a4 a5 a6 a10 a12 h) := by
  unfold f_J1_putVal_212
  refine s_aload (pc := 212) 7 dJ1_putVal_212 rfl ?_
  refine s_ast (pc := 214) (L2 := [(0, va_rf a0), (1, .int a1), (2, va_rf a2), (3, va_rf a3), (4, .int a4), (5, .int a5), (6, va_rf a6), (12, .int a12)]) [0, 1, 2, 3, 4, 5, 6, 8] dJ1_putVal_214 (by decide) rfl rfl (zcB (j := 6) rfl (zcat_rf a6) rfl) ?_
  refine s_inc (pc := 216) (v := 1) (L2 := [(7, va_rf a10), (0, va_rf a0), (1, .int a1), (2, va_rf a2), (3, va_rf a3), (4, .int a4), (5, .int a5), (6, va_rf a6)]) 8 [0, 1, 2, 3, 4, 5, 6, 7] dJ1_putVal_216 rfl (by decide) (by decide) rfl rfl (zcA rfl) (fun x39 => ?_)
  refine s_goto (pc := 219) (tgt := 134) dJ1_putVal_219 (by decide) ?_
  exact s_sub (pc := 134) [2, 3, 4, 5, 6, 7, 8, 1, 0] rfl (hK134 a0 a1 a2 a3 a4 a5 a6 a10 x39 h)
theorem w_J1_putVal_134 : ∀ (n : Nat) (a0 : Option Nat) (a1 : Int32) (a2 : Option Nat) (a3 : Option Nat) (a4 : Int32) (a5 : Int32) (a6 : Option Nat) (a7 : Option Nat) (a12 : Int32) (h : zH), zS D z yJ1_putVal cJ1_putVal 13 (some (.object "java/lang/Object")) [] 4 h 134 [(0, va_rf a0), (1, .int a1), (2, va_rf a2), (3, va_rf a3), (4, .int a4), (5, .int a5), (6, va_rf a6), (7, va_rf a7), (12, .int a12)] [] (f_J1_putVal_134 n a0 a1 a2 a3 a4 a5 a6 a7 a12 h) := by
  intro n
  induction n with
  | zero => intros; exact zS_none
  | succ n ih =>
    intro a0 a1 a2 a3 a4 a5 a6 a7 a12 h
    rw [f_J1_putVal_134.eq_2]
    refine s_aload (pc := 134) 7 dJ1_putVal_134 rfl ?_
    refine s_gR (pc := 136) dJ1_putVal_136 gf_J1_177 (fun r28 => ?_)
    refine s_dup (pc := 139) dJ1_putVal_139 (zcat_rf _) ?_
    refine s_ast (pc := 140) (L2 := [(0, va_rf a0), (1, .int a1), (2, va_rf a2), (3, va_rf a3), (4, .int a4), (5, .int a5), (6, va_rf a6), (7, va_rf a7), (12, .int a12)]) [0, 1, 2, 3, 4, 5, 6, 7, 8] dJ1_putVal_140 (by decide) rfl rfl (zcA rfl) ?_
    refine s_ifnonnull (pc := 142) (tgt := 175) dJ1_putVal_142 (by decide) (fun _ => ?_) (fun _ => ?_)
    · refine s_aload (pc := 175) 0 dJ1_putVal_175 rfl ?_
      refine s_gI (pc := 177) dJ1_putVal_177 gf_J1_168 (fun x29 => ?_)
      refine s_iload_n (pc := 180) 2 dJ1_putVal_180 rfl rfl ?_
      refine s_icmp_ne (pc := 181) (tgt := 212) dJ1_putVal_181 (by decide) (fun _ => ?_) (fun _ => ?_)
      · exact s_sub (pc := 212) [1, 2, 3, 4, 5, 6, 7, 0, 9] rfl (w_J1_putVal_212 (f_J1_putVal_134 n) ih a0 a1 a2 a3 a4 a5 a6 r28 a12 h)
      · refine s_aload (pc := 184) 0 dJ1_putVal_184 rfl ?_
        refine s_gR (pc := 186) dJ1_putVal_186 gf_J1_170 (fun r30 => ?_)
        refine s_dup (pc := 189) dJ1_putVal_189 (zcat_rf _) ?_
        refine s_ast (pc := 190) (L2 := [(10, va_rf r28), (0, va_rf a0), (1, .int a1), (2, va_rf a2), (3, va_rf a3), (4, .int a4), (5, .int a5), (6, va_rf a6), (12, .int a12)]) [0, 1, 2, 3, 4, 5, 6, 7, 9] dJ1_putVal_190 (by decide) rfl rfl (zcB (j := 0) rfl (zcat_rf r28) rfl) ?_
        refine s_aload_n (pc := 192) 4 dJ1_putVal_192 rfl rfl ?_
        refine s_acmp_eq (pc := 193) (tgt := 222) dJ1_putVal_193 (by decide) (fun _ => ?_) (fun _ => ?_)
        · exact s_sub (pc := 222) [2, 5, 6, 7, 1] rfl (w_J1_putVal_222 a0 a3 a4 a5 r28 h)
        · refine s_aload_n (pc := 196) 4 dJ1_putVal_196 rfl rfl ?_
          refine s_ifnull (pc := 197) (tgt := 212) dJ1_putVal_197 (by decide) (fun _ => ?_) (fun _ => ?_)
          · exact s_sub (pc := 212) [2, 3, 4, 5, 6, 7, 8, 1, 9] rfl (w_J1_putVal_212 (f_J1_putVal_134 n) ih a0 a1 a2 a3 a4 a5 a6 r28 a12 h)
          · refine s_aload_n (pc := 200) 4 dJ1_putVal_200 rfl rfl ?_
            refine s_aload (pc := 201) 0 dJ1_putVal_201 rfl ?_
            refine zS_ite (fun ht => ?_) (fun _ => ?_)
            · refine s_callVU (pc := 203) (np := 1) (as := [va_rf r30]) (rest := []) (owner := "java/lang/Object") dJ1_putVal_203 ht (q := (RX8, TX8, 1)) rfl (c_X8_equals (by decide) a2 r30 h) ⟨_, _, _, q1657⟩ rfl rfl q1651 q1653 (Or.inl ⟨_, _, _, q1652, q1693⟩) (by decide) q1656 q1655 rfl (by decide) (zkI (fun x31 h32 => ?_)) zxo
              refine s_if_eq (pc := 206) (tgt := 212) dJ1_putVal_206 (by decide) (fun _ => ?_) (fun _ => ?_)
              · exact s_sub (pc := 212) [2, 3, 4, 5, 6, 7, 8, 1, 9] rfl (w_J1_putVal_212 (f_J1_putVal_134 n) ih a0 a1 a2 a3 a4 a5 a6 r28 a12 h32)
              · exact s_sub (pc := 209) [2, 5, 6, 7, 1] rfl (w_J1_putVal_209 a0 a3 a4 a5 r28 h32)
            refine zS_ite (fun ht => ?_) (fun _ => zS_none)
            refine s_callVU (pc := 203) (np := 1) (as := [va_rf r30]) (rest := []) (owner := "java/lang/Object") dJ1_putVal_203 ht (q := (RJ24, TJ24, 1)) rfl (c_J24_equals (by decide) a2 r30 h) ⟨_, _, _, q1676⟩ rfl rfl q1651 q1653 (Or.inl ⟨_, _, _, q1652, q1693⟩) (by decide) q1675 q1674 rfl (by decide) (zkI (fun x31 h32 => ?_)) zxo
            refine s_if_eq (pc := 206) (tgt := 212) dJ1_putVal_206 (by decide) (fun _ => ?_) (fun _ => ?_)
            · exact s_sub (pc := 212) [2, 3, 4, 5, 6, 7, 8, 1, 9] rfl (w_J1_putVal_212 (f_J1_putVal_134 n) ih a0 a1 a2 a3 a4 a5 a6 r28 a12 h32)
            · exact s_sub (pc := 209) [2, 5, 6, 7, 1] rfl (w_J1_putVal_209 a0 a3 a4 a5 r28 h32)
    · exact s_sub (pc := 145) [1, 2, 3, 4, 5, 6, 7, 8, 0, 9] rfl (w_J1_putVal_145 a0 a1 a2 a3 a4 a5 a6 a7 r28 a12 h)
theorem w_J1_putVal_104 (a0 : Option Nat) (a1 : Int32) (a2 : Option Nat) (a3 : Option Nat) (a4 : Int32) (a5 : Int32) (a6 : Option Nat) (a7 : Option Nat) (h : zH) : zS D z yJ1_putVal cJ1_putVal 13 (some (.object "java/lang/Object")) [] 4 h 104 [(0, va_rf a0), (1, .int a1), (2, va_rf a2), (3, va_rf a3), (4, .int a4), (5, .int a5), (6, va_rf a6), (7, va_rf a7)] [] (f_J1_putVal_104 a0 a1 a2 a3 a4 a5 a6 a7 h) := by
  unfold f_J1_putVal_104
  refine s_aload (pc := 104) 7 dJ1_putVal_104 rfl ?_
  refine s_inst (pc := 106) dJ1_putVal_106 q1694 (zt0) (ztc ⟨_, rfl, by decide +kernel⟩ (ztc ⟨_, rfl, by decide +kernel⟩ (zt0))) (fun x25 => ?_)
  refine s_if_eq (pc := 109) (tgt := 131) dJ1_putVal_109 (by decide) (fun _ => ?_) (fun _ => ?_)
  · refine s_iconst (pc := 131) (v := 0) dJ1_putVal_131 (by decide) ?_
    refine s_ist (pc := 132) (L2 := [(0, va_rf a0), (1, .int a1), (2, va_rf a2), (3, va_rf a3), (4, .int a4), (5, .int a5), (6, va_rf a6), (7, va_rf a7)]) [0, 1, 2, 3, 4, 5, 6, 7] dJ1_putVal_132 (by decide) rfl rfl (zcA rfl) ?_
    exact s_sub (pc := 134) [1, 2, 3, 4, 5, 6, 7, 8, 0] rfl (w_J1_putVal_134 zfuel a0 a1 a2 a3 a4 a5 a6 a7 0 h)
  · refine s_aload (pc := 112) 7 dJ1_putVal_112 rfl ?_
    refine s_cast (pc := 114) dJ1_putVal_114 q1694 zcs_java_util_HashMap_TreeNode ?_
    refine s_aload_n (pc := 117) 0 dJ1_putVal_117 rfl rfl ?_
    refine s_aload (pc := 118) 6 dJ1_putVal_118 rfl ?_
    refine s_iload_n (pc := 120) 1 dJ1_putVal_120 rfl rfl ?_
    refine s_aload_n (pc := 121) 2 dJ1_putVal_121 rfl rfl ?_
    refine s_aload_n (pc := 122) 3 dJ1_putVal_122 rfl rfl ?_
    exact zS_none
theorem w_J1_putVal_29 (a0 : Option Nat) (a1 : Int32) (a2 : Option Nat) (a3 : Option Nat) (a4 : Int32) (a5 : Int32) (a6 : Option Nat) (a8 : Int32) (h : zH) : zS D z yJ1_putVal cJ1_putVal 13 (some (.object "java/lang/Object")) [] 4 h 29 [(0, va_rf a0), (1, .int a1), (2, va_rf a2), (3, va_rf a3), (4, .int a4), (5, .int a5), (6, va_rf a6), (8, .int a8)] [] (f_J1_putVal_29 a0 a1 a2 a3 a4 a5 a6 a8 h) := by
  unfold f_J1_putVal_29
  refine s_aload (pc := 29) 6 dJ1_putVal_29 rfl ?_
  refine s_iload (pc := 31) 7 dJ1_putVal_31 rfl ?_
  refine s_iconst (pc := 33) (v := 1) dJ1_putVal_33 (by decide) ?_
  refine s_isub (pc := 34) dJ1_putVal_34 ?_
  refine s_iload_n (pc := 35) 1 dJ1_putVal_35 rfl rfl ?_
  refine s_iand (pc := 36) dJ1_putVal_36 ?_
  refine s_nm (pc := 37) Value.int (fun x3 => ?_)
  refine s_dup (pc := 37) dJ1_putVal_37 rfl ?_
  refine s_ist (pc := 38) (L2 := [(0, va_rf a0), (1, .int a1), (2, va_rf a2), (3, va_rf a3), (4, .int a4), (5, .int a5), (6, va_rf a6)]) [0, 1, 2, 3, 4, 5, 6] dJ1_putVal_38 (by decide) rfl rfl (zcA rfl) ?_
  refine s_aald (pc := 40) dJ1_putVal_40 zrefs_ok (fun r4 => ?_)
  refine s_dup (pc := 41) dJ1_putVal_41 (zcat_rf _) ?_
  refine s_ast (pc := 42) (L2 := [(9, .int x3), (0, va_rf a0), (1, .int a1), (2, va_rf a2), (3, va_rf a3), (4, .int a4), (5, .int a5), (6, va_rf a6)]) [0, 1, 2, 3, 4, 5, 6, 7] dJ1_putVal_42 (by decide) rfl rfl (zcB (j := 7) rfl (zcat_rf a6) rfl) ?_
  refine s_ifnonnull (pc := 44) (tgt := 63) dJ1_putVal_44 (by decide) (fun _ => ?_) (fun _ => ?_)
  · refine s_aload (pc := 63) 0 dJ1_putVal_63 rfl ?_
    refine s_gI (pc := 65) dJ1_putVal_65 gf_J1_168 (fun x5 => ?_)
    refine s_iload_n (pc := 68) 3 dJ1_putVal_68 rfl rfl ?_
    refine s_icmp_ne (pc := 69) (tgt := 104) dJ1_putVal_69 (by decide) (fun _ => ?_) (fun _ => ?_)
    · exact s_sub (pc := 104) [2, 3, 4, 5, 6, 7, 8, 0] rfl (w_J1_putVal_104 a0 a1 a2 a3 a4 a5 a6 r4 h)
    · refine s_aload (pc := 72) 0 dJ1_putVal_72 rfl ?_
      refine s_gR (pc := 74) dJ1_putVal_74 gf_J1_170 (fun r6 => ?_)
      refine s_dup (pc := 77) dJ1_putVal_77 (zcat_rf _) ?_
      refine s_ast (pc := 78) (L2 := [(7, va_rf r4), (0, va_rf a0), (1, .int a1), (2, va_rf a2), (3, va_rf a3), (4, .int a4), (5, .int a5), (6, va_rf a6)]) [0, 2, 3, 4, 5, 6, 7, 8] dJ1_putVal_78 (by decide) rfl rfl (zcA rfl) ?_
      refine s_aload_n (pc := 80) 4 dJ1_putVal_80 rfl rfl ?_
      refine s_acmp_eq (pc := 81) (tgt := 97) dJ1_putVal_81 (by decide) (fun _ => ?_) (fun _ => ?_)
      · exact s_sub (pc := 97) [2, 5, 6, 7, 1] rfl (w_J1_putVal_97 a0 a3 a4 a5 r4 h)
      · refine s_aload_n (pc := 84) 4 dJ1_putVal_84 rfl rfl ?_
        refine s_ifnull (pc := 85) (tgt := 104) dJ1_putVal_85 (by decide) (fun _ => ?_) (fun _ => ?_)
        · exact s_sub (pc := 104) [2, 3, 4, 5, 6, 7, 8, 1] rfl (w_J1_putVal_104 a0 a1 a2 a3 a4 a5 a6 r4 h)
        · refine s_aload_n (pc := 88) 4 dJ1_putVal_88 rfl rfl ?_
          refine s_aload (pc := 89) 0 dJ1_putVal_89 rfl ?_
          refine zS_ite (fun ht => ?_) (fun _ => ?_)
          · refine s_callVU (pc := 91) (np := 1) (as := [va_rf r6]) (rest := []) (owner := "java/lang/Object") dJ1_putVal_91 ht (q := (RX8, TX8, 1)) rfl (c_X8_equals (by decide) a2 r6 h) ⟨_, _, _, q1657⟩ rfl rfl q1651 q1653 (Or.inl ⟨_, _, _, q1652, q1693⟩) (by decide) q1656 q1655 rfl (by decide) (zkI (fun x7 h8 => ?_)) zxo
            refine s_if_eq (pc := 94) (tgt := 104) dJ1_putVal_94 (by decide) (fun _ => ?_) (fun _ => ?_)
            · exact s_sub (pc := 104) [2, 3, 4, 5, 6, 7, 8, 1] rfl (w_J1_putVal_104 a0 a1 a2 a3 a4 a5 a6 r4 h8)
            · exact s_sub (pc := 97) [2, 5, 6, 7, 1] rfl (w_J1_putVal_97 a0 a3 a4 a5 r4 h8)
          refine zS_ite (fun ht => ?_) (fun _ => zS_none)
          refine s_callVU (pc := 91) (np := 1) (as := [va_rf r6]) (rest := []) (owner := "java/lang/Object") dJ1_putVal_91 ht (q := (RJ24, TJ24, 1)) rfl (c_J24_equals (by decide) a2 r6 h) ⟨_, _, _, q1676⟩ rfl rfl q1651 q1653 (Or.inl ⟨_, _, _, q1652, q1693⟩) (by decide) q1675 q1674 rfl (by decide) (zkI (fun x7 h8 => ?_)) zxo
          refine s_if_eq (pc := 94) (tgt := 104) dJ1_putVal_94 (by decide) (fun _ => ?_) (fun _ => ?_)
          · exact s_sub (pc := 104) [2, 3, 4, 5, 6, 7, 8, 1] rfl (w_J1_putVal_104 a0 a1 a2 a3 a4 a5 a6 r4 h8)
          · exact s_sub (pc := 97) [2, 5, 6, 7, 1] rfl (w_J1_putVal_97 a0 a3 a4 a5 r4 h8)
  · refine s_aload (pc := 47) 8 dJ1_putVal_47 rfl ?_
    refine s_iload (pc := 49) 1 dJ1_putVal_49 rfl ?_
    refine s_aload_n (pc := 51) 2 dJ1_putVal_51 rfl rfl ?_
    refine s_iload_n (pc := 52) 3 dJ1_putVal_52 rfl rfl ?_
    refine s_aload_n (pc := 53) 4 dJ1_putVal_53 rfl rfl ?_
    refine s_aload_n (pc := 54) 5 dJ1_putVal_54 rfl rfl ?_
    refine s_null (pc := 55) dJ1_putVal_55 ?_
    refine zS_ite (fun ht => ?_) (fun _ => ?_)
    · refine s_callV (pc := 56) (np := 4) (as := [.int a1, va_rf a2, va_rf a3, va_rf none]) (rest := [.int x3, va_rf a6]) dJ1_putVal_56 ht (q := (RJ1, TJ1, 8)) rfl (c_J1_newNode (by decide) a0 a1 a2 a3 none h) rfl rfl q2167 q2168 q2169 rfl (by simp [zcat_rf, zcat_i, zcat_l, zcat_f, zcat_d]) (zkR (fun r9 h10 => ?_)) zxo
      refine s_aast (pc := 59) dJ1_putVal_59 (ztc ⟨rfl, by decide⟩ zt0) zcs_java_util_HashMap_Node (fun h11 => ?_)
      refine s_goto (pc := 60) (tgt := 259) dJ1_putVal_60 (by decide) ?_
      exact s_sub (pc := 259) [2, 7] rfl (w_J1_putVal_259 a0 a5 h11)
    refine zS_ite (fun ht => ?_) (fun _ => zS_none)
    refine s_callVU (pc := 56) (np := 4) (as := [.int a1, va_rf a2, va_rf a3, va_rf none]) (rest := [.int x3, va_rf a6]) (owner := "java/util/HashMap") dJ1_putVal_56 ht (q := (RJ2, TJ2, 12)) rfl (c_J2_newNode (by decide) a0 a1 a2 a3 none h) ⟨_, _, _, q2173⟩ rfl rfl q2167 q2170 (Or.inl ⟨_, _, _, q2168, q2178⟩) (by decide) q2172 q2171 rfl (by simp [zcat_rf, zcat_i, zcat_l, zcat_f, zcat_d]) (zkR (fun r9 h10 => ?_)) zxo
    refine s_aast (pc := 59) dJ1_putVal_59 (ztc ⟨rfl, by decide⟩ zt0) zcs_java_util_HashMap_Node (fun h12 => ?_)
    refine s_goto (pc := 60) (tgt := 259) dJ1_putVal_60 (by decide) ?_
    exact s_sub (pc := 259) [2, 7] rfl (w_J1_putVal_259 a0 a5 h12)
theorem w_J1_putVal_19 (a0 : Option Nat) (a1 : Int32) (a2 : Option Nat) (a3 : Option Nat) (a4 : Int32) (a5 : Int32) (h : zH) : zS D z yJ1_putVal cJ1_putVal 13 (some (.object "java/lang/Object")) [] 4 h 19 [(0, va_rf a0), (1, .int a1), (2, va_rf a2), (3, va_rf a3), (4, .int a4), (5, .int a5)] [] (f_J1_putVal_19 a0 a1 a2 a3 a4 a5 h) := by
  unfold f_J1_putVal_19
  refine s_aload_n (pc := 19) 0 dJ1_putVal_19 rfl rfl ?_
  refine zS_ite (fun ht => ?_) (fun _ => ?_)
  · refine s_callV (pc := 20) (np := 0) (as := []) (rest := []) dJ1_putVal_20 ht (q := (RJ1, TJ1, 8)) rfl (c_J1_resize (by decide) a0 h) rfl rfl q2058 q2059 q2060 rfl (by decide) (zkR (fun r40 h41 => ?_)) zxo
    refine s_dup (pc := 23) dJ1_putVal_23 (zcat_rf _) ?_
    refine s_ast (pc := 24) (L2 := [(0, va_rf a0), (1, .int a1), (2, va_rf a2), (3, va_rf a3), (4, .int a4), (5, .int a5)]) [0, 1, 2, 3, 4, 5] dJ1_putVal_24 (by decide) rfl rfl (zcB (j := 5) rfl rfl rfl) ?_
    refine s_alen (pc := 26) dJ1_putVal_26 zarrs_ok (fun x42 => ?_)
    refine s_ist (pc := 27) (L2 := [(6, va_rf r40), (0, va_rf a0), (1, .int a1), (2, va_rf a2), (3, va_rf a3), (4, .int a4), (5, .int a5)]) [0, 1, 2, 3, 4, 5, 6] dJ1_putVal_27 (by decide) rfl rfl (zcA rfl) ?_
    exact s_sub (pc := 29) [2, 3, 4, 5, 6, 7, 1, 0] rfl (w_J1_putVal_29 a0 a1 a2 a3 a4 a5 r40 x42 h41)
  refine zS_ite (fun ht => ?_) (fun _ => zS_none)
  refine s_callVU (pc := 20) (np := 0) (as := []) (rest := []) (owner := "java/util/HashMap") dJ1_putVal_20 ht (q := (RJ2, TJ2, 12)) rfl (c_J1_resize (by decide) a0 h) ⟨_, _, _, q2063⟩ rfl rfl q2058 q2061 (Or.inl ⟨_, _, _, q2059, q2063⟩) (by decide) q2059 q2062 rfl (by decide) (zkR (fun r40 h41 => ?_)) zxo
  refine s_dup (pc := 23) dJ1_putVal_23 (zcat_rf _) ?_
  refine s_ast (pc := 24) (L2 := [(0, va_rf a0), (1, .int a1), (2, va_rf a2), (3, va_rf a3), (4, .int a4), (5, .int a5)]) [0, 1, 2, 3, 4, 5] dJ1_putVal_24 (by decide) rfl rfl (zcB (j := 5) rfl rfl rfl) ?_
  refine s_alen (pc := 26) dJ1_putVal_26 zarrs_ok (fun x43 => ?_)
  refine s_ist (pc := 27) (L2 := [(6, va_rf r40), (0, va_rf a0), (1, .int a1), (2, va_rf a2), (3, va_rf a3), (4, .int a4), (5, .int a5)]) [0, 1, 2, 3, 4, 5, 6] dJ1_putVal_27 (by decide) rfl rfl (zcA rfl) ?_
  exact s_sub (pc := 29) [2, 3, 4, 5, 6, 7, 1, 0] rfl (w_J1_putVal_29 a0 a1 a2 a3 a4 a5 r40 x43 h41)
theorem w_J1_putVal (v0 : Option Nat) (v1 : Int32) (v2 : Option Nat) (v3 : Option Nat) (v4 : Int32) (v5 : Int32) (h : zH) : zS D z yJ1_putVal cJ1_putVal 13 (some (.object "java/lang/Object")) [] 4 h 0 [(0, va_rf v0), (1, .int v1), (2, va_rf v2), (3, va_rf v3), (4, .int v4), (5, .int v5)] [] (f_J1_putVal v0 v1 v2 v3 v4 v5 h) := by
  unfold f_J1_putVal
  refine s_aload_n (pc := 0) 0 dJ1_putVal_0 rfl rfl ?_
  refine s_gR (pc := 1) dJ1_putVal_1 gf_J1_105 (fun r1 => ?_)
  refine s_dup (pc := 4) dJ1_putVal_4 (zcat_rf _) ?_
  refine s_ast (pc := 5) (L2 := [(0, va_rf v0), (1, .int v1), (2, va_rf v2), (3, va_rf v3), (4, .int v4), (5, .int v5)]) [0, 1, 2, 3, 4, 5] dJ1_putVal_5 (by decide) rfl rfl (zcB (j := 5) rfl rfl rfl) ?_
  refine s_ifnull (pc := 7) (tgt := 19) dJ1_putVal_7 (by decide) (fun _ => ?_) (fun _ => ?_)
  · exact s_sub (pc := 19) [1, 2, 3, 4, 5, 6] rfl (w_J1_putVal_19 v0 v1 v2 v3 v4 v5 h)
  · refine s_aload (pc := 10) 0 dJ1_putVal_10 rfl ?_
    refine s_alen (pc := 12) dJ1_putVal_12 zarrs_ok (fun x2 => ?_)
    refine s_dup (pc := 13) dJ1_putVal_13 rfl ?_
    refine s_ist (pc := 14) (L2 := [(6, va_rf r1), (0, va_rf v0), (1, .int v1), (2, va_rf v2), (3, va_rf v3), (4, .int v4), (5, .int v5)]) [0, 1, 2, 3, 4, 5, 6] dJ1_putVal_14 (by decide) rfl rfl (zcA rfl) ?_
    refine s_if_ne (pc := 16) (tgt := 29) dJ1_putVal_16 (by decide) (fun _ => ?_) (fun _ => ?_)
    · exact s_sub (pc := 29) [2, 3, 4, 5, 6, 7, 1, 0] rfl (w_J1_putVal_29 v0 v1 v2 v3 v4 v5 r1 x2 h)
    · exact s_sub (pc := 19) [2, 3, 4, 5, 6, 7] rfl (w_J1_putVal_19 v0 v1 v2 v3 v4 v5 h)
theorem c_J1_putVal {d0 : Nat} (hd0 : 4 < d0) (v0 : Option Nat) (v1 : Int32) (v2 : Option Nat) (v3 : Option Nat) (v4 : Int32) (v5 : Int32) (h : zH) : zCal D z d0 h yJ1_putVal [va_rf v0, .int v1, va_rf v2, va_rf v3, .int v4, .int v5] (f_J1_putVal v0 v1 v2 v3 v4 v5 h) :=
  ⟨cJ1_putVal, 13, (some (.object "java/lang/Object")), [], 4, (show lv_args 0 [va_rf v0, .int v1, va_rf v2, va_rf v3, .int v4, .int v5] = [(0, va_rf v0), (1, .int v1), (2, va_rf v2), (3, va_rf v3), (4, .int v4), (5, .int v5)] by simp [lv_args, zcat_rf, zcat_i, zcat_l, zcat_f, zcat_d]) ▸ w_J1_putVal v0 v1 v2 v3 v4 v5 h, (plainFor_of_name (by decide)), by simp [lg_sl, zcat_rf, zcat_i, zcat_l, zcat_f, zcat_d], q2057, q98, hd0, by decide, by decide⟩
theorem w_J1_put (v0 : Option Nat) (v1 : Option Nat) (v2 : Option Nat) (h : zH) : zS D z yJ1_put cJ1_put 3 (some (.object "java/lang/Object")) [] 5 h 0 [(0, va_rf v0), (1, va_rf v1), (2, va_rf v2)] [] (f_J1_put v0 v1 v2 h) := by
  unfold f_J1_put
  refine s_aload_n (pc := 0) 0 dJ1_put_0 rfl rfl ?_
  refine s_aload_n (pc := 1) 1 dJ1_put_1 rfl rfl ?_
  refine s_callSS (pc := 2) (np := 1) (as := [va_rf v1]) (rest := [va_rf v0]) dJ1_put_2 (c_J1_hash (by decide) v1 h) rfl rfl q1552 q1553 rfl (by simp [zcat_rf, zcat_i, zcat_l, zcat_f, zcat_d]) (zkI (fun x1 h2 => ?_)) zxo
  refine s_aload_n (pc := 5) 1 dJ1_put_5 rfl rfl ?_
  refine s_aload_n (pc := 6) 2 dJ1_put_6 rfl rfl ?_
  refine s_iconst (pc := 7) (v := 0) dJ1_put_7 (by decide) ?_
  refine s_iconst (pc := 8) (v := 1) dJ1_put_8 (by decide) ?_
  refine zS_ite (fun ht => ?_) (fun _ => ?_)
  · refine s_callV (pc := 9) (np := 5) (as := [.int x1, va_rf v1, va_rf v2, .int 0, .int 1]) (rest := []) dJ1_put_9 ht (q := (RJ1, TJ1, 8)) rfl (c_J1_putVal (by decide) v0 x1 v1 v2 0 1 h2) rfl rfl q2052 q2053 q2054 rfl (by decide) (zkR (fun r3 h4 => ?_)) zxo
    exact s_aret (pc := 12) dJ1_put_12 rfl (Or.inl ⟨_, rfl⟩)
  refine zS_ite (fun ht => ?_) (fun _ => zS_none)
  refine s_callVU (pc := 9) (np := 5) (as := [.int x1, va_rf v1, va_rf v2, .int 0, .int 1]) (rest := []) (owner := "java/util/HashMap") dJ1_put_9 ht (q := (RJ2, TJ2, 12)) rfl (c_J1_putVal (by decide) v0 x1 v1 v2 0 1 h2) ⟨_, _, _, q2057⟩ rfl rfl q2052 q2055 (Or.inl ⟨_, _, _, q2053, q2057⟩) (by decide) q2053 q2056 rfl (by decide) (zkR (fun r3 h4 => ?_)) zxo
  exact s_aret (pc := 12) dJ1_put_12 rfl (Or.inl ⟨_, rfl⟩)
theorem c_J1_put {d0 : Nat} (hd0 : 5 < d0) (v0 : Option Nat) (v1 : Option Nat) (v2 : Option Nat) (h : zH) : zCal D z d0 h yJ1_put [va_rf v0, va_rf v1, va_rf v2] (f_J1_put v0 v1 v2 h) :=
  ⟨cJ1_put, 3, (some (.object "java/lang/Object")), [], 5, (show lv_args 0 [va_rf v0, va_rf v1, va_rf v2] = [(0, va_rf v0), (1, va_rf v1), (2, va_rf v2)] by simp [lv_args, zcat_rf, zcat_i, zcat_l, zcat_f, zcat_d]) ▸ w_J1_put v0 v1 v2 h, (plainFor_of_name (by decide)), by simp [lg_sl, zcat_rf, zcat_i, zcat_l, zcat_f, zcat_d], q2051, q98, hd0, by decide, by decide⟩
theorem w_J18_init (v0 : Option Nat) (v1 : Option Nat) (h : zH) : zS D z yJ18_init cJ18_init 2 none [] 3 h 0 [(0, va_rf v0), (1, va_rf v1)] [] (f_J18_init v0 v1 h) := by
  unfold f_J18_init
  refine s_aload_n (pc := 0) 0 dJ18_init_0 rfl rfl ?_
  refine s_aload_n (pc := 1) 1 dJ18_init_1 rfl rfl ?_
  refine s_putR (pc := 2) dJ18_init_2 pf_J18_1 (fun h1 => ?_)
  refine s_aload_n (pc := 5) 0 dJ18_init_5 rfl rfl ?_
  refine zS_ite (fun hr => ?_) (fun _ => zS_none)
  refine s_callC (pc := 6) (np := 0) (as := []) (rest := []) dJ18_init_6 hr (c_J4_init (by decide) v0 h1) ⟨_, _, q246⟩ rfl rfl rfl q564 q245 rfl (by decide) (zkV (fun h2 => ?_)) zxo
  exact s_vret (pc := 9) dJ18_init_9 rfl
theorem c_J18_init {d0 : Nat} (hd0 : 3 < d0) (v0 : Option Nat) (v1 : Option Nat) (h : zH) : zCal D z d0 h yJ18_init [va_rf v0, va_rf v1] (f_J18_init v0 v1 h) :=
  ⟨cJ18_init, 2, none, [], 3, (show lv_args 0 [va_rf v0, va_rf v1] = [(0, va_rf v0), (1, va_rf v1)] by simp [lv_args, zcat_rf, zcat_i, zcat_l, zcat_f, zcat_d]) ▸ w_J18_init v0 v1 h, (plainFor_of_name (by decide)), by simp [lg_sl, zcat_rf, zcat_i, zcat_l, zcat_f, zcat_d], q563, q115, hd0, by decide, by decide⟩
theorem w_J1_keySet (v0 : Option Nat) (h : zH) : zS D z yJ1_keySet cJ1_keySet 2 (some (.object "java/util/Set")) [] 4 h 0 [(0, va_rf v0)] [] (f_J1_keySet v0 h) := by
  unfold f_J1_keySet
  refine s_aload_n (pc := 0) 0 dJ1_keySet_0 rfl rfl ?_
  refine s_gR (pc := 1) dJ1_keySet_1 gf_J1_239 (fun r1 => ?_)
  refine s_ast_n (pc := 4) (L2 := [(0, va_rf v0)]) [0] dJ1_keySet_4 rfl (by decide) rfl rfl (zcB (j := 0) rfl (zcat_rf v0) rfl) ?_
  refine s_aload_n (pc := 5) 0 dJ1_keySet_5 rfl rfl ?_
  refine s_ifnonnull (pc := 6) (tgt := 23) dJ1_keySet_6 (by decide) (fun _ => ?_) (fun _ => ?_)
  · refine s_aload_n (pc := 23) 0 dJ1_keySet_23 rfl rfl ?_
    exact s_aret (pc := 24) dJ1_keySet_24 rfl (Or.inl ⟨_, rfl⟩)
  · refine s_new (pc := 9) dJ1_keySet_9 nf_J1_243 (fun r2 h3 => ?_)
    refine s_dup (pc := 12) dJ1_keySet_12 (zcat_rf _) ?_
    refine s_aload_n (pc := 13) 1 dJ1_keySet_13 rfl rfl ?_
    refine zS_ite (fun hr => ?_) (fun _ => zS_none)
    refine s_callC (pc := 14) (np := 1) (as := [va_rf v0]) (rest := [va_rf r2]) dJ1_keySet_14 hr (c_J18_init (by decide) r2 v0 h3) ⟨_, _, q563⟩ rfl rfl rfl q561 q562 rfl (by simp [zcat_rf, zcat_i, zcat_l, zcat_f, zcat_d]) (zkV (fun h4 => ?_)) zxo
    refine s_ast_n (pc := 17) (L2 := [(0, va_rf v0)]) [1] dJ1_keySet_17 rfl (by decide) rfl rfl (zcB (j := 0) rfl (zcat_rf v0) rfl) ?_
    refine s_aload_n (pc := 18) 1 dJ1_keySet_18 rfl rfl ?_
    refine s_aload_n (pc := 19) 0 dJ1_keySet_19 rfl rfl ?_
    refine s_putR (pc := 20) dJ1_keySet_20 pf_J1_239 (fun h5 => ?_)
    refine s_aload_n (pc := 23) 0 dJ1_keySet_23 rfl rfl ?_
    exact s_aret (pc := 24) dJ1_keySet_24 rfl (Or.inl ⟨_, rfl⟩)
theorem c_J1_keySet {d0 : Nat} (hd0 : 4 < d0) (v0 : Option Nat) (h : zH) : zCal D z d0 h yJ1_keySet [va_rf v0] (f_J1_keySet v0 h) :=
  ⟨cJ1_keySet, 2, (some (.object "java/util/Set")), [], 4, (show lv_args 0 [va_rf v0] = [(0, va_rf v0)] by simp [lv_args, zcat_rf, zcat_i, zcat_l, zcat_f, zcat_d]) ▸ w_J1_keySet v0 h, (plainFor_of_name (by decide)), by simp [lg_sl, zcat_rf, zcat_i, zcat_l, zcat_f, zcat_d], q558, q98, hd0, by decide, by decide⟩
theorem w_J19_init (v0 : Option Nat) (v1 : Option Nat) (v2 : Int32) (h : zH) : zS D z yJ19_init cJ19_init 3 none [] 3 h 0 [(0, va_rf v0), (1, va_rf v1), (2, .int v2)] [] (f_J19_init v0 v1 v2 h) := by
  unfold f_J19_init
  refine s_aload_n (pc := 0) 0 dJ19_init_0 rfl rfl ?_
  refine s_aload_n (pc := 1) 1 dJ19_init_1 rfl rfl ?_
  refine s_putR (pc := 2) dJ19_init_2 pf_J19_1 (fun h1 => ?_)
  refine s_aload_n (pc := 5) 0 dJ19_init_5 rfl rfl ?_
  refine zS_ite (fun hr => ?_) (fun _ => zS_none)
  refine s_callC (pc := 6) (np := 0) (as := []) (rest := []) dJ19_init_6 hr (c_J4_init (by decide) v0 h1) ⟨_, _, q246⟩ rfl rfl rfl q549 q245 rfl (by decide) (zkV (fun h2 => ?_)) zxo
  refine s_aload_n (pc := 9) 0 dJ19_init_9 rfl rfl ?_
  refine s_iload_n (pc := 10) 2 dJ19_init_10 rfl rfl ?_
  refine s_putN (pc := 11) dJ19_init_11 pf_J19_13 (fun h3 => ?_)
  exact s_vret (pc := 14) dJ19_init_14 rfl
theorem c_J19_init {d0 : Nat} (hd0 : 3 < d0) (v0 : Option Nat) (v1 : Option Nat) (v2 : Int32) (h : zH) : zCal D z d0 h yJ19_init [va_rf v0, va_rf v1, .int v2] (f_J19_init v0 v1 v2 h) :=
  ⟨cJ19_init, 3, none, [], 3, (show lv_args 0 [va_rf v0, va_rf v1, .int v2] = [(0, va_rf v0), (1, va_rf v1), (2, .int v2)] by simp [lv_args, zcat_rf, zcat_i, zcat_l, zcat_f, zcat_d]) ▸ w_J19_init v0 v1 v2 h, (plainFor_of_name (by decide)), by simp [lg_sl, zcat_rf, zcat_i, zcat_l, zcat_f, zcat_d], q548, q116, hd0, by decide, by decide⟩
theorem w_J2_sequencedKeySet (v0 : Option Nat) (h : zH) : zS D z yJ2_sequencedKeySet cJ2_sequencedKeySet 3 (some (.object "java/util/SequencedSet")) [] 4 h 0 [(0, va_rf v0)] [] (f_J2_sequencedKeySet v0 h) := by
  unfold f_J2_sequencedKeySet
  refine s_aload_n (pc := 0) 0 dJ2_sequencedKeySet_0 rfl rfl ?_
  refine s_gR (pc := 1) dJ2_sequencedKeySet_1 gf_J2_117 (fun r1 => ?_)
  refine s_ast_n (pc := 4) (L2 := [(0, va_rf v0)]) [0] dJ2_sequencedKeySet_4 rfl (by decide) rfl rfl (zcB (j := 0) rfl (zcat_rf v0) rfl) ?_
  refine s_aload_n (pc := 5) 0 dJ2_sequencedKeySet_5 rfl rfl ?_
  refine s_ifnonnull (pc := 6) (tgt := 26) dJ2_sequencedKeySet_6 (by decide) (fun _ => ?_) (fun _ => ?_)
  · refine s_aload_n (pc := 26) 0 dJ2_sequencedKeySet_26 rfl rfl ?_
    refine s_cast (pc := 27) dJ2_sequencedKeySet_27 q557 zcs_java_util_SequencedSet ?_
    exact s_aret (pc := 30) dJ2_sequencedKeySet_30 rfl (Or.inl ⟨_, rfl⟩)
  · refine s_new (pc := 9) dJ2_sequencedKeySet_9 nf_J2_121 (fun r2 h3 => ?_)
    refine s_dup (pc := 12) dJ2_sequencedKeySet_12 (zcat_rf _) ?_
    refine s_aload_n (pc := 13) 1 dJ2_sequencedKeySet_13 rfl rfl ?_
    refine s_iconst (pc := 14) (v := 0) dJ2_sequencedKeySet_14 (by decide) ?_
    refine zS_ite (fun hr => ?_) (fun _ => zS_none)
    refine s_callC (pc := 15) (np := 2) (as := [va_rf v0, .int 0]) (rest := [va_rf r2]) dJ2_sequencedKeySet_15 hr (c_J19_init (by decide) r2 v0 0 h3) ⟨_, _, q548⟩ rfl rfl rfl q546 q547 rfl (by simp [zcat_rf, zcat_i, zcat_l, zcat_f, zcat_d]) (zkV (fun h4 => ?_)) zxo
    refine s_ast_n (pc := 18) (L2 := [(0, va_rf v0)]) [1] dJ2_sequencedKeySet_18 rfl (by decide) rfl rfl (zcA rfl) ?_
    refine s_aload_n (pc := 19) 1 dJ2_sequencedKeySet_19 rfl rfl ?_
    refine s_aload_n (pc := 20) 0 dJ2_sequencedKeySet_20 rfl rfl ?_
    refine s_putR (pc := 21) dJ2_sequencedKeySet_21 pf_J2_117 (fun h5 => ?_)
    refine s_aload_n (pc := 24) 0 dJ2_sequencedKeySet_24 rfl rfl ?_
    exact s_aret (pc := 25) dJ2_sequencedKeySet_25 rfl (Or.inl ⟨_, rfl⟩)
theorem c_J2_sequencedKeySet {d0 : Nat} (hd0 : 4 < d0) (v0 : Option Nat) (h : zH) : zCal D z d0 h yJ2_sequencedKeySet [va_rf v0] (f_J2_sequencedKeySet v0 h) :=
  ⟨cJ2_sequencedKeySet, 3, (some (.object "java/util/SequencedSet")), [], 4, (show lv_args 0 [va_rf v0] = [(0, va_rf v0)] by simp [lv_args, zcat_rf, zcat_i, zcat_l, zcat_f, zcat_d]) ▸ w_J2_sequencedKeySet v0 h, (plainFor_of_name (by decide)), by simp [lg_sl, zcat_rf, zcat_i, zcat_l, zcat_f, zcat_d], q543, q99, hd0, by decide, by decide⟩
theorem w_J2_keySet (v0 : Option Nat) (h : zH) : zS D z yJ2_keySet cJ2_keySet 1 (some (.object "java/util/Set")) [] 5 h 0 [(0, va_rf v0)] [] (f_J2_keySet v0 h) := by
  unfold f_J2_keySet
  refine s_aload_n (pc := 0) 0 dJ2_keySet_0 rfl rfl ?_
  refine zS_ite (fun ht => ?_) (fun _ => zS_none)
  refine s_callV (pc := 1) (np := 0) (as := []) (rest := []) dJ2_keySet_1 ht (q := (RJ2, TJ2, 12)) rfl (c_J2_sequencedKeySet (by decide) v0 h) rfl rfl q540 q541 q542 rfl (by decide) (zkR (fun r1 h2 => ?_)) zxo
  exact s_aret (pc := 4) dJ2_keySet_4 rfl (Or.inl ⟨_, rfl⟩)
theorem c_J2_keySet {d0 : Nat} (hd0 : 5 < d0) (v0 : Option Nat) (h : zH) : zCal D z d0 h yJ2_keySet [va_rf v0] (f_J2_keySet v0 h) :=
  ⟨cJ2_keySet, 1, (some (.object "java/util/Set")), [], 5, (show lv_args 0 [va_rf v0] = [(0, va_rf v0)] by simp [lv_args, zcat_rf, zcat_i, zcat_l, zcat_f, zcat_d]) ▸ w_J2_keySet v0 h, (plainFor_of_name (by decide)), by simp [lg_sl, zcat_rf, zcat_i, zcat_l, zcat_f, zcat_d], q539, q99, hd0, by decide, by decide⟩
theorem w_J16_init_48 : ∀ (n : Nat) (a0 : Option Nat) (a2 : Option Nat) (h : zH), zS D z yJ16_init cJ16_init 3 none [] 1 h 48 [(0, va_rf a0), (2, va_rf a2)] [] (f_J16_init_48 n a0 a2 h) := by
  intro n
  induction n with
  | zero => intros; exact zS_none
  | succ n ih =>
    intro a0 a2 h
    rw [f_J16_init_48.eq_2]
    refine s_aload_n (pc := 48) 0 dJ16_init_48 rfl rfl ?_
    refine s_gI (pc := 49) dJ16_init_49 gf_J16_33 (fun x9 => ?_)
    refine s_aload_n (pc := 52) 1 dJ16_init_52 rfl rfl ?_
    refine s_alen (pc := 53) dJ16_init_53 zarrs_ok (fun x10 => ?_)
    refine s_icmp_ge (pc := 54) (tgt := 78) dJ16_init_54 (by decide) (fun _ => ?_) (fun _ => ?_)
    · exact s_vret (pc := 78) dJ16_init_78 rfl
    · refine s_aload_n (pc := 57) 0 dJ16_init_57 rfl rfl ?_
      refine s_aload_n (pc := 58) 1 dJ16_init_58 rfl rfl ?_
      refine s_aload_n (pc := 59) 0 dJ16_init_59 rfl rfl ?_
      refine s_dup (pc := 60) dJ16_init_60 (zcat_rf _) ?_
      refine s_gI (pc := 61) dJ16_init_61 gf_J16_33 (fun x11 => ?_)
      refine s_dup_x1 (pc := 64) dJ16_init_64 rfl (zcat_rf _) ?_
      refine s_iconst (pc := 65) (v := 1) dJ16_init_65 (by decide) ?_
      refine s_iadd (pc := 66) dJ16_init_66 ?_
      refine s_putI (pc := 67) dJ16_init_67 pf_J16_33 (fun h12 => ?_)
      refine s_aald (pc := 70) dJ16_init_70 zrefs_ok (fun r13 => ?_)
      refine s_dup_x1 (pc := 71) dJ16_init_71 (zcat_rf _) (zcat_rf _) ?_
      refine s_putR (pc := 72) dJ16_init_72 pf_J16_26 (fun h14 => ?_)
      refine s_ifnull (pc := 75) (tgt := 48) dJ16_init_75 (by decide) (fun _ => ?_) (fun _ => ?_)
      · exact s_sub (pc := 48) [0, 1] rfl (ih a0 a2 h14)
      · exact s_vret (pc := 78) dJ16_init_78 rfl
theorem w_J16_init (v0 : Option Nat) (v1 : Option Nat) (h : zH) : zS D z yJ16_init cJ16_init 3 none [] 1 h 0 [(0, va_rf v0), (1, va_rf v1)] [] (f_J16_init v0 v1 h) := by
  unfold f_J16_init
  refine s_aload_n (pc := 0) 0 dJ16_init_0 rfl rfl ?_
  refine s_aload_n (pc := 1) 1 dJ16_init_1 rfl rfl ?_
  refine s_putR (pc := 2) dJ16_init_2 pf_J16_1 (fun h1 => ?_)
  refine s_aload_n (pc := 5) 0 dJ16_init_5 rfl rfl ?_
  refine zS_ite (fun hr => ?_) (fun _ => zS_none)
  refine s_objinit (pc := 6) dJ16_init_6 hr q510 q164 q165 (by decide) (by decide) ?_
  refine s_aload_n (pc := 9) 0 dJ16_init_9 rfl rfl ?_
  refine s_aload_n (pc := 10) 1 dJ16_init_10 rfl rfl ?_
  refine s_gI (pc := 11) dJ16_init_11 gf_J16_13 (fun x2 => ?_)
  refine s_putI (pc := 14) dJ16_init_14 pf_J16_19 (fun h3 => ?_)
  refine s_aload_n (pc := 17) 1 dJ16_init_17 rfl rfl ?_
  refine s_gR (pc := 18) dJ16_init_18 gf_J16_22 (fun r4 => ?_)
  refine s_ast_n (pc := 21) (L2 := [(0, va_rf v0), (1, va_rf v1)]) [0, 1] dJ16_init_21 rfl (by decide) rfl rfl (zcB (j := 1) rfl (zcat_rf v1) rfl) ?_
  refine s_aload_n (pc := 22) 1 dJ16_init_22 rfl rfl ?_
  refine s_aload_n (pc := 23) 1 dJ16_init_23 rfl rfl ?_
  refine s_null (pc := 24) dJ16_init_24 ?_
  refine s_dup_x1 (pc := 25) dJ16_init_25 (zcat_rf _) (zcat_rf _) ?_
  refine s_putR (pc := 26) dJ16_init_26 pf_J16_26 (fun h5 => ?_)
  refine s_putR (pc := 29) dJ16_init_29 pf_J16_30 (fun h6 => ?_)
  refine s_aload_n (pc := 32) 1 dJ16_init_32 rfl rfl ?_
  refine s_iconst (pc := 33) (v := 0) dJ16_init_33 (by decide) ?_
  refine s_putI (pc := 34) dJ16_init_34 pf_J16_33 (fun h7 => ?_)
  refine s_aload_n (pc := 37) 0 dJ16_init_37 rfl rfl ?_
  refine s_ifnull (pc := 38) (tgt := 78) dJ16_init_38 (by decide) (fun _ => ?_) (fun _ => ?_)
  · exact s_vret (pc := 78) dJ16_init_78 rfl
  · refine s_aload_n (pc := 41) 2 dJ16_init_41 rfl rfl ?_
    refine s_gI (pc := 42) dJ16_init_42 gf_J16_36 (fun x8 => ?_)
    refine s_if_le (pc := 45) (tgt := 78) dJ16_init_45 (by decide) (fun _ => ?_) (fun _ => ?_)
    · exact s_vret (pc := 78) dJ16_init_78 rfl
    · exact s_sub (pc := 48) [1, 0] rfl (w_J16_init_48 zfuel v0 r4 h7)
theorem c_J16_init {d0 : Nat} (hd0 : 1 < d0) (v0 : Option Nat) (v1 : Option Nat) (h : zH) : zCal D z d0 h yJ16_init [va_rf v0, va_rf v1] (f_J16_init v0 v1 h) :=
  ⟨cJ16_init, 3, none, [], 1, (show lv_args 0 [va_rf v0, va_rf v1] = [(0, va_rf v0), (1, va_rf v1)] by simp [lv_args, zcat_rf, zcat_i, zcat_l, zcat_f, zcat_d]) ▸ w_J16_init v0 v1 h, (plainFor_of_name (by decide)), by simp [lg_sl, zcat_rf, zcat_i, zcat_l, zcat_f, zcat_d], q509, q113, hd0, by decide, by decide⟩
theorem w_J17_init (v0 : Option Nat) (v1 : Option Nat) (h : zH) : zS D z yJ17_init cJ17_init 2 none [] 2 h 0 [(0, va_rf v0), (1, va_rf v1)] [] (f_J17_init v0 v1 h) := by
  unfold f_J17_init
  refine s_aload_n (pc := 0) 0 dJ17_init_0 rfl rfl ?_
  refine s_aload_n (pc := 1) 1 dJ17_init_1 rfl rfl ?_
  refine zS_ite (fun hr => ?_) (fun _ => zS_none)
  refine s_callC (pc := 2) (np := 1) (as := [va_rf v1]) (rest := []) dJ17_init_2 hr (c_J16_init (by decide) v0 v1 h) ⟨_, _, q509⟩ rfl rfl rfl q507 q508 rfl (by decide) (zkV (fun h1 => ?_)) zxo
  exact s_vret (pc := 5) dJ17_init_5 rfl
theorem c_J17_init {d0 : Nat} (hd0 : 2 < d0) (v0 : Option Nat) (v1 : Option Nat) (h : zH) : zCal D z d0 h yJ17_init [va_rf v0, va_rf v1] (f_J17_init v0 v1 h) :=
  ⟨cJ17_init, 2, none, [], 2, (show lv_args 0 [va_rf v0, va_rf v1] = [(0, va_rf v0), (1, va_rf v1)] by simp [lv_args, zcat_rf, zcat_i, zcat_l, zcat_f, zcat_d]) ▸ w_J17_init v0 v1 h, (plainFor_of_name (by decide)), by simp [lg_sl, zcat_rf, zcat_i, zcat_l, zcat_f, zcat_d], q506, q114, hd0, by decide, by decide⟩
theorem w_J18_iterator (v0 : Option Nat) (h : zH) : zS D z yJ18_iterator cJ18_iterator 1 (some (.object "java/util/Iterator")) [] 3 h 0 [(0, va_rf v0)] [] (f_J18_iterator v0 h) := by
  unfold f_J18_iterator
  refine s_new (pc := 0) dJ18_iterator_0 nf_J18_22 (fun r1 h2 => ?_)
  refine s_dup (pc := 3) dJ18_iterator_3 (zcat_rf _) ?_
  refine s_aload_n (pc := 4) 0 dJ18_iterator_4 rfl rfl ?_
  refine s_gR (pc := 5) dJ18_iterator_5 gf_J18_1 (fun r3 => ?_)
  refine zS_ite (fun hr => ?_) (fun _ => zS_none)
  refine s_callC (pc := 8) (np := 1) (as := [va_rf r3]) (rest := [va_rf r1]) dJ18_iterator_8 hr (c_J17_init (by decide) r1 r3 h2) ⟨_, _, q506⟩ rfl rfl rfl q504 q505 rfl (by simp [zcat_rf, zcat_i, zcat_l, zcat_f, zcat_d]) (zkV (fun h4 => ?_)) zxo
  exact s_aret (pc := 11) dJ18_iterator_11 rfl (Or.inl ⟨_, rfl⟩)
theorem c_J18_iterator {d0 : Nat} (hd0 : 3 < d0) (v0 : Option Nat) (h : zH) : zCal D z d0 h yJ18_iterator [va_rf v0] (f_J18_iterator v0 h) :=
  ⟨cJ18_iterator, 1, (some (.object "java/util/Iterator")), [], 3, (show lv_args 0 [va_rf v0] = [(0, va_rf v0)] by simp [lv_args, zcat_rf, zcat_i, zcat_l, zcat_f, zcat_d]) ▸ w_J18_iterator v0 h, (plainFor_of_name (by decide)), by simp [lg_sl, zcat_rf, zcat_i, zcat_l, zcat_f, zcat_d], q501, q115, hd0, by decide, by decide⟩
theorem w_J21_init (v0 : Option Nat) (v1 : Option Nat) (v2 : Int32) (h : zH) : zS D z yJ21_init cJ21_init 3 none [] 2 h 0 [(0, va_rf v0), (1, va_rf v1), (2, .int v2)] [] (f_J21_init v0 v1 v2 h) := by
  unfold f_J21_init
  refine s_aload_n (pc := 0) 0 dJ21_init_0 rfl rfl ?_
  refine s_aload_n (pc := 1) 1 dJ21_init_1 rfl rfl ?_
  refine s_iload_n (pc := 2) 2 dJ21_init_2 rfl rfl ?_
  refine zS_ite (fun hr => ?_) (fun _ => zS_none)
  refine s_callC (pc := 3) (np := 2) (as := [va_rf v1, .int v2]) (rest := []) dJ21_init_3 hr (c_J20_init (by decide) v0 v1 v2 h) ⟨_, _, q590⟩ rfl rfl rfl q588 q589 rfl (by decide) (zkV (fun h1 => ?_)) zxo
  exact s_vret (pc := 6) dJ21_init_6 rfl
theorem c_J21_init {d0 : Nat} (hd0 : 2 < d0) (v0 : Option Nat) (v1 : Option Nat) (v2 : Int32) (h : zH) : zCal D z d0 h yJ21_init [va_rf v0, va_rf v1, .int v2] (f_J21_init v0 v1 v2 h) :=
  ⟨cJ21_init, 3, none, [], 2, (show lv_args 0 [va_rf v0, va_rf v1, .int v2] = [(0, va_rf v0), (1, va_rf v1), (2, .int v2)] by simp [lv_args, zcat_rf, zcat_i, zcat_l, zcat_f, zcat_d]) ▸ w_J21_init v0 v1 v2 h, (plainFor_of_name (by decide)), by simp [lg_sl, zcat_rf, zcat_i, zcat_l, zcat_f, zcat_d], q587, q118, hd0, by decide, by decide⟩
theorem w_J19_iterator (v0 : Option Nat) (h : zH) : zS D z yJ19_iterator cJ19_iterator 1 (some (.object "java/util/Iterator")) [] 3 h 0 [(0, va_rf v0)] [] (f_J19_iterator v0 h) := by
  unfold f_J19_iterator
  refine s_new (pc := 0) dJ19_iterator_0 nf_J19_26 (fun r1 h2 => ?_)
  refine s_dup (pc := 3) dJ19_iterator_3 (zcat_rf _) ?_
  refine s_aload_n (pc := 4) 0 dJ19_iterator_4 rfl rfl ?_
  refine s_gR (pc := 5) dJ19_iterator_5 gf_J19_1 (fun r3 => ?_)
  refine s_aload_n (pc := 8) 0 dJ19_iterator_8 rfl rfl ?_
  refine s_gI (pc := 9) dJ19_iterator_9 gf_J19_13 (fun x4 => ?_)
  refine zS_ite (fun hr => ?_) (fun _ => zS_none)
  refine s_callC (pc := 12) (np := 2) (as := [va_rf r3, .int x4]) (rest := [va_rf r1]) dJ19_iterator_12 hr (c_J21_init (by decide) r1 r3 x4 h2) ⟨_, _, q587⟩ rfl rfl rfl q585 q586 rfl (by simp [zcat_rf, zcat_i, zcat_l, zcat_f, zcat_d]) (zkV (fun h5 => ?_)) zxo
  exact s_aret (pc := 15) dJ19_iterator_15 rfl (Or.inl ⟨_, rfl⟩)
theorem c_J19_iterator {d0 : Nat} (hd0 : 3 < d0) (v0 : Option Nat) (h : zH) : zCal D z d0 h yJ19_iterator [va_rf v0] (f_J19_iterator v0 h) :=
  ⟨cJ19_iterator, 1, (some (.object "java/util/Iterator")), [], 3, (show lv_args 0 [va_rf v0] = [(0, va_rf v0)] by simp [lv_args, zcat_rf, zcat_i, zcat_l, zcat_f, zcat_d]) ▸ w_J19_iterator v0 h, (plainFor_of_name (by decide)), by simp [lg_sl, zcat_rf, zcat_i, zcat_l, zcat_f, zcat_d], q582, q116, hd0, by decide, by decide⟩
theorem w_J5_iterator (v0 : Option Nat) (h : zH) : zS D z yJ5_iterator cJ5_iterator 1 (some (.object "java/util/Iterator")) [] 6 h 0 [(0, va_rf v0)] [] (f_J5_iterator v0 h) := by
  unfold f_J5_iterator
  refine s_aload_n (pc := 0) 0 dJ5_iterator_0 rfl rfl ?_
  refine s_gR (pc := 1) dJ5_iterator_1 gf_J5_10 (fun r1 => ?_)
  refine zS_ite (fun ht => ?_) (fun _ => ?_)
  · refine s_callV (pc := 4) (np := 0) (as := []) (rest := []) dJ5_iterator_4 ht (q := (RJ1, TJ1, 8)) rfl (c_J1_keySet (by decide) r1 h) rfl rfl q533 q534 q535 rfl (by decide) (zkR (fun r2 h3 => ?_)) zxo
    refine zS_ite (fun ht => ?_) (fun _ => ?_)
    · refine s_callF (pc := 7) (np := 0) (as := []) (rest := []) dJ5_iterator_7 ht (q := (RJ18, TJ18, 1)) rfl (c_J18_iterator (by decide) r2 h3) ⟨_, _, _, q501⟩ rfl rfl q570 (by decide +kernel) q499 q574 rfl (by decide) (zkR (fun r4 h5 => ?_)) zxo
      exact s_aret (pc := 12) dJ5_iterator_12 rfl (Or.inl ⟨_, rfl⟩)
    refine zS_ite (fun ht => ?_) (fun _ => zS_none)
    refine s_callF (pc := 7) (np := 0) (as := []) (rest := []) dJ5_iterator_7 ht (q := (RJ19, TJ19, 2)) rfl (c_J19_iterator (by decide) r2 h3) ⟨_, _, _, q582⟩ rfl rfl q570 (by decide +kernel) q580 q578 rfl (by decide) (zkR (fun r4 h5 => ?_)) zxo
    exact s_aret (pc := 12) dJ5_iterator_12 rfl (Or.inl ⟨_, rfl⟩)
  refine zS_ite (fun ht => ?_) (fun _ => zS_none)
  refine s_callVU (pc := 4) (np := 0) (as := []) (rest := []) (owner := "java/util/HashMap") dJ5_iterator_4 ht (q := (RJ2, TJ2, 12)) rfl (c_J2_keySet (by decide) r1 h) ⟨_, _, _, q539⟩ rfl rfl q533 q536 (Or.inl ⟨_, _, _, q534, q558⟩) (by decide) q538 q537 rfl (by decide) (zkR (fun r2 h3 => ?_)) zxo
  refine zS_ite (fun ht => ?_) (fun _ => ?_)
  · refine s_callF (pc := 7) (np := 0) (as := []) (rest := []) dJ5_iterator_7 ht (q := (RJ18, TJ18, 1)) rfl (c_J18_iterator (by decide) r2 h3) ⟨_, _, _, q501⟩ rfl rfl q570 (by decide +kernel) q499 q574 rfl (by decide) (zkR (fun r6 h7 => ?_)) zxo
    exact s_aret (pc := 12) dJ5_iterator_12 rfl (Or.inl ⟨_, rfl⟩)
  refine zS_ite (fun ht => ?_) (fun _ => zS_none)
  refine s_callF (pc := 7) (np := 0) (as := []) (rest := []) dJ5_iterator_7 ht (q := (RJ19, TJ19, 2)) rfl (c_J19_iterator (by decide) r2 h3) ⟨_, _, _, q582⟩ rfl rfl q570 (by decide +kernel) q580 q578 rfl (by decide) (zkR (fun r6 h7 => ?_)) zxo
  exact s_aret (pc := 12) dJ5_iterator_12 rfl (Or.inl ⟨_, rfl⟩)
theorem c_J5_iterator {d0 : Nat} (hd0 : 6 < d0) (v0 : Option Nat) (h : zH) : zCal D z d0 h yJ5_iterator [va_rf v0] (f_J5_iterator v0 h) :=
  ⟨cJ5_iterator, 1, (some (.object "java/util/Iterator")), [], 6, (show lv_args 0 [va_rf v0] = [(0, va_rf v0)] by simp [lv_args, zcat_rf, zcat_i, zcat_l, zcat_f, zcat_d]) ▸ w_J5_iterator v0 h, (plainFor_of_name (by decide)), by simp [lg_sl, zcat_rf, zcat_i, zcat_l, zcat_f, zcat_d], q532, q102, hd0, by decide, by decide⟩
theorem w_J5_add (v0 : Option Nat) (v1 : Option Nat) (h : zH) : zS D z yJ5_add cJ5_add 2 (some .boolean) [] 6 h 0 [(0, va_rf v0), (1, va_rf v1)] [] (f_J5_add v0 v1 h) := by
  unfold f_J5_add
  refine s_aload_n (pc := 0) 0 dJ5_add_0 rfl rfl ?_
  refine s_gR (pc := 1) dJ5_add_1 gf_J5_10 (fun r1 => ?_)
  refine s_aload_n (pc := 4) 1 dJ5_add_4 rfl rfl ?_
  refine s_getsR (pc := 5) (n := "PRESENT") (i := 5) dJ5_add_5 (List.mem_of_getElem? (i := 6) rfl) q2260 ?_
  refine zS_ite (fun ht => ?_) (fun _ => ?_)
  · refine s_callV (pc := 8) (np := 2) (as := [va_rf v1, va_rf (some (zG h 5))]) (rest := []) dJ5_add_8 ht (q := (RJ1, TJ1, 8)) rfl (c_J1_put (by decide) r1 v1 (some (zG h 5)) h) rfl rfl q2262 q2050 q3767 rfl (by decide) (zkR (fun r2 h3 => ?_)) zxo
    refine s_ifnonnull (pc := 11) (tgt := 18) dJ5_add_11 (by decide) (fun _ => ?_) (fun _ => ?_)
    · refine s_iconst (pc := 18) (v := 0) dJ5_add_18 (by decide) ?_
      exact s_nret (pc := 19) dJ5_add_19 rfl
    · refine s_iconst (pc := 14) (v := 1) dJ5_add_14 (by decide) ?_
      refine s_goto (pc := 15) (tgt := 19) dJ5_add_15 (by decide) ?_
      exact s_nret (pc := 19) dJ5_add_19 rfl
  refine zS_ite (fun ht => ?_) (fun _ => zS_none)
  refine s_callVU (pc := 8) (np := 2) (as := [va_rf v1, va_rf (some (zG h 5))]) (rest := []) (owner := "java/util/HashMap") dJ5_add_8 ht (q := (RJ2, TJ2, 12)) rfl (c_J1_put (by decide) r1 v1 (some (zG h 5)) h) ⟨_, _, _, q2051⟩ rfl rfl q2262 q3766 (Or.inl ⟨_, _, _, q2050, q2051⟩) (by decide) q2050 q3768 rfl (by decide) (zkR (fun r2 h3 => ?_)) zxo
  refine s_ifnonnull (pc := 11) (tgt := 18) dJ5_add_11 (by decide) (fun _ => ?_) (fun _ => ?_)
  · refine s_iconst (pc := 18) (v := 0) dJ5_add_18 (by decide) ?_
    exact s_nret (pc := 19) dJ5_add_19 rfl
  · refine s_iconst (pc := 14) (v := 1) dJ5_add_14 (by decide) ?_
    refine s_goto (pc := 15) (tgt := 19) dJ5_add_15 (by decide) ?_
    exact s_nret (pc := 19) dJ5_add_19 rfl
theorem c_J5_add {d0 : Nat} (hd0 : 6 < d0) (v0 : Option Nat) (v1 : Option Nat) (h : zH) : zCal D z d0 h yJ5_add [va_rf v0, va_rf v1] (f_J5_add v0 v1 h) :=
  ⟨cJ5_add, 2, (some .boolean), [], 6, (show lv_args 0 [va_rf v0, va_rf v1] = [(0, va_rf v0), (1, va_rf v1)] by simp [lv_args, zcat_rf, zcat_i, zcat_l, zcat_f, zcat_d]) ▸ w_J5_add v0 v1 h, (plainFor_of_name (by decide)), by simp [lg_sl, zcat_rf, zcat_i, zcat_l, zcat_f, zcat_d], q2259, q102, hd0, by decide, by decide⟩
end WW0
