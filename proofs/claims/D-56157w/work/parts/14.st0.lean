set_option maxRecDepth 100000
theorem bl {A B : Cond} {args : Array Value} {s : State} (h : (Cond.and A B).before args s = true) : A.before args s = true := by
  simp only [Cond.before_and, Bool.and_eq_true] at h
  exact h.1
theorem br {A B : Cond} {args : Array Value} {s : State} (h : (Cond.and A B).before args s = true) : B.before args s = true := by
  simp only [Cond.before_and, Bool.and_eq_true] at h
  exact h.2
def zTx : List (Nat × String × Nat × List Int32 × Int32 × Int32) := [(10, "FloatingDock", 48, [], 0, 1), (11, "FloatingDock$Ship", 70, [33], 33, 0), (12, "FloatingDock$Ship", 79, [], 0, 1), (13, "FloatingDock$Parser", 113, [115, 104, 105, 112, 32], 109407588, 0), (14, "FloatingDock$Parser", 115, [101, 110, 116, 101, 114, 32], (-1298279352), 0), (15, "FloatingDock$Parser", 91, [108, 101, 97, 118, 101, 32], (-1106737079), 0), (16, "FloatingDock$Parser", 97, [99, 108, 101, 97, 110, 32], (-1357835529), 0), (17, "FloatingDock$Parser", 99, [115, 116, 111, 112, 32], 109770846, 0), (18, "FloatingDock$Parser", 117, [111, 112, 101, 110], 3417674, 0), (19, "FloatingDock$Parser", 119, [99, 108, 111, 115, 101], 94756344, 0), (20, "FloatingDock$Parser", 121, [112, 117, 109, 112, 32], 107028152, 0), (21, "FloatingDock$Parser", 101, [112, 97, 115, 115, 32], 106438191, 0), (22, "FloatingDock$Parser", 103, [98, 108, 111, 99, 107, 32], (-1386164941), 0), (23, "FloatingDock$Parser", 123, [117, 110, 98, 108, 111, 99, 107, 32], (-499661556), 0), (24, "FloatingDock$Parser", 125, [112, 97, 121, 32], 3433592, 0), (25, "FloatingDockModel", 253, [115, 104, 105, 112, 32, 101, 110, 116, 101, 114, 32, 108, 101, 97, 118, 101, 32, 99, 108, 101, 97, 110, 32, 115, 116, 111, 112, 32, 111, 112, 101, 110, 99, 108, 111, 115, 101, 112, 117, 109, 112, 32, 112, 97, 115, 115, 32, 98, 108, 111, 99, 107, 32, 117, 110, 98, 108, 111, 99, 107, 32, 112, 97, 121, 32], 725916778, 0)]
theorem zhold_0 {args : Array Value} {s : State} (h : (Jvm.Cond.and given_1 narrow_1).before args s = true) : (Cond.exactly (.string "FloatingDock" 48) "java/lang/String").before args s = true ∧ (Cond.eq (.field (.string "FloatingDock" 48) "java/lang/String" "coder" "B") (.int 0)).before args s = true ∧ (Cond.arrayOf (.field (.string "FloatingDock" 48) "java/lang/String" "value" "[B") .byte).before args s = true ∧
    (Cond.eq (.length (.field (.string "FloatingDock" 48) "java/lang/String" "value" "[B")) (.int (Int32.ofNat ([] : List Int32).length))).before args s = true ∧ (∀ j : Nat, j < ([] : List Int32).length → (Cond.eq (.elem (.field (.string "FloatingDock" 48) "java/lang/String" "value" "[B") (.int (Int32.ofNat j))) (.int (([] : List Int32).getD j 0))).before args s = true) ∧
    (Cond.eq (.field (.string "FloatingDock" 48) "java/lang/String" "hash" "I") (.int 0)).before args s = true ∧ (Cond.eq (.field (.string "FloatingDock" 48) "java/lang/String" "hashIsZero" "Z") (.int 1)).before args s = true ∧ ([] : List Int32).length < 100 :=
  ⟨(bl (bl (br (br (bl (bl (bl (bl (br (br (bl (bl (bl (br h)))))))))))))), (bl (br (bl (br (br (bl (bl (bl (bl (br (br (bl (bl (bl (br h))))))))))))))), (br (br (bl (br (br (bl (bl (bl (bl (br (br (bl (bl (bl (br h))))))))))))))), (bl (bl (br (br (br (bl (bl (bl (bl (br (br (bl (bl (bl (br h))))))))))))))), (fun j hj => match j, hj with
    | j + 0, hj => absurd hj (by simp)), (br (bl (br (br (br (bl (bl (bl (bl (br (br (bl (bl (bl (br h))))))))))))))), (bl (br (br (br (br (bl (bl (bl (bl (br (br (bl (bl (bl (br h))))))))))))))), by decide⟩
theorem zhold_1 {args : Array Value} {s : State} (h : (Jvm.Cond.and given_1 narrow_1).before args s = true) : (Cond.exactly (.string "FloatingDock$Ship" 70) "java/lang/String").before args s = true ∧ (Cond.eq (.field (.string "FloatingDock$Ship" 70) "java/lang/String" "coder" "B") (.int 0)).before args s = true ∧ (Cond.arrayOf (.field (.string "FloatingDock$Ship" 70) "java/lang/String" "value" "[B") .byte).before args s = true ∧
    (Cond.eq (.length (.field (.string "FloatingDock$Ship" 70) "java/lang/String" "value" "[B")) (.int (Int32.ofNat ([33] : List Int32).length))).before args s = true ∧ (∀ j : Nat, j < ([33] : List Int32).length → (Cond.eq (.elem (.field (.string "FloatingDock$Ship" 70) "java/lang/String" "value" "[B") (.int (Int32.ofNat j))) (.int (([33] : List Int32).getD j 0))).before args s = true) ∧
    (Cond.eq (.field (.string "FloatingDock$Ship" 70) "java/lang/String" "hash" "I") (.int 33)).before args s = true ∧ (Cond.eq (.field (.string "FloatingDock$Ship" 70) "java/lang/String" "hashIsZero" "Z") (.int 0)).before args s = true ∧ ([33] : List Int32).length < 100 :=
  ⟨(br (bl (br (bl (br (br (bl (bl (bl (br (bl (bl (br h))))))))))))), (bl (br (br (bl (br (br (bl (bl (bl (br (bl (bl (br h))))))))))))), (bl (br (br (br (bl (br (br (bl (bl (bl (br (bl (bl (br h)))))))))))))), (br (br (br (br (bl (br (br (bl (bl (bl (br (bl (bl (br h)))))))))))))), (fun j hj => match j, hj with
    | 0, _ => (bl (bl (bl (br (br (br (bl (bl (bl (br (bl (bl (br h)))))))))))))
    | j + 1, hj => absurd hj (by simp)), (br (bl (bl (br (br (br (bl (bl (bl (br (bl (bl (br h))))))))))))), (bl (br (bl (br (br (br (bl (bl (bl (br (bl (bl (br h))))))))))))), by decide⟩
theorem zhold_2 {args : Array Value} {s : State} (h : (Jvm.Cond.and given_1 narrow_1).before args s = true) : (Cond.exactly (.string "FloatingDock$Ship" 79) "java/lang/String").before args s = true ∧ (Cond.eq (.field (.string "FloatingDock$Ship" 79) "java/lang/String" "coder" "B") (.int 0)).before args s = true ∧ (Cond.arrayOf (.field (.string "FloatingDock$Ship" 79) "java/lang/String" "value" "[B") .byte).before args s = true ∧
    (Cond.eq (.length (.field (.string "FloatingDock$Ship" 79) "java/lang/String" "value" "[B")) (.int (Int32.ofNat ([] : List Int32).length))).before args s = true ∧ (∀ j : Nat, j < ([] : List Int32).length → (Cond.eq (.elem (.field (.string "FloatingDock$Ship" 79) "java/lang/String" "value" "[B") (.int (Int32.ofNat j))) (.int (([] : List Int32).getD j 0))).before args s = true) ∧
    (Cond.eq (.field (.string "FloatingDock$Ship" 79) "java/lang/String" "hash" "I") (.int 0)).before args s = true ∧ (Cond.eq (.field (.string "FloatingDock$Ship" 79) "java/lang/String" "hashIsZero" "Z") (.int 1)).before args s = true ∧ ([] : List Int32).length < 100 :=
  ⟨(br (br (bl (br (br (br (bl (bl (bl (br (bl (bl (br h))))))))))))), (bl (bl (br (br (br (br (bl (bl (bl (br (bl (bl (br h))))))))))))), (br (bl (br (br (br (br (bl (bl (bl (br (bl (bl (br h))))))))))))), (bl (br (br (br (br (br (bl (bl (bl (br (bl (bl (br h))))))))))))), (fun j hj => match j, hj with
    | j + 0, hj => absurd hj (by simp)), (bl (br (br (br (br (br (br (bl (bl (bl (br (bl (bl (br h)))))))))))))), (br (br (br (br (br (br (br (bl (bl (bl (br (bl (bl (br h)))))))))))))), by decide⟩
theorem zhold_3 {args : Array Value} {s : State} (h : (Jvm.Cond.and given_1 narrow_1).before args s = true) : (Cond.exactly (.string "FloatingDock$Parser" 113) "java/lang/String").before args s = true ∧ (Cond.eq (.field (.string "FloatingDock$Parser" 113) "java/lang/String" "coder" "B") (.int 0)).before args s = true ∧ (Cond.arrayOf (.field (.string "FloatingDock$Parser" 113) "java/lang/String" "value" "[B") .byte).before args s = true ∧
    (Cond.eq (.length (.field (.string "FloatingDock$Parser" 113) "java/lang/String" "value" "[B")) (.int (Int32.ofNat ([115, 104, 105, 112, 32] : List Int32).length))).before args s = true ∧ (∀ j : Nat, j < ([115, 104, 105, 112, 32] : List Int32).length → (Cond.eq (.elem (.field (.string "FloatingDock$Parser" 113) "java/lang/String" "value" "[B") (.int (Int32.ofNat j))) (.int (([115, 104, 105, 112, 32] : List Int32).getD j 0))).before args s = true) ∧
    (Cond.eq (.field (.string "FloatingDock$Parser" 113) "java/lang/String" "hash" "I") (.int 109407588)).before args s = true ∧ (Cond.eq (.field (.string "FloatingDock$Parser" 113) "java/lang/String" "hashIsZero" "Z") (.int 0)).before args s = true ∧ ([115, 104, 105, 112, 32] : List Int32).length < 100 :=
  ⟨(bl (br (br (bl (br (bl (bl (bl (br (br (br (bl (bl (bl (br h))))))))))))))), (br (br (br (bl (br (bl (bl (bl (br (br (br (bl (bl (bl (br h))))))))))))))), (bl (bl (br (br (bl (bl (bl (br (br (br (bl (bl (bl (br h)))))))))))))), (bl (br (bl (br (br (bl (bl (bl (br (br (br (bl (bl (bl (br h))))))))))))))), (fun j hj => match j, hj with
    | 0, _ => (br (br (bl (br (br (bl (bl (bl (br (br (br (bl (bl (bl (br h)))))))))))))))
    | 1, _ => (bl (bl (br (br (br (bl (bl (bl (br (br (br (bl (bl (bl (br h)))))))))))))))
    | 2, _ => (br (bl (br (br (br (bl (bl (bl (br (br (br (bl (bl (bl (br h)))))))))))))))
    | 3, _ => (bl (br (br (br (br (bl (bl (bl (br (br (br (bl (bl (bl (br h)))))))))))))))
    | 4, _ => (br (br (br (br (br (bl (bl (bl (br (br (br (bl (bl (bl (br h)))))))))))))))
    | j + 5, hj => absurd hj (by simp)), (bl (bl (bl (bl (br (bl (bl (br (br (br (bl (bl (bl (br h)))))))))))))), (bl (br (bl (bl (bl (br (bl (bl (br (br (br (bl (bl (bl (br h))))))))))))))), by decide⟩
theorem zhold_4 {args : Array Value} {s : State} (h : (Jvm.Cond.and given_1 narrow_1).before args s = true) : (Cond.exactly (.string "FloatingDock$Parser" 115) "java/lang/String").before args s = true ∧ (Cond.eq (.field (.string "FloatingDock$Parser" 115) "java/lang/String" "coder" "B") (.int 0)).before args s = true ∧ (Cond.arrayOf (.field (.string "FloatingDock$Parser" 115) "java/lang/String" "value" "[B") .byte).before args s = true ∧
    (Cond.eq (.length (.field (.string "FloatingDock$Parser" 115) "java/lang/String" "value" "[B")) (.int (Int32.ofNat ([101, 110, 116, 101, 114, 32] : List Int32).length))).before args s = true ∧ (∀ j : Nat, j < ([101, 110, 116, 101, 114, 32] : List Int32).length → (Cond.eq (.elem (.field (.string "FloatingDock$Parser" 115) "java/lang/String" "value" "[B") (.int (Int32.ofNat j))) (.int (([101, 110, 116, 101, 114, 32] : List Int32).getD j 0))).before args s = true) ∧
    (Cond.eq (.field (.string "FloatingDock$Parser" 115) "java/lang/String" "hash" "I") (.int (-1298279352))).before args s = true ∧ (Cond.eq (.field (.string "FloatingDock$Parser" 115) "java/lang/String" "hashIsZero" "Z") (.int 0)).before args s = true ∧ ([101, 110, 116, 101, 114, 32] : List Int32).length < 100 :=
  ⟨(br (br (bl (bl (bl (br (bl (bl (br (br (br (bl (bl (bl (br h))))))))))))))), (bl (br (bl (bl (br (bl (bl (br (br (br (bl (bl (bl (br h)))))))))))))), (bl (br (br (bl (bl (br (bl (bl (br (br (br (bl (bl (bl (br h))))))))))))))), (br (br (br (bl (bl (br (bl (bl (br (br (br (bl (bl (bl (br h))))))))))))))), (fun j hj => match j, hj with
    | 0, _ => (bl (bl (br (bl (br (bl (bl (br (br (br (bl (bl (bl (br h))))))))))))))
    | 1, _ => (bl (br (bl (br (bl (br (bl (bl (br (br (br (bl (bl (bl (br h)))))))))))))))
    | 2, _ => (br (br (bl (br (bl (br (bl (bl (br (br (br (bl (bl (bl (br h)))))))))))))))
    | 3, _ => (bl (br (br (bl (br (bl (bl (br (br (br (bl (bl (bl (br h))))))))))))))
    | 4, _ => (bl (br (br (br (bl (br (bl (bl (br (br (br (bl (bl (bl (br h)))))))))))))))
    | 5, _ => (br (br (br (br (bl (br (bl (bl (br (br (br (bl (bl (bl (br h)))))))))))))))
    | j + 6, hj => absurd hj (by simp)), (bl (bl (bl (br (br (bl (bl (br (br (br (bl (bl (bl (br h)))))))))))))), (bl (br (bl (bl (br (br (bl (bl (br (br (br (bl (bl (bl (br h))))))))))))))), by decide⟩
theorem zhold_5 {args : Array Value} {s : State} (h : (Jvm.Cond.and given_1 narrow_1).before args s = true) : (Cond.exactly (.string "FloatingDock$Parser" 91) "java/lang/String").before args s = true ∧ (Cond.eq (.field (.string "FloatingDock$Parser" 91) "java/lang/String" "coder" "B") (.int 0)).before args s = true ∧ (Cond.arrayOf (.field (.string "FloatingDock$Parser" 91) "java/lang/String" "value" "[B") .byte).before args s = true ∧
    (Cond.eq (.length (.field (.string "FloatingDock$Parser" 91) "java/lang/String" "value" "[B")) (.int (Int32.ofNat ([108, 101, 97, 118, 101, 32] : List Int32).length))).before args s = true ∧ (∀ j : Nat, j < ([108, 101, 97, 118, 101, 32] : List Int32).length → (Cond.eq (.elem (.field (.string "FloatingDock$Parser" 91) "java/lang/String" "value" "[B") (.int (Int32.ofNat j))) (.int (([108, 101, 97, 118, 101, 32] : List Int32).getD j 0))).before args s = true) ∧
    (Cond.eq (.field (.string "FloatingDock$Parser" 91) "java/lang/String" "hash" "I") (.int (-1106737079))).before args s = true ∧ (Cond.eq (.field (.string "FloatingDock$Parser" 91) "java/lang/String" "hashIsZero" "Z") (.int 0)).before args s = true ∧ ([108, 101, 97, 118, 101, 32] : List Int32).length < 100 :=
  ⟨(br (br (bl (bl (br (br (bl (bl (br (br (br (bl (bl (bl (br h))))))))))))))), (bl (br (bl (br (br (bl (bl (br (br (br (bl (bl (bl (br h)))))))))))))), (bl (br (br (bl (br (br (bl (bl (br (br (br (bl (bl (bl (br h))))))))))))))), (br (br (br (bl (br (br (bl (bl (br (br (br (bl (bl (bl (br h))))))))))))))), (fun j hj => match j, hj with
    | 0, _ => (bl (bl (br (br (br (bl (bl (br (br (br (bl (bl (bl (br h))))))))))))))
    | 1, _ => (bl (br (bl (br (br (br (bl (bl (br (br (br (bl (bl (bl (br h)))))))))))))))
    | 2, _ => (br (br (bl (br (br (br (bl (bl (br (br (br (bl (bl (bl (br h)))))))))))))))
    | 3, _ => (bl (bl (br (br (br (br (bl (bl (br (br (br (bl (bl (bl (br h)))))))))))))))
    | 4, _ => (br (bl (br (br (br (br (bl (bl (br (br (br (bl (bl (bl (br h)))))))))))))))
    | 5, _ => (bl (br (br (br (br (br (bl (bl (br (br (br (bl (bl (bl (br h)))))))))))))))
    | j + 6, hj => absurd hj (by simp)), (br (br (br (br (br (br (bl (bl (br (br (br (bl (bl (bl (br h))))))))))))))), (bl (bl (bl (bl (bl (br (bl (br (br (br (bl (bl (bl (br h)))))))))))))), by decide⟩
theorem zhold_6 {args : Array Value} {s : State} (h : (Jvm.Cond.and given_1 narrow_1).before args s = true) : (Cond.exactly (.string "FloatingDock$Parser" 97) "java/lang/String").before args s = true ∧ (Cond.eq (.field (.string "FloatingDock$Parser" 97) "java/lang/String" "coder" "B") (.int 0)).before args s = true ∧ (Cond.arrayOf (.field (.string "FloatingDock$Parser" 97) "java/lang/String" "value" "[B") .byte).before args s = true ∧
    (Cond.eq (.length (.field (.string "FloatingDock$Parser" 97) "java/lang/String" "value" "[B")) (.int (Int32.ofNat ([99, 108, 101, 97, 110, 32] : List Int32).length))).before args s = true ∧ (∀ j : Nat, j < ([99, 108, 101, 97, 110, 32] : List Int32).length → (Cond.eq (.elem (.field (.string "FloatingDock$Parser" 97) "java/lang/String" "value" "[B") (.int (Int32.ofNat j))) (.int (([99, 108, 101, 97, 110, 32] : List Int32).getD j 0))).before args s = true) ∧
    (Cond.eq (.field (.string "FloatingDock$Parser" 97) "java/lang/String" "hash" "I") (.int (-1357835529))).before args s = true ∧ (Cond.eq (.field (.string "FloatingDock$Parser" 97) "java/lang/String" "hashIsZero" "Z") (.int 0)).before args s = true ∧ ([99, 108, 101, 97, 110, 32] : List Int32).length < 100 :=
  ⟨(bl (br (bl (bl (bl (bl (br (bl (br (br (br (bl (bl (bl (br h))))))))))))))), (br (br (bl (bl (bl (bl (br (bl (br (br (br (bl (bl (bl (br h))))))))))))))), (bl (br (bl (bl (bl (br (bl (br (br (br (bl (bl (bl (br h)))))))))))))), (bl (br (br (bl (bl (bl (br (bl (br (br (br (bl (bl (bl (br h))))))))))))))), (fun j hj => match j, hj with
    | 0, _ => (br (br (br (bl (bl (bl (br (bl (br (br (br (bl (bl (bl (br h)))))))))))))))
    | 1, _ => (bl (bl (br (bl (bl (br (bl (br (br (br (bl (bl (bl (br h))))))))))))))
    | 2, _ => (bl (br (bl (br (bl (bl (br (bl (br (br (br (bl (bl (bl (br h)))))))))))))))
    | 3, _ => (br (br (bl (br (bl (bl (br (bl (br (br (br (bl (bl (bl (br h)))))))))))))))
    | 4, _ => (bl (br (br (bl (bl (br (bl (br (br (br (bl (bl (bl (br h))))))))))))))
    | 5, _ => (bl (br (br (br (bl (bl (br (bl (br (br (br (bl (bl (bl (br h)))))))))))))))
    | j + 6, hj => absurd hj (by simp)), (br (br (br (br (bl (bl (br (bl (br (br (br (bl (bl (bl (br h))))))))))))))), (bl (bl (bl (br (bl (br (bl (br (br (br (bl (bl (bl (br h)))))))))))))), by decide⟩
theorem zhold_7 {args : Array Value} {s : State} (h : (Jvm.Cond.and given_1 narrow_1).before args s = true) : (Cond.exactly (.string "FloatingDock$Parser" 99) "java/lang/String").before args s = true ∧ (Cond.eq (.field (.string "FloatingDock$Parser" 99) "java/lang/String" "coder" "B") (.int 0)).before args s = true ∧ (Cond.arrayOf (.field (.string "FloatingDock$Parser" 99) "java/lang/String" "value" "[B") .byte).before args s = true ∧
    (Cond.eq (.length (.field (.string "FloatingDock$Parser" 99) "java/lang/String" "value" "[B")) (.int (Int32.ofNat ([115, 116, 111, 112, 32] : List Int32).length))).before args s = true ∧ (∀ j : Nat, j < ([115, 116, 111, 112, 32] : List Int32).length → (Cond.eq (.elem (.field (.string "FloatingDock$Parser" 99) "java/lang/String" "value" "[B") (.int (Int32.ofNat j))) (.int (([115, 116, 111, 112, 32] : List Int32).getD j 0))).before args s = true) ∧
    (Cond.eq (.field (.string "FloatingDock$Parser" 99) "java/lang/String" "hash" "I") (.int 109770846)).before args s = true ∧ (Cond.eq (.field (.string "FloatingDock$Parser" 99) "java/lang/String" "hashIsZero" "Z") (.int 0)).before args s = true ∧ ([115, 116, 111, 112, 32] : List Int32).length < 100 :=
  ⟨(bl (br (bl (bl (br (bl (br (bl (br (br (br (bl (bl (bl (br h))))))))))))))), (br (br (bl (bl (br (bl (br (bl (br (br (br (bl (bl (bl (br h))))))))))))))), (bl (br (bl (br (bl (br (bl (br (br (br (bl (bl (bl (br h)))))))))))))), (bl (br (br (bl (br (bl (br (bl (br (br (br (bl (bl (bl (br h))))))))))))))), (fun j hj => match j, hj with
    | 0, _ => (br (br (br (bl (br (bl (br (bl (br (br (br (bl (bl (bl (br h)))))))))))))))
    | 1, _ => (bl (bl (br (br (bl (br (bl (br (br (br (bl (bl (bl (br h))))))))))))))
    | 2, _ => (bl (br (bl (br (br (bl (br (bl (br (br (br (bl (bl (bl (br h)))))))))))))))
    | 3, _ => (br (br (bl (br (br (bl (br (bl (br (br (br (bl (bl (bl (br h)))))))))))))))
    | 4, _ => (bl (bl (br (br (br (bl (br (bl (br (br (br (bl (bl (bl (br h)))))))))))))))
    | j + 5, hj => absurd hj (by simp)), (br (bl (br (br (br (bl (br (bl (br (br (br (bl (bl (bl (br h))))))))))))))), (bl (br (br (br (br (bl (br (bl (br (br (br (bl (bl (bl (br h))))))))))))))), by decide⟩
theorem zhold_8 {args : Array Value} {s : State} (h : (Jvm.Cond.and given_1 narrow_1).before args s = true) : (Cond.exactly (.string "FloatingDock$Parser" 117) "java/lang/String").before args s = true ∧ (Cond.eq (.field (.string "FloatingDock$Parser" 117) "java/lang/String" "coder" "B") (.int 0)).before args s = true ∧ (Cond.arrayOf (.field (.string "FloatingDock$Parser" 117) "java/lang/String" "value" "[B") .byte).before args s = true ∧
    (Cond.eq (.length (.field (.string "FloatingDock$Parser" 117) "java/lang/String" "value" "[B")) (.int (Int32.ofNat ([111, 112, 101, 110] : List Int32).length))).before args s = true ∧ (∀ j : Nat, j < ([111, 112, 101, 110] : List Int32).length → (Cond.eq (.elem (.field (.string "FloatingDock$Parser" 117) "java/lang/String" "value" "[B") (.int (Int32.ofNat j))) (.int (([111, 112, 101, 110] : List Int32).getD j 0))).before args s = true) ∧
    (Cond.eq (.field (.string "FloatingDock$Parser" 117) "java/lang/String" "hash" "I") (.int 3417674)).before args s = true ∧ (Cond.eq (.field (.string "FloatingDock$Parser" 117) "java/lang/String" "hashIsZero" "Z") (.int 0)).before args s = true ∧ ([111, 112, 101, 110] : List Int32).length < 100 :=
  ⟨(br (br (br (br (br (bl (br (bl (br (br (br (bl (bl (bl (br h))))))))))))))), (bl (bl (bl (bl (br (br (bl (br (br (br (bl (bl (bl (br h)))))))))))))), (bl (br (bl (bl (bl (br (br (bl (br (br (br (bl (bl (bl (br h))))))))))))))), (br (br (bl (bl (bl (br (br (bl (br (br (br (bl (bl (bl (br h))))))))))))))), (fun j hj => match j, hj with
    | 0, _ => (bl (br (bl (bl (br (br (bl (br (br (br (bl (bl (bl (br h))))))))))))))
    | 1, _ => (bl (br (br (bl (bl (br (br (bl (br (br (br (bl (bl (bl (br h)))))))))))))))
    | 2, _ => (br (br (br (bl (bl (br (br (bl (br (br (br (bl (bl (bl (br h)))))))))))))))
    | 3, _ => (bl (bl (br (bl (br (br (bl (br (br (br (bl (bl (bl (br h))))))))))))))
    | j + 4, hj => absurd hj (by simp)), (bl (br (bl (br (bl (br (br (bl (br (br (br (bl (bl (bl (br h))))))))))))))), (br (br (bl (br (bl (br (br (bl (br (br (br (bl (bl (bl (br h))))))))))))))), by decide⟩
theorem zhold_9 {args : Array Value} {s : State} (h : (Jvm.Cond.and given_1 narrow_1).before args s = true) : (Cond.exactly (.string "FloatingDock$Parser" 119) "java/lang/String").before args s = true ∧ (Cond.eq (.field (.string "FloatingDock$Parser" 119) "java/lang/String" "coder" "B") (.int 0)).before args s = true ∧ (Cond.arrayOf (.field (.string "FloatingDock$Parser" 119) "java/lang/String" "value" "[B") .byte).before args s = true ∧
    (Cond.eq (.length (.field (.string "FloatingDock$Parser" 119) "java/lang/String" "value" "[B")) (.int (Int32.ofNat ([99, 108, 111, 115, 101] : List Int32).length))).before args s = true ∧ (∀ j : Nat, j < ([99, 108, 111, 115, 101] : List Int32).length → (Cond.eq (.elem (.field (.string "FloatingDock$Parser" 119) "java/lang/String" "value" "[B") (.int (Int32.ofNat j))) (.int (([99, 108, 111, 115, 101] : List Int32).getD j 0))).before args s = true) ∧
    (Cond.eq (.field (.string "FloatingDock$Parser" 119) "java/lang/String" "hash" "I") (.int 94756344)).before args s = true ∧ (Cond.eq (.field (.string "FloatingDock$Parser" 119) "java/lang/String" "hashIsZero" "Z") (.int 0)).before args s = true ∧ ([99, 108, 111, 115, 101] : List Int32).length < 100 :=
  ⟨(bl (br (br (bl (br (br (bl (br (br (br (bl (bl (bl (br h)))))))))))))), (bl (br (br (br (bl (br (br (bl (br (br (br (bl (bl (bl (br h))))))))))))))), (br (br (br (br (bl (br (br (bl (br (br (br (bl (bl (bl (br h))))))))))))))), (bl (bl (bl (br (br (br (bl (br (br (br (bl (bl (bl (br h)))))))))))))), (fun j hj => match j, hj with
    | 0, _ => (bl (br (bl (bl (br (br (br (bl (br (br (br (bl (bl (bl (br h)))))))))))))))
    | 1, _ => (br (br (bl (bl (br (br (br (bl (br (br (br (bl (bl (bl (br h)))))))))))))))
    | 2, _ => (bl (br (bl (br (br (br (bl (br (br (br (bl (bl (bl (br h))))))))))))))
    | 3, _ => (bl (br (br (bl (br (br (br (bl (br (br (br (bl (bl (bl (br h)))))))))))))))
    | 4, _ => (br (br (br (bl (br (br (br (bl (br (br (br (bl (bl (bl (br h)))))))))))))))
    | j + 5, hj => absurd hj (by simp)), (bl (bl (br (br (br (br (bl (br (br (br (bl (bl (bl (br h)))))))))))))), (bl (br (bl (br (br (br (br (bl (br (br (br (bl (bl (bl (br h))))))))))))))), by decide⟩
theorem zhold_10 {args : Array Value} {s : State} (h : (Jvm.Cond.and given_1 narrow_1).before args s = true) : (Cond.exactly (.string "FloatingDock$Parser" 121) "java/lang/String").before args s = true ∧ (Cond.eq (.field (.string "FloatingDock$Parser" 121) "java/lang/String" "coder" "B") (.int 0)).before args s = true ∧ (Cond.arrayOf (.field (.string "FloatingDock$Parser" 121) "java/lang/String" "value" "[B") .byte).before args s = true ∧
    (Cond.eq (.length (.field (.string "FloatingDock$Parser" 121) "java/lang/String" "value" "[B")) (.int (Int32.ofNat ([112, 117, 109, 112, 32] : List Int32).length))).before args s = true ∧ (∀ j : Nat, j < ([112, 117, 109, 112, 32] : List Int32).length → (Cond.eq (.elem (.field (.string "FloatingDock$Parser" 121) "java/lang/String" "value" "[B") (.int (Int32.ofNat j))) (.int (([112, 117, 109, 112, 32] : List Int32).getD j 0))).before args s = true) ∧
    (Cond.eq (.field (.string "FloatingDock$Parser" 121) "java/lang/String" "hash" "I") (.int 107028152)).before args s = true ∧ (Cond.eq (.field (.string "FloatingDock$Parser" 121) "java/lang/String" "hashIsZero" "Z") (.int 0)).before args s = true ∧ ([112, 117, 109, 112, 32] : List Int32).length < 100 :=
  ⟨(br (br (bl (br (br (br (br (bl (br (br (br (bl (bl (bl (br h))))))))))))))), (bl (bl (br (br (br (br (br (bl (br (br (br (bl (bl (bl (br h))))))))))))))), (br (bl (br (br (br (br (br (bl (br (br (br (bl (bl (bl (br h))))))))))))))), (bl (br (br (br (br (br (br (bl (br (br (br (bl (bl (bl (br h))))))))))))))), (fun j hj => match j, hj with
    | 0, _ => (br (br (br (br (br (br (br (bl (br (br (br (bl (bl (bl (br h)))))))))))))))
    | 1, _ => (bl (bl (bl (bl (bl (bl (br (br (br (br (bl (bl (bl (br h))))))))))))))
    | 2, _ => (bl (br (bl (bl (bl (bl (bl (br (br (br (br (bl (bl (bl (br h)))))))))))))))
    | 3, _ => (br (br (bl (bl (bl (bl (bl (br (br (br (br (bl (bl (bl (br h)))))))))))))))
    | 4, _ => (bl (br (bl (bl (bl (bl (br (br (br (br (bl (bl (bl (br h))))))))))))))
    | j + 5, hj => absurd hj (by simp)), (bl (br (br (bl (bl (bl (bl (br (br (br (br (bl (bl (bl (br h))))))))))))))), (br (br (br (bl (bl (bl (bl (br (br (br (br (bl (bl (bl (br h))))))))))))))), by decide⟩
theorem zhold_11 {args : Array Value} {s : State} (h : (Jvm.Cond.and given_1 narrow_1).before args s = true) : (Cond.exactly (.string "FloatingDock$Parser" 101) "java/lang/String").before args s = true ∧ (Cond.eq (.field (.string "FloatingDock$Parser" 101) "java/lang/String" "coder" "B") (.int 0)).before args s = true ∧ (Cond.arrayOf (.field (.string "FloatingDock$Parser" 101) "java/lang/String" "value" "[B") .byte).before args s = true ∧
    (Cond.eq (.length (.field (.string "FloatingDock$Parser" 101) "java/lang/String" "value" "[B")) (.int (Int32.ofNat ([112, 97, 115, 115, 32] : List Int32).length))).before args s = true ∧ (∀ j : Nat, j < ([112, 97, 115, 115, 32] : List Int32).length → (Cond.eq (.elem (.field (.string "FloatingDock$Parser" 101) "java/lang/String" "value" "[B") (.int (Int32.ofNat j))) (.int (([112, 97, 115, 115, 32] : List Int32).getD j 0))).before args s = true) ∧
    (Cond.eq (.field (.string "FloatingDock$Parser" 101) "java/lang/String" "hash" "I") (.int 106438191)).before args s = true ∧ (Cond.eq (.field (.string "FloatingDock$Parser" 101) "java/lang/String" "hashIsZero" "Z") (.int 0)).before args s = true ∧ ([112, 97, 115, 115, 32] : List Int32).length < 100 :=
  ⟨(bl (bl (br (bl (bl (bl (br (br (br (br (bl (bl (bl (br h)))))))))))))), (bl (br (bl (br (bl (bl (bl (br (br (br (br (bl (bl (bl (br h))))))))))))))), (br (br (bl (br (bl (bl (bl (br (br (br (br (bl (bl (bl (br h))))))))))))))), (bl (br (br (bl (bl (bl (br (br (br (br (bl (bl (bl (br h)))))))))))))), (fun j hj => match j, hj with
    | 0, _ => (bl (br (br (br (bl (bl (bl (br (br (br (br (bl (bl (bl (br h)))))))))))))))
    | 1, _ => (br (br (br (br (bl (bl (bl (br (br (br (br (bl (bl (bl (br h)))))))))))))))
    | 2, _ => (bl (bl (bl (br (bl (bl (br (br (br (br (bl (bl (bl (br h))))))))))))))
    | 3, _ => (bl (br (bl (bl (br (bl (bl (br (br (br (br (bl (bl (bl (br h)))))))))))))))
    | 4, _ => (br (br (bl (bl (br (bl (bl (br (br (br (br (bl (bl (bl (br h)))))))))))))))
    | j + 5, hj => absurd hj (by simp)), (bl (br (bl (br (bl (bl (br (br (br (br (bl (bl (bl (br h)))))))))))))), (bl (br (br (bl (br (bl (bl (br (br (br (br (bl (bl (bl (br h))))))))))))))), by decide⟩
theorem zhold_12 {args : Array Value} {s : State} (h : (Jvm.Cond.and given_1 narrow_1).before args s = true) : (Cond.exactly (.string "FloatingDock$Parser" 103) "java/lang/String").before args s = true ∧ (Cond.eq (.field (.string "FloatingDock$Parser" 103) "java/lang/String" "coder" "B") (.int 0)).before args s = true ∧ (Cond.arrayOf (.field (.string "FloatingDock$Parser" 103) "java/lang/String" "value" "[B") .byte).before args s = true ∧
    (Cond.eq (.length (.field (.string "FloatingDock$Parser" 103) "java/lang/String" "value" "[B")) (.int (Int32.ofNat ([98, 108, 111, 99, 107, 32] : List Int32).length))).before args s = true ∧ (∀ j : Nat, j < ([98, 108, 111, 99, 107, 32] : List Int32).length → (Cond.eq (.elem (.field (.string "FloatingDock$Parser" 103) "java/lang/String" "value" "[B") (.int (Int32.ofNat j))) (.int (([98, 108, 111, 99, 107, 32] : List Int32).getD j 0))).before args s = true) ∧
    (Cond.eq (.field (.string "FloatingDock$Parser" 103) "java/lang/String" "hash" "I") (.int (-1386164941))).before args s = true ∧ (Cond.eq (.field (.string "FloatingDock$Parser" 103) "java/lang/String" "hashIsZero" "Z") (.int 0)).before args s = true ∧ ([98, 108, 111, 99, 107, 32] : List Int32).length < 100 :=
  ⟨(br (br (br (bl (br (bl (bl (br (br (br (br (bl (bl (bl (br h))))))))))))))), (bl (bl (br (br (bl (bl (br (br (br (br (bl (bl (bl (br h)))))))))))))), (bl (br (bl (br (br (bl (bl (br (br (br (br (bl (bl (bl (br h))))))))))))))), (br (br (bl (br (br (bl (bl (br (br (br (br (bl (bl (bl (br h))))))))))))))), (fun j hj => match j, hj with
    | 0, _ => (bl (bl (br (br (br (bl (bl (br (br (br (br (bl (bl (bl (br h)))))))))))))))
    | 1, _ => (br (bl (br (br (br (bl (bl (br (br (br (br (bl (bl (bl (br h)))))))))))))))
    | 2, _ => (bl (br (br (br (br (bl (bl (br (br (br (br (bl (bl (bl (br h)))))))))))))))
    | 3, _ => (br (br (br (br (br (bl (bl (br (br (br (br (bl (bl (bl (br h)))))))))))))))
    | 4, _ => (bl (bl (bl (bl (br (bl (br (br (br (br (bl (bl (bl (br h))))))))))))))
    | 5, _ => (bl (br (bl (bl (bl (br (bl (br (br (br (br (bl (bl (bl (br h)))))))))))))))
    | j + 6, hj => absurd hj (by simp)), (br (br (bl (bl (bl (br (bl (br (br (br (br (bl (bl (bl (br h))))))))))))))), (bl (br (bl (bl (br (bl (br (br (br (br (bl (bl (bl (br h)))))))))))))), by decide⟩
theorem zhold_13 {args : Array Value} {s : State} (h : (Jvm.Cond.and given_1 narrow_1).before args s = true) : (Cond.exactly (.string "FloatingDock$Parser" 123) "java/lang/String").before args s = true ∧ (Cond.eq (.field (.string "FloatingDock$Parser" 123) "java/lang/String" "coder" "B") (.int 0)).before args s = true ∧ (Cond.arrayOf (.field (.string "FloatingDock$Parser" 123) "java/lang/String" "value" "[B") .byte).before args s = true ∧
    (Cond.eq (.length (.field (.string "FloatingDock$Parser" 123) "java/lang/String" "value" "[B")) (.int (Int32.ofNat ([117, 110, 98, 108, 111, 99, 107, 32] : List Int32).length))).before args s = true ∧ (∀ j : Nat, j < ([117, 110, 98, 108, 111, 99, 107, 32] : List Int32).length → (Cond.eq (.elem (.field (.string "FloatingDock$Parser" 123) "java/lang/String" "value" "[B") (.int (Int32.ofNat j))) (.int (([117, 110, 98, 108, 111, 99, 107, 32] : List Int32).getD j 0))).before args s = true) ∧
    (Cond.eq (.field (.string "FloatingDock$Parser" 123) "java/lang/String" "hash" "I") (.int (-499661556))).before args s = true ∧ (Cond.eq (.field (.string "FloatingDock$Parser" 123) "java/lang/String" "hashIsZero" "Z") (.int 0)).before args s = true ∧ ([117, 110, 98, 108, 111, 99, 107, 32] : List Int32).length < 100 :=
  ⟨(bl (br (br (bl (bl (br (bl (br (br (br (br (bl (bl (bl (br h))))))))))))))), (br (br (br (bl (bl (br (bl (br (br (br (br (bl (bl (bl (br h))))))))))))))), (bl (bl (br (bl (br (bl (br (br (br (br (bl (bl (bl (br h)))))))))))))), (bl (br (bl (br (bl (br (bl (br (br (br (br (bl (bl (bl (br h))))))))))))))), (fun j hj => match j, hj with
    | 0, _ => (br (br (bl (br (bl (br (bl (br (br (br (br (bl (bl (bl (br h)))))))))))))))
    | 1, _ => (bl (br (br (bl (br (bl (br (br (br (br (bl (bl (bl (br h))))))))))))))
    | 2, _ => (bl (br (br (br (bl (br (bl (br (br (br (br (bl (bl (bl (br h)))))))))))))))
    | 3, _ => (br (br (br (br (bl (br (bl (br (br (br (br (bl (bl (bl (br h)))))))))))))))
    | 4, _ => (bl (bl (bl (br (br (bl (br (br (br (br (bl (bl (bl (br h))))))))))))))
    | 5, _ => (bl (br (bl (bl (br (br (bl (br (br (br (br (bl (bl (bl (br h)))))))))))))))
    | 6, _ => (br (br (bl (bl (br (br (bl (br (br (br (br (bl (bl (bl (br h)))))))))))))))
    | 7, _ => (bl (br (bl (br (br (bl (br (br (br (br (bl (bl (bl (br h))))))))))))))
    | j + 8, hj => absurd hj (by simp)), (bl (br (br (bl (br (br (bl (br (br (br (br (bl (bl (bl (br h))))))))))))))), (br (br (br (bl (br (br (bl (br (br (br (br (bl (bl (bl (br h))))))))))))))), by decide⟩
theorem zhold_14 {args : Array Value} {s : State} (h : (Jvm.Cond.and given_1 narrow_1).before args s = true) : (Cond.exactly (.string "FloatingDock$Parser" 125) "java/lang/String").before args s = true ∧ (Cond.eq (.field (.string "FloatingDock$Parser" 125) "java/lang/String" "coder" "B") (.int 0)).before args s = true ∧ (Cond.arrayOf (.field (.string "FloatingDock$Parser" 125) "java/lang/String" "value" "[B") .byte).before args s = true ∧
    (Cond.eq (.length (.field (.string "FloatingDock$Parser" 125) "java/lang/String" "value" "[B")) (.int (Int32.ofNat ([112, 97, 121, 32] : List Int32).length))).before args s = true ∧ (∀ j : Nat, j < ([112, 97, 121, 32] : List Int32).length → (Cond.eq (.elem (.field (.string "FloatingDock$Parser" 125) "java/lang/String" "value" "[B") (.int (Int32.ofNat j))) (.int (([112, 97, 121, 32] : List Int32).getD j 0))).before args s = true) ∧
    (Cond.eq (.field (.string "FloatingDock$Parser" 125) "java/lang/String" "hash" "I") (.int 3433592)).before args s = true ∧ (Cond.eq (.field (.string "FloatingDock$Parser" 125) "java/lang/String" "hashIsZero" "Z") (.int 0)).before args s = true ∧ ([112, 97, 121, 32] : List Int32).length < 100 :=
  ⟨(bl (bl (br (br (br (bl (br (br (br (br (bl (bl (bl (br h)))))))))))))), (bl (br (bl (br (br (br (bl (br (br (br (br (bl (bl (bl (br h))))))))))))))), (br (br (bl (br (br (br (bl (br (br (br (br (bl (bl (bl (br h))))))))))))))), (bl (bl (br (br (br (br (bl (br (br (br (br (bl (bl (bl (br h))))))))))))))), (fun j hj => match j, hj with
    | 0, _ => (br (bl (br (br (br (br (bl (br (br (br (br (bl (bl (bl (br h)))))))))))))))
    | 1, _ => (bl (br (br (br (br (br (bl (br (br (br (br (bl (bl (bl (br h)))))))))))))))
    | 2, _ => (br (br (br (br (br (br (bl (br (br (br (br (bl (bl (bl (br h)))))))))))))))
    | 3, _ => (bl (bl (bl (bl (bl (br (br (br (br (br (bl (bl (bl (br h))))))))))))))
    | j + 4, hj => absurd hj (by simp)), (bl (br (bl (bl (bl (bl (br (br (br (br (br (bl (bl (bl (br h))))))))))))))), (br (br (bl (bl (bl (bl (br (br (br (br (br (bl (bl (bl (br h))))))))))))))), by decide⟩
theorem zhold_15 {args : Array Value} {s : State} (h : (Jvm.Cond.and given_1 narrow_1).before args s = true) : (Cond.exactly (.string "FloatingDockModel" 253) "java/lang/String").before args s = true ∧ (Cond.eq (.field (.string "FloatingDockModel" 253) "java/lang/String" "coder" "B") (.int 0)).before args s = true ∧ (Cond.arrayOf (.field (.string "FloatingDockModel" 253) "java/lang/String" "value" "[B") .byte).before args s = true ∧
    (Cond.eq (.length (.field (.string "FloatingDockModel" 253) "java/lang/String" "value" "[B")) (.int (Int32.ofNat ([115, 104, 105, 112, 32, 101, 110, 116, 101, 114, 32, 108, 101, 97, 118, 101, 32, 99, 108, 101, 97, 110, 32, 115, 116, 111, 112, 32, 111, 112, 101, 110, 99, 108, 111, 115, 101, 112, 117, 109, 112, 32, 112, 97, 115, 115, 32, 98, 108, 111, 99, 107, 32, 117, 110, 98, 108, 111, 99, 107, 32, 112, 97, 121, 32] : List Int32).length))).before args s = true ∧ (∀ j : Nat, j < ([115, 104, 105, 112, 32, 101, 110, 116, 101, 114, 32, 108, 101, 97, 118, 101, 32, 99, 108, 101, 97, 110, 32, 115, 116, 111, 112, 32, 111, 112, 101, 110, 99, 108, 111, 115, 101, 112, 117, 109, 112, 32, 112, 97, 115, 115, 32, 98, 108, 111, 99, 107, 32, 117, 110, 98, 108, 111, 99, 107, 32, 112, 97, 121, 32] : List Int32).length → (Cond.eq (.elem (.field (.string "FloatingDockModel" 253) "java/lang/String" "value" "[B") (.int (Int32.ofNat j))) (.int (([115, 104, 105, 112, 32, 101, 110, 116, 101, 114, 32, 108, 101, 97, 118, 101, 32, 99, 108, 101, 97, 110, 32, 115, 116, 111, 112, 32, 111, 112, 101, 110, 99, 108, 111, 115, 101, 112, 117, 109, 112, 32, 112, 97, 115, 115, 32, 98, 108, 111, 99, 107, 32, 117, 110, 98, 108, 111, 99, 107, 32, 112, 97, 121, 32] : List Int32).getD j 0))).before args s = true) ∧
    (Cond.eq (.field (.string "FloatingDockModel" 253) "java/lang/String" "hash" "I") (.int 725916778)).before args s = true ∧ (Cond.eq (.field (.string "FloatingDockModel" 253) "java/lang/String" "hashIsZero" "Z") (.int 0)).before args s = true ∧ ([115, 104, 105, 112, 32, 101, 110, 116, 101, 114, 32, 108, 101, 97, 118, 101, 32, 99, 108, 101, 97, 110, 32, 115, 116, 111, 112, 32, 111, 112, 101, 110, 99, 108, 111, 115, 101, 112, 117, 109, 112, 32, 112, 97, 115, 115, 32, 98, 108, 111, 99, 107, 32, 117, 110, 98, 108, 111, 99, 107, 32, 112, 97, 121, 32] : List Int32).length < 100 :=
  ⟨(br (bl (bl (bl (bl (bl (br (bl (bl (br (bl (bl (br h))))))))))))), (bl (br (bl (bl (bl (bl (br (bl (bl (br (bl (bl (br h))))))))))))), (br (br (bl (bl (bl (bl (br (bl (bl (br (bl (bl (br h))))))))))))), (bl (bl (br (bl (bl (bl (br (bl (bl (br (bl (bl (br h))))))))))))), (fun j hj => match j, hj with
    | 0, _ => (br (bl (br (bl (bl (bl (br (bl (bl (br (bl (bl (br h)))))))))))))
    | 1, _ => (bl (br (br (bl (bl (bl (br (bl (bl (br (bl (bl (br h)))))))))))))
    | 2, _ => (bl (br (br (br (bl (bl (bl (br (bl (bl (br (bl (bl (br h))))))))))))))
    | 3, _ => (br (br (br (br (bl (bl (bl (br (bl (bl (br (bl (bl (br h))))))))))))))
    | 4, _ => (bl (bl (bl (br (bl (bl (br (bl (bl (br (bl (bl (br h)))))))))))))
    | 5, _ => (br (bl (bl (br (bl (bl (br (bl (bl (br (bl (bl (br h)))))))))))))
    | 6, _ => (bl (br (bl (br (bl (bl (br (bl (bl (br (bl (bl (br h)))))))))))))
    | 7, _ => (br (br (bl (br (bl (bl (br (bl (bl (br (bl (bl (br h)))))))))))))
    | 8, _ => (bl (bl (br (br (bl (bl (br (bl (bl (br (bl (bl (br h)))))))))))))
    | 9, _ => (br (bl (br (br (bl (bl (br (bl (bl (br (bl (bl (br h)))))))))))))
    | 10, _ => (bl (br (br (br (bl (bl (br (bl (bl (br (bl (bl (br h)))))))))))))
    | 11, _ => (bl (br (br (br (br (bl (bl (br (bl (bl (br (bl (bl (br h))))))))))))))
    | 12, _ => (br (br (br (br (br (bl (bl (br (bl (bl (br (bl (bl (br h))))))))))))))
    | 13, _ => (bl (bl (bl (bl (br (bl (br (bl (bl (br (bl (bl (br h)))))))))))))
    | 14, _ => (br (bl (bl (bl (br (bl (br (bl (bl (br (bl (bl (br h)))))))))))))
    | 15, _ => (bl (br (bl (bl (br (bl (br (bl (bl (br (bl (bl (br h)))))))))))))
    | 16, _ => (br (br (bl (bl (br (bl (br (bl (bl (br (bl (bl (br h)))))))))))))
    | 17, _ => (bl (bl (br (bl (br (bl (br (bl (bl (br (bl (bl (br h)))))))))))))
    | 18, _ => (br (bl (br (bl (br (bl (br (bl (bl (br (bl (bl (br h)))))))))))))
    | 19, _ => (bl (br (br (bl (br (bl (br (bl (bl (br (bl (bl (br h)))))))))))))
    | 20, _ => (bl (br (br (br (bl (br (bl (br (bl (bl (br (bl (bl (br h))))))))))))))
    | 21, _ => (br (br (br (br (bl (br (bl (br (bl (bl (br (bl (bl (br h))))))))))))))
    | 22, _ => (bl (bl (bl (br (br (bl (br (bl (bl (br (bl (bl (br h)))))))))))))
    | 23, _ => (br (bl (bl (br (br (bl (br (bl (bl (br (bl (bl (br h)))))))))))))
    | 24, _ => (bl (br (bl (br (br (bl (br (bl (bl (br (bl (bl (br h)))))))))))))
    | 25, _ => (br (br (bl (br (br (bl (br (bl (bl (br (bl (bl (br h)))))))))))))
    | 26, _ => (bl (bl (br (br (br (bl (br (bl (bl (br (bl (bl (br h)))))))))))))
    | 27, _ => (br (bl (br (br (br (bl (br (bl (bl (br (bl (bl (br h)))))))))))))
    | 28, _ => (bl (br (br (br (br (bl (br (bl (bl (br (bl (bl (br h)))))))))))))
    | 29, _ => (bl (br (br (br (br (br (bl (br (bl (bl (br (bl (bl (br h))))))))))))))
    | 30, _ => (br (br (br (br (br (br (bl (br (bl (bl (br (bl (bl (br h))))))))))))))
    | 31, _ => (bl (bl (bl (bl (bl (br (br (bl (bl (br (bl (bl (br h)))))))))))))
    | 32, _ => (br (bl (bl (bl (bl (br (br (bl (bl (br (bl (bl (br h)))))))))))))
    | 33, _ => (bl (br (bl (bl (bl (br (br (bl (bl (br (bl (bl (br h)))))))))))))
    | 34, _ => (br (br (bl (bl (bl (br (br (bl (bl (br (bl (bl (br h)))))))))))))
    | 35, _ => (bl (bl (br (bl (bl (br (br (bl (bl (br (bl (bl (br h)))))))))))))
    | 36, _ => (br (bl (br (bl (bl (br (br (bl (bl (br (bl (bl (br h)))))))))))))
    | 37, _ => (bl (br (br (bl (bl (br (br (bl (bl (br (bl (bl (br h)))))))))))))
    | 38, _ => (bl (br (br (br (bl (bl (br (br (bl (bl (br (bl (bl (br h))))))))))))))
    | 39, _ => (br (br (br (br (bl (bl (br (br (bl (bl (br (bl (bl (br h))))))))))))))
    | 40, _ => (bl (bl (bl (br (bl (br (br (bl (bl (br (bl (bl (br h)))))))))))))
    | 41, _ => (br (bl (bl (br (bl (br (br (bl (bl (br (bl (bl (br h)))))))))))))
    | 42, _ => (bl (br (bl (br (bl (br (br (bl (bl (br (bl (bl (br h)))))))))))))
    | 43, _ => (br (br (bl (br (bl (br (br (bl (bl (br (bl (bl (br h)))))))))))))
    | 44, _ => (bl (bl (br (br (bl (br (br (bl (bl (br (bl (bl (br h)))))))))))))
    | 45, _ => (br (bl (br (br (bl (br (br (bl (bl (br (bl (bl (br h)))))))))))))
    | 46, _ => (bl (br (br (br (bl (br (br (bl (bl (br (bl (bl (br h)))))))))))))
    | 47, _ => (bl (br (br (br (br (bl (br (br (bl (bl (br (bl (bl (br h))))))))))))))
    | 48, _ => (br (br (br (br (br (bl (br (br (bl (bl (br (bl (bl (br h))))))))))))))
    | 49, _ => (bl (bl (bl (bl (br (br (br (bl (bl (br (bl (bl (br h)))))))))))))
    | 50, _ => (br (bl (bl (bl (br (br (br (bl (bl (br (bl (bl (br h)))))))))))))
    | 51, _ => (bl (br (bl (bl (br (br (br (bl (bl (br (bl (bl (br h)))))))))))))
    | 52, _ => (br (br (bl (bl (br (br (br (bl (bl (br (bl (bl (br h)))))))))))))
    | 53, _ => (bl (bl (br (bl (br (br (br (bl (bl (br (bl (bl (br h)))))))))))))
    | 54, _ => (br (bl (br (bl (br (br (br (bl (bl (br (bl (bl (br h)))))))))))))
    | 55, _ => (bl (br (br (bl (br (br (br (bl (bl (br (bl (bl (br h)))))))))))))
    | 56, _ => (bl (br (br (br (bl (br (br (br (bl (bl (br (bl (bl (br h))))))))))))))
    | 57, _ => (br (br (br (br (bl (br (br (br (bl (bl (br (bl (bl (br h))))))))))))))
    | 58, _ => (bl (bl (bl (br (br (br (br (bl (bl (br (bl (bl (br h)))))))))))))
    | 59, _ => (br (bl (bl (br (br (br (br (bl (bl (br (bl (bl (br h)))))))))))))
    | 60, _ => (bl (br (bl (br (br (br (br (bl (bl (br (bl (bl (br h)))))))))))))
    | 61, _ => (br (br (bl (br (br (br (br (bl (bl (br (bl (bl (br h)))))))))))))
    | 62, _ => (bl (bl (br (br (br (br (br (bl (bl (br (bl (bl (br h)))))))))))))
    | 63, _ => (br (bl (br (br (br (br (br (bl (bl (br (bl (bl (br h)))))))))))))
    | 64, _ => (bl (br (br (br (br (br (br (bl (bl (br (bl (bl (br h)))))))))))))
    | j + 65, hj => absurd hj (by simp)), (bl (br (br (br (br (br (br (br (bl (bl (br (bl (bl (br h)))))))))))))), (br (br (br (br (br (br (br (br (bl (bl (br (bl (bl (br h)))))))))))))), by decide⟩
theorem zTx_flat {args : Array Value} {s : State} (h : (Jvm.Cond.and given_1 narrow_1).before args s = true) : ∀ q ∈ zTx, (Cond.exactly (.string q.2.1 q.2.2.1) "java/lang/String").before args s = true ∧ (Cond.eq (.field (.string q.2.1 q.2.2.1) "java/lang/String" "coder" "B") (.int 0)).before args s = true ∧ (Cond.arrayOf (.field (.string q.2.1 q.2.2.1) "java/lang/String" "value" "[B") .byte).before args s = true ∧
    (Cond.eq (.length (.field (.string q.2.1 q.2.2.1) "java/lang/String" "value" "[B")) (.int (Int32.ofNat q.2.2.2.1.length))).before args s = true ∧ (∀ j : Nat, j < q.2.2.2.1.length → (Cond.eq (.elem (.field (.string q.2.1 q.2.2.1) "java/lang/String" "value" "[B") (.int (Int32.ofNat j))) (.int (q.2.2.2.1.getD j 0))).before args s = true) ∧
    (Cond.eq (.field (.string q.2.1 q.2.2.1) "java/lang/String" "hash" "I") (.int q.2.2.2.2.1)).before args s = true ∧ (Cond.eq (.field (.string q.2.1 q.2.2.1) "java/lang/String" "hashIsZero" "Z") (.int q.2.2.2.2.2)).before args s = true ∧ q.2.2.2.1.length < 100 :=
  List.forall_mem_cons.mpr ⟨zhold_0 h, List.forall_mem_cons.mpr ⟨zhold_1 h, List.forall_mem_cons.mpr ⟨zhold_2 h, List.forall_mem_cons.mpr ⟨zhold_3 h, List.forall_mem_cons.mpr ⟨zhold_4 h, List.forall_mem_cons.mpr ⟨zhold_5 h, List.forall_mem_cons.mpr ⟨zhold_6 h, List.forall_mem_cons.mpr ⟨zhold_7 h, List.forall_mem_cons.mpr ⟨zhold_8 h, List.forall_mem_cons.mpr ⟨zhold_9 h, List.forall_mem_cons.mpr ⟨zhold_10 h, List.forall_mem_cons.mpr ⟨zhold_11 h, List.forall_mem_cons.mpr ⟨zhold_12 h, List.forall_mem_cons.mpr ⟨zhold_13 h, List.forall_mem_cons.mpr ⟨zhold_14 h, List.forall_mem_cons.mpr ⟨zhold_15 h, fun _ h => nomatch h⟩⟩⟩⟩⟩⟩⟩⟩⟩⟩⟩⟩⟩⟩⟩⟩
theorem zfl_DigitOnes {args : Array Value} {s : State} (h : (Jvm.Cond.and given_1 narrow_1).before args s = true) : ∀ j : Nat, j < 100 → (Cond.eq (.elem (.static "java/lang/Integer" "DigitOnes" "[B") (.int (Int32.ofNat j))) (.int (Int32.ofNat (48 + j % 10)))).before args s = true :=
  fun j hj => match j, hj with
  | 0, _ => (br (br (br (bl (br (bl (bl (bl (bl (bl (bl (bl (bl (bl (br h)))))))))))))))
  | 1, _ => (bl (bl (br (br (bl (bl (bl (bl (bl (bl (bl (bl (bl (br h))))))))))))))
  | 2, _ => (bl (br (bl (br (br (bl (bl (bl (bl (bl (bl (bl (bl (bl (br h)))))))))))))))
  | 3, _ => (br (br (bl (br (br (bl (bl (bl (bl (bl (bl (bl (bl (bl (br h)))))))))))))))
  | 4, _ => (bl (bl (br (br (br (bl (bl (bl (bl (bl (bl (bl (bl (bl (br h)))))))))))))))
  | 5, _ => (br (bl (br (br (br (bl (bl (bl (bl (bl (bl (bl (bl (bl (br h)))))))))))))))
  | 6, _ => (bl (br (br (br (br (bl (bl (bl (bl (bl (bl (bl (bl (bl (br h)))))))))))))))
  | 7, _ => (br (br (br (br (br (bl (bl (bl (bl (bl (bl (bl (bl (bl (br h)))))))))))))))
  | 8, _ => (bl (bl (bl (bl (br (bl (bl (bl (bl (bl (bl (bl (bl (br h))))))))))))))
  | 9, _ => (bl (br (bl (bl (bl (br (bl (bl (bl (bl (bl (bl (bl (bl (br h)))))))))))))))
  | 10, _ => (br (br (bl (bl (bl (br (bl (bl (bl (bl (bl (bl (bl (bl (br h)))))))))))))))
  | 11, _ => (bl (br (bl (bl (br (bl (bl (bl (bl (bl (bl (bl (bl (br h))))))))))))))
  | 12, _ => (bl (br (br (bl (bl (br (bl (bl (bl (bl (bl (bl (bl (bl (br h)))))))))))))))
  | 13, _ => (br (br (br (bl (bl (br (bl (bl (bl (bl (bl (bl (bl (bl (br h)))))))))))))))
  | 14, _ => (bl (bl (br (bl (br (bl (bl (bl (bl (bl (bl (bl (bl (br h))))))))))))))
  | 15, _ => (bl (br (bl (br (bl (br (bl (bl (bl (bl (bl (bl (bl (bl (br h)))))))))))))))
  | 16, _ => (br (br (bl (br (bl (br (bl (bl (bl (bl (bl (bl (bl (bl (br h)))))))))))))))
  | 17, _ => (bl (br (br (bl (br (bl (bl (bl (bl (bl (bl (bl (bl (br h))))))))))))))
  | 18, _ => (bl (br (br (br (bl (br (bl (bl (bl (bl (bl (bl (bl (bl (br h)))))))))))))))
  | 19, _ => (br (br (br (br (bl (br (bl (bl (bl (bl (bl (bl (bl (bl (br h)))))))))))))))
  | 20, _ => (bl (bl (bl (br (br (bl (bl (bl (bl (bl (bl (bl (bl (br h))))))))))))))
  | 21, _ => (bl (br (bl (bl (br (br (bl (bl (bl (bl (bl (bl (bl (bl (br h)))))))))))))))
  | 22, _ => (br (br (bl (bl (br (br (bl (bl (bl (bl (bl (bl (bl (bl (br h)))))))))))))))
  | 23, _ => (bl (br (bl (br (br (bl (bl (bl (bl (bl (bl (bl (bl (br h))))))))))))))
  | 24, _ => (bl (br (br (bl (br (br (bl (bl (bl (bl (bl (bl (bl (bl (br h)))))))))))))))
  | 25, _ => (br (br (br (bl (br (br (bl (bl (bl (bl (bl (bl (bl (bl (br h)))))))))))))))
  | 26, _ => (bl (bl (br (br (br (bl (bl (bl (bl (bl (bl (bl (bl (br h))))))))))))))
  | 27, _ => (bl (br (bl (br (br (br (bl (bl (bl (bl (bl (bl (bl (bl (br h)))))))))))))))
  | 28, _ => (br (br (bl (br (br (br (bl (bl (bl (bl (bl (bl (bl (bl (br h)))))))))))))))
  | 29, _ => (bl (bl (br (br (br (br (bl (bl (bl (bl (bl (bl (bl (bl (br h)))))))))))))))
  | 30, _ => (br (bl (br (br (br (br (bl (bl (bl (bl (bl (bl (bl (bl (br h)))))))))))))))
  | 31, _ => (bl (br (br (br (br (br (bl (bl (bl (bl (bl (bl (bl (bl (br h)))))))))))))))
  | 32, _ => (br (br (br (br (br (br (bl (bl (bl (bl (bl (bl (bl (bl (br h)))))))))))))))
  | 33, _ => (bl (bl (bl (bl (bl (br (bl (bl (bl (bl (bl (bl (bl (br h))))))))))))))
  | 34, _ => (bl (br (bl (bl (bl (bl (br (bl (bl (bl (bl (bl (bl (bl (br h)))))))))))))))
  | 35, _ => (br (br (bl (bl (bl (bl (br (bl (bl (bl (bl (bl (bl (bl (br h)))))))))))))))
  | 36, _ => (bl (br (bl (bl (bl (br (bl (bl (bl (bl (bl (bl (bl (br h))))))))))))))
  | 37, _ => (bl (br (br (bl (bl (bl (br (bl (bl (bl (bl (bl (bl (bl (br h)))))))))))))))
  | 38, _ => (br (br (br (bl (bl (bl (br (bl (bl (bl (bl (bl (bl (bl (br h)))))))))))))))
  | 39, _ => (bl (bl (br (bl (bl (br (bl (bl (bl (bl (bl (bl (bl (br h))))))))))))))
  | 40, _ => (bl (br (bl (br (bl (bl (br (bl (bl (bl (bl (bl (bl (bl (br h)))))))))))))))
  | 41, _ => (br (br (bl (br (bl (bl (br (bl (bl (bl (bl (bl (bl (bl (br h)))))))))))))))
  | 42, _ => (bl (br (br (bl (bl (br (bl (bl (bl (bl (bl (bl (bl (br h))))))))))))))
  | 43, _ => (bl (br (br (br (bl (bl (br (bl (bl (bl (bl (bl (bl (bl (br h)))))))))))))))
  | 44, _ => (br (br (br (br (bl (bl (br (bl (bl (bl (bl (bl (bl (bl (br h)))))))))))))))
  | 45, _ => (bl (bl (bl (br (bl (br (bl (bl (bl (bl (bl (bl (bl (br h))))))))))))))
  | 46, _ => (bl (br (bl (bl (br (bl (br (bl (bl (bl (bl (bl (bl (bl (br h)))))))))))))))
  | 47, _ => (br (br (bl (bl (br (bl (br (bl (bl (bl (bl (bl (bl (bl (br h)))))))))))))))
  | 48, _ => (bl (br (bl (br (bl (br (bl (bl (bl (bl (bl (bl (bl (br h))))))))))))))
  | 49, _ => (bl (br (br (bl (br (bl (br (bl (bl (bl (bl (bl (bl (bl (br h)))))))))))))))
  | 50, _ => (br (br (br (bl (br (bl (br (bl (bl (bl (bl (bl (bl (bl (br h)))))))))))))))
  | 51, _ => (bl (bl (br (br (bl (br (bl (bl (bl (bl (bl (bl (bl (br h))))))))))))))
  | 52, _ => (bl (br (bl (br (br (bl (br (bl (bl (bl (bl (bl (bl (bl (br h)))))))))))))))
  | 53, _ => (br (br (bl (br (br (bl (br (bl (bl (bl (bl (bl (bl (bl (br h)))))))))))))))
  | 54, _ => (bl (bl (br (br (br (bl (br (bl (bl (bl (bl (bl (bl (bl (br h)))))))))))))))
  | 55, _ => (br (bl (br (br (br (bl (br (bl (bl (bl (bl (bl (bl (bl (br h)))))))))))))))
  | 56, _ => (bl (br (br (br (br (bl (br (bl (bl (bl (bl (bl (bl (bl (br h)))))))))))))))
  | 57, _ => (br (br (br (br (br (bl (br (bl (bl (bl (bl (bl (bl (bl (br h)))))))))))))))
  | 58, _ => (bl (bl (bl (bl (br (br (bl (bl (bl (bl (bl (bl (bl (br h))))))))))))))
  | 59, _ => (bl (br (bl (bl (bl (br (br (bl (bl (bl (bl (bl (bl (bl (br h)))))))))))))))
  | 60, _ => (br (br (bl (bl (bl (br (br (bl (bl (bl (bl (bl (bl (bl (br h)))))))))))))))
  | 61, _ => (bl (br (bl (bl (br (br (bl (bl (bl (bl (bl (bl (bl (br h))))))))))))))
  | 62, _ => (bl (br (br (bl (bl (br (br (bl (bl (bl (bl (bl (bl (bl (br h)))))))))))))))
  | 63, _ => (br (br (br (bl (bl (br (br (bl (bl (bl (bl (bl (bl (bl (br h)))))))))))))))
  | 64, _ => (bl (bl (br (bl (br (br (bl (bl (bl (bl (bl (bl (bl (br h))))))))))))))
  | 65, _ => (bl (br (bl (br (bl (br (br (bl (bl (bl (bl (bl (bl (bl (br h)))))))))))))))
  | 66, _ => (br (br (bl (br (bl (br (br (bl (bl (bl (bl (bl (bl (bl (br h)))))))))))))))
  | 67, _ => (bl (br (br (bl (br (br (bl (bl (bl (bl (bl (bl (bl (br h))))))))))))))
  | 68, _ => (bl (br (br (br (bl (br (br (bl (bl (bl (bl (bl (bl (bl (br h)))))))))))))))
  | 69, _ => (br (br (br (br (bl (br (br (bl (bl (bl (bl (bl (bl (bl (br h)))))))))))))))
  | 70, _ => (bl (bl (bl (br (br (br (bl (bl (bl (bl (bl (bl (bl (br h))))))))))))))
  | 71, _ => (bl (br (bl (bl (br (br (br (bl (bl (bl (bl (bl (bl (bl (br h)))))))))))))))
  | 72, _ => (br (br (bl (bl (br (br (br (bl (bl (bl (bl (bl (bl (bl (br h)))))))))))))))
  | 73, _ => (bl (br (bl (br (br (br (bl (bl (bl (bl (bl (bl (bl (br h))))))))))))))
  | 74, _ => (bl (br (br (bl (br (br (br (bl (bl (bl (bl (bl (bl (bl (br h)))))))))))))))
  | 75, _ => (br (br (br (bl (br (br (br (bl (bl (bl (bl (bl (bl (bl (br h)))))))))))))))
  | 76, _ => (bl (bl (br (br (br (br (bl (bl (bl (bl (bl (bl (bl (br h))))))))))))))
  | 77, _ => (bl (br (bl (br (br (br (br (bl (bl (bl (bl (bl (bl (bl (br h)))))))))))))))
  | 78, _ => (br (br (bl (br (br (br (br (bl (bl (bl (bl (bl (bl (bl (br h)))))))))))))))
  | 79, _ => (bl (bl (br (br (br (br (br (bl (bl (bl (bl (bl (bl (bl (br h)))))))))))))))
  | 80, _ => (br (bl (br (br (br (br (br (bl (bl (bl (bl (bl (bl (bl (br h)))))))))))))))
  | 81, _ => (bl (br (br (br (br (br (br (bl (bl (bl (bl (bl (bl (bl (br h)))))))))))))))
  | 82, _ => (br (br (br (br (br (br (br (bl (bl (bl (bl (bl (bl (bl (br h)))))))))))))))
  | 83, _ => (bl (bl (bl (bl (bl (bl (br (bl (bl (bl (bl (bl (bl (br h))))))))))))))
  | 84, _ => (bl (br (bl (bl (bl (bl (bl (br (bl (bl (bl (bl (bl (bl (br h)))))))))))))))
  | 85, _ => (br (br (bl (bl (bl (bl (bl (br (bl (bl (bl (bl (bl (bl (br h)))))))))))))))
  | 86, _ => (bl (br (bl (bl (bl (bl (br (bl (bl (bl (bl (bl (bl (br h))))))))))))))
  | 87, _ => (bl (br (br (bl (bl (bl (bl (br (bl (bl (bl (bl (bl (bl (br h)))))))))))))))
  | 88, _ => (br (br (br (bl (bl (bl (bl (br (bl (bl (bl (bl (bl (bl (br h)))))))))))))))
  | 89, _ => (bl (bl (br (bl (bl (bl (br (bl (bl (bl (bl (bl (bl (br h))))))))))))))
  | 90, _ => (bl (br (bl (br (bl (bl (bl (br (bl (bl (bl (bl (bl (bl (br h)))))))))))))))
  | 91, _ => (br (br (bl (br (bl (bl (bl (br (bl (bl (bl (bl (bl (bl (br h)))))))))))))))
  | 92, _ => (bl (br (br (bl (bl (bl (br (bl (bl (bl (bl (bl (bl (br h))))))))))))))
  | 93, _ => (bl (br (br (br (bl (bl (bl (br (bl (bl (bl (bl (bl (bl (br h)))))))))))))))
  | 94, _ => (br (br (br (br (bl (bl (bl (br (bl (bl (bl (bl (bl (bl (br h)))))))))))))))
  | 95, _ => (bl (bl (bl (br (bl (bl (br (bl (bl (bl (bl (bl (bl (br h))))))))))))))
  | 96, _ => (bl (br (bl (bl (br (bl (bl (br (bl (bl (bl (bl (bl (bl (br h)))))))))))))))
  | 97, _ => (br (br (bl (bl (br (bl (bl (br (bl (bl (bl (bl (bl (bl (br h)))))))))))))))
  | 98, _ => (bl (br (bl (br (bl (bl (br (bl (bl (bl (bl (bl (bl (br h))))))))))))))
  | 99, _ => (bl (br (br (bl (br (bl (bl (br (bl (bl (bl (bl (bl (bl (br h)))))))))))))))
  | j + 100, hj => absurd hj (by omega)
theorem zfl_DigitTens {args : Array Value} {s : State} (h : (Jvm.Cond.and given_1 narrow_1).before args s = true) : ∀ j : Nat, j < 100 → (Cond.eq (.elem (.static "java/lang/Integer" "DigitTens" "[B") (.int (Int32.ofNat j))) (.int (Int32.ofNat (48 + j / 10)))).before args s = true :=
  fun j hj => match j, hj with
  | 0, _ => (br (br (bl (br (br (bl (bl (br (bl (bl (bl (bl (bl (bl (br h)))))))))))))))
  | 1, _ => (bl (bl (br (br (br (bl (bl (br (bl (bl (bl (bl (bl (bl (br h)))))))))))))))
  | 2, _ => (br (bl (br (br (br (bl (bl (br (bl (bl (bl (bl (bl (bl (br h)))))))))))))))
  | 3, _ => (bl (br (br (br (br (bl (bl (br (bl (bl (bl (bl (bl (bl (br h)))))))))))))))
  | 4, _ => (br (br (br (br (br (bl (bl (br (bl (bl (bl (bl (bl (bl (br h)))))))))))))))
  | 5, _ => (bl (bl (bl (bl (br (bl (br (bl (bl (bl (bl (bl (bl (br h))))))))))))))
  | 6, _ => (bl (br (bl (bl (bl (br (bl (br (bl (bl (bl (bl (bl (bl (br h)))))))))))))))
  | 7, _ => (br (br (bl (bl (bl (br (bl (br (bl (bl (bl (bl (bl (bl (br h)))))))))))))))
  | 8, _ => (bl (br (bl (bl (br (bl (br (bl (bl (bl (bl (bl (bl (br h))))))))))))))
  | 9, _ => (bl (br (br (bl (bl (br (bl (br (bl (bl (bl (bl (bl (bl (br h)))))))))))))))
  | 10, _ => (br (br (br (bl (bl (br (bl (br (bl (bl (bl (bl (bl (bl (br h)))))))))))))))
  | 11, _ => (bl (bl (br (bl (br (bl (br (bl (bl (bl (bl (bl (bl (br h))))))))))))))
  | 12, _ => (bl (br (bl (br (bl (br (bl (br (bl (bl (bl (bl (bl (bl (br h)))))))))))))))
  | 13, _ => (br (br (bl (br (bl (br (bl (br (bl (bl (bl (bl (bl (bl (br h)))))))))))))))
  | 14, _ => (bl (br (br (bl (br (bl (br (bl (bl (bl (bl (bl (bl (br h))))))))))))))
  | 15, _ => (bl (br (br (br (bl (br (bl (br (bl (bl (bl (bl (bl (bl (br h)))))))))))))))
  | 16, _ => (br (br (br (br (bl (br (bl (br (bl (bl (bl (bl (bl (bl (br h)))))))))))))))
  | 17, _ => (bl (bl (bl (br (br (bl (br (bl (bl (bl (bl (bl (bl (br h))))))))))))))
  | 18, _ => (bl (br (bl (bl (br (br (bl (br (bl (bl (bl (bl (bl (bl (br h)))))))))))))))
  | 19, _ => (br (br (bl (bl (br (br (bl (br (bl (bl (bl (bl (bl (bl (br h)))))))))))))))
  | 20, _ => (bl (br (bl (br (br (bl (br (bl (bl (bl (bl (bl (bl (br h))))))))))))))
  | 21, _ => (bl (br (br (bl (br (br (bl (br (bl (bl (bl (bl (bl (bl (br h)))))))))))))))
  | 22, _ => (br (br (br (bl (br (br (bl (br (bl (bl (bl (bl (bl (bl (br h)))))))))))))))
  | 23, _ => (bl (bl (br (br (br (bl (br (bl (bl (bl (bl (bl (bl (br h))))))))))))))
  | 24, _ => (bl (br (bl (br (br (br (bl (br (bl (bl (bl (bl (bl (bl (br h)))))))))))))))
  | 25, _ => (br (br (bl (br (br (br (bl (br (bl (bl (bl (bl (bl (bl (br h)))))))))))))))
  | 26, _ => (bl (bl (br (br (br (br (bl (br (bl (bl (bl (bl (bl (bl (br h)))))))))))))))
  | 27, _ => (br (bl (br (br (br (br (bl (br (bl (bl (bl (bl (bl (bl (br h)))))))))))))))
  | 28, _ => (bl (br (br (br (br (br (bl (br (bl (bl (bl (bl (bl (bl (br h)))))))))))))))
  | 29, _ => (br (br (br (br (br (br (bl (br (bl (bl (bl (bl (bl (bl (br h)))))))))))))))
  | 30, _ => (bl (bl (bl (bl (bl (br (br (bl (bl (bl (bl (bl (bl (br h))))))))))))))
  | 31, _ => (bl (br (bl (bl (bl (bl (br (br (bl (bl (bl (bl (bl (bl (br h)))))))))))))))
  | 32, _ => (br (br (bl (bl (bl (bl (br (br (bl (bl (bl (bl (bl (bl (br h)))))))))))))))
  | 33, _ => (bl (br (bl (bl (bl (br (br (bl (bl (bl (bl (bl (bl (br h))))))))))))))
  | 34, _ => (bl (br (br (bl (bl (bl (br (br (bl (bl (bl (bl (bl (bl (br h)))))))))))))))
  | 35, _ => (br (br (br (bl (bl (bl (br (br (bl (bl (bl (bl (bl (bl (br h)))))))))))))))
  | 36, _ => (bl (bl (br (bl (bl (br (br (bl (bl (bl (bl (bl (bl (br h))))))))))))))
  | 37, _ => (bl (br (bl (br (bl (bl (br (br (bl (bl (bl (bl (bl (bl (br h)))))))))))))))
  | 38, _ => (br (br (bl (br (bl (bl (br (br (bl (bl (bl (bl (bl (bl (br h)))))))))))))))
  | 39, _ => (bl (br (br (bl (bl (br (br (bl (bl (bl (bl (bl (bl (br h))))))))))))))
  | 40, _ => (bl (br (br (br (bl (bl (br (br (bl (bl (bl (bl (bl (bl (br h)))))))))))))))
  | 41, _ => (br (br (br (br (bl (bl (br (br (bl (bl (bl (bl (bl (bl (br h)))))))))))))))
  | 42, _ => (bl (bl (bl (br (bl (br (br (bl (bl (bl (bl (bl (bl (br h))))))))))))))
  | 43, _ => (bl (br (bl (bl (br (bl (br (br (bl (bl (bl (bl (bl (bl (br h)))))))))))))))
  | 44, _ => (br (br (bl (bl (br (bl (br (br (bl (bl (bl (bl (bl (bl (br h)))))))))))))))
  | 45, _ => (bl (br (bl (br (bl (br (br (bl (bl (bl (bl (bl (bl (br h))))))))))))))
  | 46, _ => (bl (br (br (bl (br (bl (br (br (bl (bl (bl (bl (bl (bl (br h)))))))))))))))
  | 47, _ => (br (br (br (bl (br (bl (br (br (bl (bl (bl (bl (bl (bl (br h)))))))))))))))
  | 48, _ => (bl (bl (br (br (bl (br (br (bl (bl (bl (bl (bl (bl (br h))))))))))))))
  | 49, _ => (bl (br (bl (br (br (bl (br (br (bl (bl (bl (bl (bl (bl (br h)))))))))))))))
  | 50, _ => (br (br (bl (br (br (bl (br (br (bl (bl (bl (bl (bl (bl (br h)))))))))))))))
  | 51, _ => (bl (bl (br (br (br (bl (br (br (bl (bl (bl (bl (bl (bl (br h)))))))))))))))
  | 52, _ => (br (bl (br (br (br (bl (br (br (bl (bl (bl (bl (bl (bl (br h)))))))))))))))
  | 53, _ => (bl (br (br (br (br (bl (br (br (bl (bl (bl (bl (bl (bl (br h)))))))))))))))
  | 54, _ => (br (br (br (br (br (bl (br (br (bl (bl (bl (bl (bl (bl (br h)))))))))))))))
  | 55, _ => (bl (bl (bl (bl (br (br (br (bl (bl (bl (bl (bl (bl (br h))))))))))))))
  | 56, _ => (bl (br (bl (bl (bl (br (br (br (bl (bl (bl (bl (bl (bl (br h)))))))))))))))
  | 57, _ => (br (br (bl (bl (bl (br (br (br (bl (bl (bl (bl (bl (bl (br h)))))))))))))))
  | 58, _ => (bl (br (bl (bl (br (br (br (bl (bl (bl (bl (bl (bl (br h))))))))))))))
  | 59, _ => (bl (br (br (bl (bl (br (br (br (bl (bl (bl (bl (bl (bl (br h)))))))))))))))
  | 60, _ => (br (br (br (bl (bl (br (br (br (bl (bl (bl (bl (bl (bl (br h)))))))))))))))
  | 61, _ => (bl (bl (br (bl (br (br (br (bl (bl (bl (bl (bl (bl (br h))))))))))))))
  | 62, _ => (bl (br (bl (br (bl (br (br (br (bl (bl (bl (bl (bl (bl (br h)))))))))))))))
  | 63, _ => (br (br (bl (br (bl (br (br (br (bl (bl (bl (bl (bl (bl (br h)))))))))))))))
  | 64, _ => (bl (br (br (bl (br (br (br (bl (bl (bl (bl (bl (bl (br h))))))))))))))
  | 65, _ => (bl (br (br (br (bl (br (br (br (bl (bl (bl (bl (bl (bl (br h)))))))))))))))
  | 66, _ => (br (br (br (br (bl (br (br (br (bl (bl (bl (bl (bl (bl (br h)))))))))))))))
  | 67, _ => (bl (bl (bl (br (br (br (br (bl (bl (bl (bl (bl (bl (br h))))))))))))))
  | 68, _ => (bl (br (bl (bl (br (br (br (br (bl (bl (bl (bl (bl (bl (br h)))))))))))))))
  | 69, _ => (br (br (bl (bl (br (br (br (br (bl (bl (bl (bl (bl (bl (br h)))))))))))))))
  | 70, _ => (bl (br (bl (br (br (br (br (bl (bl (bl (bl (bl (bl (br h))))))))))))))
  | 71, _ => (bl (br (br (bl (br (br (br (br (bl (bl (bl (bl (bl (bl (br h)))))))))))))))
  | 72, _ => (br (br (br (bl (br (br (br (br (bl (bl (bl (bl (bl (bl (br h)))))))))))))))
  | 73, _ => (bl (bl (br (br (br (br (br (bl (bl (bl (bl (bl (bl (br h))))))))))))))
  | 74, _ => (bl (br (bl (br (br (br (br (br (bl (bl (bl (bl (bl (bl (br h)))))))))))))))
  | 75, _ => (br (br (bl (br (br (br (br (br (bl (bl (bl (bl (bl (bl (br h)))))))))))))))
  | 76, _ => (bl (bl (br (br (br (br (br (br (bl (bl (bl (bl (bl (bl (br h)))))))))))))))
  | 77, _ => (br (bl (br (br (br (br (br (br (bl (bl (bl (bl (bl (bl (br h)))))))))))))))
  | 78, _ => (bl (br (br (br (br (br (br (br (bl (bl (bl (bl (bl (bl (br h)))))))))))))))
  | 79, _ => (br (br (br (br (br (br (br (br (bl (bl (bl (bl (bl (bl (br h)))))))))))))))
  | 80, _ => (bl (bl (bl (bl (bl (bl (bl (br (bl (bl (bl (bl (bl (br h))))))))))))))
  | 81, _ => (bl (br (bl (bl (bl (bl (bl (bl (br (bl (bl (bl (bl (bl (br h)))))))))))))))
  | 82, _ => (br (br (bl (bl (bl (bl (bl (bl (br (bl (bl (bl (bl (bl (br h)))))))))))))))
  | 83, _ => (bl (br (bl (bl (bl (bl (bl (br (bl (bl (bl (bl (bl (br h))))))))))))))
  | 84, _ => (bl (br (br (bl (bl (bl (bl (bl (br (bl (bl (bl (bl (bl (br h)))))))))))))))
  | 85, _ => (br (br (br (bl (bl (bl (bl (bl (br (bl (bl (bl (bl (bl (br h)))))))))))))))
  | 86, _ => (bl (bl (br (bl (bl (bl (bl (br (bl (bl (bl (bl (bl (br h))))))))))))))
  | 87, _ => (bl (br (bl (br (bl (bl (bl (bl (br (bl (bl (bl (bl (bl (br h)))))))))))))))
  | 88, _ => (br (br (bl (br (bl (bl (bl (bl (br (bl (bl (bl (bl (bl (br h)))))))))))))))
  | 89, _ => (bl (br (br (bl (bl (bl (bl (br (bl (bl (bl (bl (bl (br h))))))))))))))
  | 90, _ => (bl (br (br (br (bl (bl (bl (bl (br (bl (bl (bl (bl (bl (br h)))))))))))))))
  | 91, _ => (br (br (br (br (bl (bl (bl (bl (br (bl (bl (bl (bl (bl (br h)))))))))))))))
  | 92, _ => (bl (bl (bl (br (bl (bl (bl (br (bl (bl (bl (bl (bl (br h))))))))))))))
  | 93, _ => (bl (br (bl (bl (br (bl (bl (bl (br (bl (bl (bl (bl (bl (br h)))))))))))))))
  | 94, _ => (br (br (bl (bl (br (bl (bl (bl (br (bl (bl (bl (bl (bl (br h)))))))))))))))
  | 95, _ => (bl (br (bl (br (bl (bl (bl (br (bl (bl (bl (bl (bl (br h))))))))))))))
  | 96, _ => (bl (br (br (bl (br (bl (bl (bl (br (bl (bl (bl (bl (bl (br h)))))))))))))))
  | 97, _ => (br (br (br (bl (br (bl (bl (bl (br (bl (bl (bl (bl (bl (br h)))))))))))))))
  | 98, _ => (bl (bl (br (br (bl (bl (bl (br (bl (bl (bl (bl (bl (br h))))))))))))))
  | 99, _ => (bl (br (bl (br (br (bl (bl (bl (br (bl (bl (bl (bl (bl (br h)))))))))))))))
  | j + 100, hj => absurd hj (by omega)
theorem zfl_dig {args : Array Value} {s : State} (h : (Jvm.Cond.and given_1 narrow_1).before args s = true) : (∀ j : Nat, j < 100 → (Cond.eq (.elem (.static "java/lang/Integer" "DigitOnes" "[B") (.int (Int32.ofNat j))) (.int (Int32.ofNat (48 + j % 10)))).before args s = true) ∧ (∀ j : Nat, j < 100 → (Cond.eq (.elem (.static "java/lang/Integer" "DigitTens" "[B") (.int (Int32.ofNat j))) (.int (Int32.ofNat (48 + j / 10)))).before args s = true) := ⟨zfl_DigitOnes h, zfl_DigitTens h⟩
theorem zSites {args : Array Value} {s : State} (h : (Jvm.Cond.and given_1 narrow_1).before args s = true) : ∀ t : Nat, t < 30 → ∃ q, zls (300 + t) = some q ∧ (Cond.lambdaSite q.1 q.2.1 q.2.2.1 q.2.2.2).before args s = true :=
  fun t ht => match t, ht with
  | 0, _ => ⟨_, rfl, (br (bl (br (bl (bl (br h))))))⟩
  | 1, _ => ⟨_, rfl, (bl (br (br (bl (bl (br h))))))⟩
  | 2, _ => ⟨_, rfl, (bl (br (br (br (bl (bl (br h)))))))⟩
  | 3, _ => ⟨_, rfl, (br (br (br (br (bl (bl (br h)))))))⟩
  | 4, _ => ⟨_, rfl, (bl (bl (bl (br (bl (br h))))))⟩
  | 5, _ => ⟨_, rfl, (br (bl (bl (br (bl (br h))))))⟩
  | 6, _ => ⟨_, rfl, (bl (br (bl (br (bl (br h))))))⟩
  | 7, _ => ⟨_, rfl, (br (br (bl (br (bl (br h))))))⟩
  | 8, _ => ⟨_, rfl, (bl (bl (br (br (bl (br h))))))⟩
  | 9, _ => ⟨_, rfl, (br (bl (br (br (bl (br h))))))⟩
  | 10, _ => ⟨_, rfl, (bl (br (br (br (bl (br h))))))⟩
  | 11, _ => ⟨_, rfl, (bl (br (br (br (br (bl (br h)))))))⟩
  | 12, _ => ⟨_, rfl, (br (br (br (br (br (bl (br h)))))))⟩
  | 13, _ => ⟨_, rfl, (bl (bl (bl (bl (br (br h))))))⟩
  | 14, _ => ⟨_, rfl, (br (bl (bl (bl (br (br h))))))⟩
  | 15, _ => ⟨_, rfl, (bl (br (bl (bl (br (br h))))))⟩
  | 16, _ => ⟨_, rfl, (br (br (bl (bl (br (br h))))))⟩
  | 17, _ => ⟨_, rfl, (bl (bl (br (bl (br (br h))))))⟩
  | 18, _ => ⟨_, rfl, (br (bl (br (bl (br (br h))))))⟩
  | 19, _ => ⟨_, rfl, (bl (br (br (bl (br (br h))))))⟩
  | 20, _ => ⟨_, rfl, (bl (br (br (br (bl (br (br h)))))))⟩
  | 21, _ => ⟨_, rfl, (br (br (br (br (bl (br (br h)))))))⟩
  | 22, _ => ⟨_, rfl, (bl (bl (bl (br (br (br h))))))⟩
  | 23, _ => ⟨_, rfl, (br (bl (bl (br (br (br h))))))⟩
  | 24, _ => ⟨_, rfl, (bl (br (bl (br (br (br h))))))⟩
  | 25, _ => ⟨_, rfl, (br (br (bl (br (br (br h))))))⟩
  | 26, _ => ⟨_, rfl, (bl (bl (br (br (br (br h))))))⟩
  | 27, _ => ⟨_, rfl, (br (bl (br (br (br (br h))))))⟩
  | 28, _ => ⟨_, rfl, (bl (br (br (br (br (br h))))))⟩
  | 29, _ => ⟨_, rfl, (bl (br (br (br (br (br (br h)))))))⟩
  | t + 30, ht => absurd ht (by omega)
theorem znc_flat {args : Array Value} {s : State} (h : (Jvm.Cond.and given_1 narrow_1).before args s = true) : ∀ q ∈ znc, (Cond.not (.castable q.1 q.2)).before args s = true :=
  List.forall_mem_cons.mpr ⟨(br (bl (br (br (br (bl (bl (br (br (br (bl (bl (bl (bl (br h))))))))))))))), List.forall_mem_cons.mpr ⟨(bl (br (bl (bl (br (bl (br (br (br (br (bl (bl (bl (bl (br h))))))))))))))), List.forall_mem_cons.mpr ⟨(br (br (bl (bl (bl (br (br (bl (bl (br (bl (bl (bl (bl (br h))))))))))))))), List.forall_mem_cons.mpr ⟨(bl (bl (br (br (bl (bl (br (bl (br (bl (bl (bl (bl (br h)))))))))))))), List.forall_mem_cons.mpr ⟨(bl (br (bl (br (bl (br (br (bl (br (br (bl (bl (bl (bl (br h))))))))))))))), List.forall_mem_cons.mpr ⟨(bl (br (br (bl (br (br (bl (bl (br (br (bl (bl (bl (bl (br h))))))))))))))), List.forall_mem_cons.mpr ⟨(bl (bl (bl (bl (bl (bl (bl (br (br (bl (bl (bl (bl (br h)))))))))))))), List.forall_mem_cons.mpr ⟨(bl (br (bl (br (bl (br (br (bl (br (bl (bl (bl (bl (br h)))))))))))))), List.forall_mem_cons.mpr ⟨(bl (br (bl (br (br (bl (br (br (br (br (bl (bl (bl (bl (br h))))))))))))))), List.forall_mem_cons.mpr ⟨(br (br (bl (br (bl (br (br (bl (bl (br (bl (bl (bl (bl (br h))))))))))))))), List.forall_mem_cons.mpr ⟨(br (br (br (br (br (bl (bl (br (bl (br (bl (bl (bl (bl (br h))))))))))))))), List.forall_mem_cons.mpr ⟨(bl (bl (bl (br (br (br (bl (br (br (bl (bl (bl (bl (br h)))))))))))))), List.forall_mem_cons.mpr ⟨(br (bl (br (br (br (br (bl (bl (br (br (bl (bl (bl (bl (br h))))))))))))))), List.forall_mem_cons.mpr ⟨(bl (bl (br (bl (bl (bl (bl (br (br (bl (bl (bl (bl (br h)))))))))))))), List.forall_mem_cons.mpr ⟨(br (br (br (bl (br (bl (br (br (bl (br (bl (bl (bl (bl (br h))))))))))))))), List.forall_mem_cons.mpr ⟨(bl (br (br (bl (bl (br (bl (br (br (br (bl (bl (bl (bl (br h))))))))))))))), List.forall_mem_cons.mpr ⟨(bl (br (br (br (bl (br (br (bl (bl (br (bl (bl (bl (bl (br h))))))))))))))), List.forall_mem_cons.mpr ⟨(bl (br (bl (bl (bl (br (bl (br (bl (br (bl (bl (bl (bl (br h))))))))))))))), List.forall_mem_cons.mpr ⟨(bl (br (bl (bl (br (br (br (bl (br (br (bl (bl (bl (bl (br h))))))))))))))), List.forall_mem_cons.mpr ⟨(br (br (br (br (br (br (bl (bl (br (br (bl (bl (bl (bl (br h))))))))))))))), List.forall_mem_cons.mpr ⟨(br (br (bl (br (bl (bl (bl (bl (br (br (bl (bl (bl (bl (br h))))))))))))))), List.forall_mem_cons.mpr ⟨(br (br (bl (br (br (br (bl (br (bl (br (bl (bl (bl (bl (br h))))))))))))))), List.forall_mem_cons.mpr ⟨(bl (br (bl (br (bl (bl (bl (br (br (br (bl (bl (bl (bl (br h))))))))))))))), List.forall_mem_cons.mpr ⟨(bl (br (br (br (br (br (bl (br (br (br (bl (bl (bl (bl (br h))))))))))))))), List.forall_mem_cons.mpr ⟨(bl (br (br (bl (bl (bl (bl (br (bl (br (bl (bl (bl (bl (br h))))))))))))))), List.forall_mem_cons.mpr ⟨(br (br (br (bl (br (bl (br (bl (br (br (bl (bl (bl (bl (br h))))))))))))))), List.forall_mem_cons.mpr ⟨(br (br (bl (bl (bl (br (bl (bl (br (br (bl (bl (bl (bl (br h))))))))))))))), List.forall_mem_cons.mpr ⟨(bl (br (br (br (bl (br (br (br (bl (br (bl (bl (bl (bl (br h))))))))))))))), List.forall_mem_cons.mpr ⟨(bl (br (bl (bl (bl (bl (br (br (bl (br (bl (bl (bl (bl (br h))))))))))))))), List.forall_mem_cons.mpr ⟨(bl (br (bl (bl (br (bl (bl (br (br (br (bl (bl (bl (bl (br h))))))))))))))), List.forall_mem_cons.mpr ⟨(bl (br (br (bl (bl (bl (br (br (br (br (bl (bl (bl (bl (br h))))))))))))))), List.forall_mem_cons.mpr ⟨(bl (bl (br (br (bl (br (bl (bl (br (bl (bl (bl (bl (br h)))))))))))))), List.forall_mem_cons.mpr ⟨(bl (br (br (br (br (bl (br (bl (br (br (bl (bl (bl (bl (br h))))))))))))))), List.forall_mem_cons.mpr ⟨(br (br (bl (br (bl (br (bl (bl (br (br (bl (bl (bl (bl (br h))))))))))))))), List.forall_mem_cons.mpr ⟨(bl (br (br (bl (br (br (br (br (bl (br (bl (bl (bl (bl (br h))))))))))))))), List.forall_mem_cons.mpr ⟨(bl (bl (br (br (br (bl (br (bl (br (bl (bl (bl (bl (br h)))))))))))))), List.forall_mem_cons.mpr ⟨(br (br (br (bl (bl (bl (bl (br (br (br (bl (bl (bl (bl (br h))))))))))))))), List.forall_mem_cons.mpr ⟨(bl (bl (br (br (br (br (bl (br (br (br (bl (bl (bl (bl (br h))))))))))))))), List.forall_mem_cons.mpr ⟨(br (br (br (br (bl (bl (br (bl (bl (br (bl (bl (bl (bl (br h))))))))))))))), List.forall_mem_cons.mpr ⟨(br (br (bl (bl (bl (bl (bl (br (bl (br (bl (bl (bl (bl (br h))))))))))))))), List.forall_mem_cons.mpr ⟨(bl (bl (bl (bl (br (bl (bl (br (br (bl (bl (bl (bl (br h)))))))))))))), List.forall_mem_cons.mpr ⟨(br (br (bl (br (bl (br (br (br (bl (br (bl (bl (bl (bl (br h))))))))))))))), List.forall_mem_cons.mpr ⟨(bl (br (br (bl (bl (br (br (bl (br (bl (bl (bl (bl (br h)))))))))))))), List.forall_mem_cons.mpr ⟨(bl (bl (br (br (br (bl (bl (br (br (br (bl (bl (bl (bl (br h))))))))))))))), List.forall_mem_cons.mpr ⟨(bl (bl (bl (br (bl (br (br (br (br (bl (bl (bl (bl (br h)))))))))))))), List.forall_mem_cons.mpr ⟨(bl (br (bl (bl (bl (br (br (bl (bl (br (bl (bl (bl (bl (br h))))))))))))))), List.forall_mem_cons.mpr ⟨(br (br (br (bl (br (bl (bl (br (bl (br (bl (bl (bl (bl (br h))))))))))))))), List.forall_mem_cons.mpr ⟨(bl (bl (br (bl (br (br (bl (br (br (bl (bl (bl (bl (br h)))))))))))))), List.forall_mem_cons.mpr ⟨(br (br (br (br (br (br (br (br (bl (br (bl (bl (bl (bl (br h))))))))))))))), List.forall_mem_cons.mpr ⟨(br (br (br (bl (br (br (bl (br (bl (br (bl (bl (bl (bl (br h))))))))))))))), List.forall_mem_cons.mpr ⟨(bl (br (br (bl (bl (bl (bl (br (br (br (bl (bl (bl (bl (br h))))))))))))))), List.forall_mem_cons.mpr ⟨(br (br (bl (br (br (br (bl (br (br (br (bl (bl (bl (bl (br h))))))))))))))), List.forall_mem_cons.mpr ⟨(bl (br (br (br (bl (bl (br (bl (bl (br (bl (bl (bl (bl (br h))))))))))))))), List.forall_mem_cons.mpr ⟨(bl (br (bl (bl (bl (bl (bl (br (bl (br (bl (bl (bl (bl (br h))))))))))))))), List.forall_mem_cons.mpr ⟨(bl (br (bl (br (bl (br (bl (br (br (bl (bl (bl (bl (br h)))))))))))))), List.forall_mem_cons.mpr ⟨(br (br (br (br (br (bl (bl (bl (br (br (bl (bl (bl (bl (br h))))))))))))))), List.forall_mem_cons.mpr ⟨(bl (bl (br (br (br (br (br (br (bl (bl (bl (bl (bl (br h)))))))))))))), List.forall_mem_cons.mpr ⟨(bl (br (bl (br (br (br (br (br (br (bl (bl (bl (bl (bl (br h))))))))))))))), fun _ h => nomatch h⟩⟩⟩⟩⟩⟩⟩⟩⟩⟩⟩⟩⟩⟩⟩⟩⟩⟩⟩⟩⟩⟩⟩⟩⟩⟩⟩⟩⟩⟩⟩⟩⟩⟩⟩⟩⟩⟩⟩⟩⟩⟩⟩⟩⟩⟩⟩⟩⟩⟩⟩⟩⟩⟩⟩⟩⟩⟩
