/-! ===== calls ===== -/
section ZCALL
variable {D : va_G} {z : Nat}
theorem zK.same {G : Nat → Nat} {u U : State} (e : u.vm = U.vm) (h : zK D G u) : zK D G U := h.warm (by rw [← e]; exact State.WarmedH.refl u)
/-- a method's judgement at its entry, as a contract of the machine -/
theorem zMet {y : MethodName} {cc : ByteArray} {nL : Nat} {rt : Option FieldType} {hh : List (Nat × Nat × Nat × Nat)} {d : Nat} {h : zH} {as : List Value} {o : zO} (hS : zS D z y cc nL rt hh d h 0 (lv_args 0 as) [] o) {r : Option Value ⊕ (Nat × Nat)} {h' : zH} (ho : o = some (r, h'))
    (hy : plainFor y = true) (hlen : (lg_sl as).length ≤ nL) (l : Launch) (htr : l.stackTraces = false) :
    MetFree l y (headSpec (zcw y cc nL rt hh :: lw_all) (zrm d h h')) (fun a U => a = as.toArray ∧ zK D (zG h) U ∧ zHp D z h U U.heap) (fun _ _ _ _ _ => True) (fun _ st o t => zE D z st (zus h) r h' o t) := by
  refine MetFree.of_bodySF (code := cc) (maxLocals := nL) (ret := rt) hy ?_ ?_
  · intro args s m hp hn
    obtain ⟨meth, c, h1, h2, h3, h4, h5, h6, -, -⟩ := zcw_spec hn (atoms_spec (ws := zcw y cc nL rt hh :: lw_all) hp _ List.mem_cons_self)
    exact ⟨meth, c, h1, h2, h3, h4, h5, h6⟩
  · intro p e s m args below meth c s₁ B hml hP _
    obtain ⟨rfl, K, P⟩ := hP
    have hh0 : s₁.heap = s.heap := by rw [B.state]; rfl
    have hts0 := atoms_spec (ws := zcw y cc nL rt hh :: lw_all) B.pre
    have hts : ∀ w ∈ lw_all, w.before _ s = true := fun w hw => hts0 w (List.mem_cons_of_mem _ hw)
    obtain ⟨meth9, c9, q1, q2, -, -, -, -, -, q8⟩ := zcw_spec B.named (hts0 _ List.mem_cons_self)
    cases Option.some.inj (q1.symm.trans B.method)
    cases Option.some.inj (q2.symm.trans (Stand.of_body B).code)
    have C : zCx y cc nL rt hh d p l (zrm d h h') s m as.toArray meth c := ⟨B.exec, B.bytes, findClass_of_methodNamed B.named, hts, hml, B.notSynchronized, B.returns, q8, Nat.le_refl _, Nat.le_refl _, htr, (name_of_methodNamed B.named B.method).1, B.named⟩
    have hl := lv_entry as (n := nL) hlen
    obtain ⟨k1, k2⟩ := hS r h' ho
    have k3 := k2 p l e (zrm d h h') s m as.toArray below meth c s.heap [] (zus h) _ C K P va_S.rf hl (Nat.le_refl _) (by rw [← P.1]; exact Nat.le_refl _) (Nat.le_refl _)
    rw [P.1, Nat.sub_self, Nat.sub_self, ← lg_entry_eq] at k3
    obtain ⟨t, a1, o9, b1, b2, b3⟩ := k3 s₁ hh0 (Stand.of_body B)
    exact ⟨t, o9, a1, b1, b2, b3⟩
def zPre (R : Room) (as : List Value) (z : Nat) (D : va_G) (h h' : zH) : Pt → Array Value → Prop := fun A a => A.cells + (zsz h' - zsz h) ≤ R.cells ∧ A.slots + (zus h' - zus h) ≤ R.slots ∧ a = as.toArray ∧ zK D (zG h) A.U ∧ zHp D z h A.U A.U.heap
def zAft (z : Nat) (h h' : zH) (A B : Pt) : Prop := (∃ L : List Loc, B.locs = A.locs ++ L ∧ ∀ q ∈ L, z ≤ q.base) ∧ B.cells = A.cells + (zsz h' - zsz h) ∧ B.slots = A.slots + (zus h' - zus h) ∧ A.U.heap.size ≤ B.U.heap.size ∧ ∀ q : Nat, q < A.U.heap.size → ¬ z ≤ q → B.U.heap[q]? = A.U.heap[q]?
def zPost (z : Nat) (D : va_G) (h : zH) (r : Option Value ⊕ (Nat × Nat)) (h' : zH) : Pt → Array Value → Option Value → Pt → Prop := fun A _ v B => r = .inl v ∧ zHp D z h' A.U B.U.heap ∧ zAft z h h' A B
def zPostX (z : Nat) (D : va_G) (h : zH) (r : Option Value ⊕ (Nat × Nat)) (h' : zH) : Pt → Array Value → Addr → Pt → Prop := fun A _ q B => ∃ t, r = .inr (t, q) ∧ (∃ vs, zm h' q = some (t, true, vs)) ∧ (∃ w, zcl[t]? = some w) ∧ zHp D z h' A.U B.U.heap ∧ zAft z h h' A B
theorem z_after {R : Room} {p : Program} {l : Launch} {e : Env} {below : List Frame} {s : State} {sargs : Array Value} {len : Nat} {m : MethodId} {meth : Method} {c : Code} {U : State} {Ls : List Loc} {c0 s0 : Nat} {g : JFrame} {ig : Instr} {mk : MethodId} {a : Array Value} {h h' : zH} {r : Option Value ⊕ (Nat × Nat)} {o9 : Outcome} {s₂ : State}
    (X : Stand p l e R s m sargs below meth c U Ls c0 s0) (hg : g.method = m) (hAt : At U g.method c below) (hdg : decode c.code g.pc = .ok (ig, len)) (hend : Ended s₂ (.java g :: U.frames.tail) o9) (pH : zHp D z h U U.heap)
    (hsteps : Steps p.tables e below (doInvoke e (U.setTop g) [] mk a).1 s₂) (hq : zE D z (U.calling g mk a) (zus h) r h' o9 s₂) :
    (∃ (v : Option Value) (B : Pt), Stand p l e R s m sargs below meth c B.U B.locs B.cells B.slots ∧ zPost z D h r h' ⟨U, Ls, c0, s0⟩ a v B ∧
      Steps p.tables e below (doInvoke e (U.setTop g) [] mk a).1 (B.U.setTop { g with pc := g.pc + len, stack := v.toList ++ g.stack })) ∨
    (∃ (q : Addr) (B : Pt), Stand p l e R s m sargs below meth c B.U B.locs B.cells B.slots ∧ zPostX z D h r h' ⟨U, Ls, c0, s0⟩ a q B ∧
      Steps p.tables e below (doInvoke e (U.setTop g) [] mk a).1 ((B.U.setTop g).pushFrame (.throwing q))) := by
  obtain ⟨g₀, hg0⟩ := Option.isSome_iff_exists.mp hAt.top
  obtain ⟨rr, hr⟩ := State.topJava?_eq_some.mp hg0
  have hr' : (({ U with heap := s₂.heap, slotsUsed := s₂.slotsUsed } : State).setVm s₂.vm).frames = .java g₀ :: rr := hr
  have hUh : (U.calling g mk a).heap = U.heap := rfl
  have hmc : zsz h' - (U.calling g mk a).heap.size = zsz h' - zsz h := by rw [hUh, ← pH.1]
  have hq9 : zE D z (U.calling g mk a) (zus h) r h' o9 s₂ := hq
  obtain ⟨qH, hq'⟩ := hq9
  rw [hmc] at hq'
  have qH2 : zHp D z h' U s₂.heap := qH.moved (Vm.Alike.refl U.vm)
  rcases hq' with ⟨v, L, hv, hov, hfe, hL⟩ | ⟨x, vs, ce, q, L, hx, hox, hmx, hcx, hcl, hce, hcv, hW₂, hsm, hL⟩
  · cases hov
    obtain ⟨-, hW₂, e2, q2, q3, q4, q5, q6⟩ := id hfe
    have hfrm := vx_frame (s := U.calling g mk a) (U := s₂) (locs := L) ⟨e2, q2, q3, q4, q5, q6⟩
    have e3 : s₂ = ({ (U.calling g mk a).setFrames s₂.frames with heap := s₂.heap, slotsUsed := s₂.slotsUsed } : State).setVm s₂.vm := by
      have : s₂ = ({ s₂ with vm := (U.calling g mk a).vm } : State).setVm s₂.vm := rfl
      rw [e2] at this
      exact this
    obtain ⟨c₂, i₂, len₂, hc₂, hd₂, hf₂⟩ := hend
    have hW' : U.WarmedH s₂.vm := hW₂
    have hcc : c₂ = c := by
      have h1 : s₂.code? g.method = U.code? g.method := by
        rw [State.code?_eq, State.code?_eq, hW'.alike.method?]
      exact Option.some.inj (hc₂.symm.trans (h1.trans hAt.code))
    subst hcc
    have hlen : len₂ = len := by rw [hdg] at hd₂; cases hd₂; rfl
    subst hlen
    have hs₂ : s₂ = (({ U with heap := s₂.heap, slotsUsed := s₂.slotsUsed } : State).setVm s₂.vm).setTop { g with pc := g.pc + len₂, stack := v.toList ++ g.stack } := by
      refine e3.trans ?_
      rw [hf₂, State.calling_eq hAt.top, State.setFrames_setFrames, State.setTop_of_frames _ hr', hr]
      rfl
    have hsame : U.sameButNew ({ U with heap := s₂.heap, slotsUsed := s₂.slotsUsed } : State) L (zsz h' - zsz h) (zus h' - zus h) := by
      refine ⟨?_, q2, q3, q4, q5, q6⟩
      obtain ⟨t, ht, -⟩ := State.frames_cons hr
      show ({ U with heap := s₂.heap, slotsUsed := s₂.slotsUsed } : State) = { U.setFrames U.frames with heap := s₂.heap, slotsUsed := s₂.slotsUsed }
      rw [State.setFrames_self ht]
    subst hg
    refine Or.inl ⟨v, ⟨(({ U with heap := s₂.heap, slotsUsed := s₂.slotsUsed } : State).setVm s₂.vm), Ls ++ L, c0 + (zsz h' - zsz h), s0 + (zus h' - zus h)⟩,
      ⟨X.admits, X.cas, X.clock, X.frames, X.room, X.hears, X.method, X.code, (X.here.setHeapUsed s₂.heap s₂.slotsUsed).setVm hW'.alike, X.tail, State.WarmedH.trans X.warmed hW', X.limits, X.bytes, X.same.trans (hsame.setVm s.vm)⟩,
      ⟨hv, qH2, ⟨L, rfl, hL⟩, rfl, rfl, hfrm.1, fun a ha hz => hfrm.2 a ha fun w hw e => hz (by rw [← e]; exact hL w hw)⟩, ?_⟩
    show Steps p.tables e below _ ((({ U with heap := s₂.heap, slotsUsed := s₂.slotsUsed } : State).setVm s₂.vm).setTop { g with pc := g.pc + len₂, stack := v.toList ++ g.stack })
    rw [← hs₂]
    exact hsteps
  · cases hox
    obtain ⟨e2, q2, q3, q4, q5, q6⟩ := id hsm
    have hfrm := vx_frame (s := U.calling g mk a) (U := s₂) (locs := L) ⟨e2, q2, q3, q4, q5, q6⟩
    have e3 : s₂ = ({ (U.calling g mk a).setFrames s₂.frames with heap := s₂.heap, slotsUsed := s₂.slotsUsed } : State).setVm s₂.vm := by
      have : s₂ = ({ s₂ with vm := (U.calling g mk a).vm } : State).setVm s₂.vm := rfl
      rw [e2] at this
      exact this
    have hf₂ : s₂.frames = .throwing x.2 :: .java g :: U.frames.tail := hend
    have hW' : U.WarmedH s₂.vm := hW₂
    have hs₂ : s₂ = ((({ U with heap := s₂.heap, slotsUsed := s₂.slotsUsed } : State).setVm s₂.vm).setTop g).pushFrame (.throwing x.2) := by
      refine e3.trans ?_
      rw [hf₂, State.calling_eq hAt.top, State.setFrames_setFrames, State.pushFrame, State.frames_setTop _ hr', State.setTop_of_frames _ hr', State.setFrames_setFrames, hr]
      rfl
    have hsame : U.sameButNew ({ U with heap := s₂.heap, slotsUsed := s₂.slotsUsed } : State) L (zsz h' - zsz h) (zus h' - zus h) := by
      refine ⟨?_, q2, q3, q4, q5, q6⟩
      obtain ⟨t, ht, -⟩ := State.frames_cons hr
      show ({ U with heap := s₂.heap, slotsUsed := s₂.slotsUsed } : State) = { U.setFrames U.frames with heap := s₂.heap, slotsUsed := s₂.slotsUsed }
      rw [State.setFrames_self ht]
    subst hg
    refine Or.inr ⟨x.2, ⟨(({ U with heap := s₂.heap, slotsUsed := s₂.slotsUsed } : State).setVm s₂.vm), Ls ++ L, c0 + (zsz h' - zsz h), s0 + (zus h' - zus h)⟩,
      ⟨X.admits, X.cas, X.clock, X.frames, X.room, X.hears, X.method, X.code, (X.here.setHeapUsed s₂.heap s₂.slotsUsed).setVm hW'.alike, X.tail, State.WarmedH.trans X.warmed hW', X.limits, X.bytes, X.same.trans (hsame.setVm s.vm)⟩,
      ⟨x.1, hx, ⟨vs, hmx⟩, ⟨q, hcx⟩, qH2, ⟨L, rfl, hL⟩, rfl, rfl, hfrm.1, fun a ha hz => hfrm.2 a ha fun w hw e => hz (by rw [← e]; exact hL w hw)⟩, ?_⟩
    show Steps p.tables e below _ (((({ U with heap := s₂.heap, slotsUsed := s₂.slotsUsed } : State).setVm s₂.vm).setTop g).pushFrame (.throwing x.2))
    rw [← hs₂]
    exact hsteps
theorem z_back {R : Room} {p : Program} {e : Env} {below : List Frame} {s : State} {sargs : Array Value} {len : Nat} {y : MethodName} {cc : ByteArray} {nL : Nat} {rt : Option FieldType} {hh : List (Nat × Nat × Nat × Nat)} {d : Nat} {h : zH} {as : List Value} {o : zO} (hS : zS D z y cc nL rt hh d h 0 (lv_args 0 as) [] o) {r : Option Value ⊕ (Nat × Nat)} {h' : zH} (ho : o = some (r, h'))
    (hy : plainFor y = true) (hlen : (lg_sl as).length ≤ nL) (l : Launch) (htr : l.stackTraces = false) (hts : ∀ w ∈ lw_all, w.before sargs s = true) (hcode : zcw y cc nL rt hh ∈ lw_all) (hini : Cond.initialized y.cls ∈ lw_all) {d0 : Nat} (hd : d < d0) (hnl : nL ≤ 40) (hfr : d0 ≤ R.frames) (hlo : 64 * d0 ≤ R.locals) :
    vx_Back l R p e below s sargs y len 8 (zPre R as z D h h') (zPost z D h r h') (zPostX z D h r h') := by
  have hM := zMet hS ho hy hlen l htr
  intro m meth c A g ig mk a X hg hsize hdg hW hn hp
  have hpay := pay_in (s := s) hts lw_self
  have h1 : (headSpec (zcw y cc nL rt hh :: lw_all) (zrm d h h')).pre.before a A.U = true := atoms_intro fun w hw => by
    rcases List.mem_cons.mp hw with hw | hw
    · rw [hw]; exact hpay _ hcode _ _ X.warmed
    · exact hpay _ hw _ _ X.warmed
  have h2 : (zcw y cc nL rt hh).before a A.U = true := hpay _ hcode _ _ X.warmed
  have h3 : (Cond.initialized y.cls).before a A.U = true := hpay _ hini _ _ X.warmed
  obtain ⟨p1, p2, rfl, pK, pH⟩ := hp
  have h4 : A.cells + (headSpec (zcw y cc nL rt hh :: lw_all) (zrm d h h')).room.cells ≤ R.cells := p1
  have h5 : A.slots + (headSpec (zcw y cc nL rt hh :: lw_all) (zrm d h h')).room.slots ≤ R.slots := p2
  obtain ⟨U, Ls, c0, s0⟩ := A
  dsimp only [Pt.U, Pt.locs, Pt.cells, Pt.slots] at h1 h2 h3 h4 h5 X hn pK pH ⊢
  have hPc : as.toArray = as.toArray ∧ zK D (zG h) (U.calling g mk as.toArray) ∧ zHp D z h (U.calling g mk as.toArray) (U.calling g mk as.toArray).heap := ⟨rfl, zK.same (u := U) (U := U.calling g mk as.toArray) rfl pK, pH.moved (Vm.Alike.refl U.vm)⟩
  obtain ⟨methY, cY, hmY, hcY, -, hlY, -, -, -, -⟩ := zcw_spec hn h2
  obtain ⟨kY, hkY, -⟩ := className_of_methodNamed hn
  have hinitY : kY.init = .initialized := Cond.initialized_spec (findClass_of_methodNamed hn) hkY h3
  have hAt : At U g.method c below := by rw [hg]; exact X.here
  have hr1 : (headSpec (zcw y cc nL rt hh :: lw_all) (zrm d h h')).room.frames = d := rfl
  have hr2 : (headSpec (zcw y cc nL rt hh :: lw_all) (zrm d h h')).room.locals = 64 * d := rfl
  have happ : (headSpec (zcw y cc nL rt hh :: lw_all) (zrm d h h')).appliesLoose y e.platform (U.calling g mk as.toArray) = true :=
    Spec.appliesLoose_calling (g := g) hAt hdg hn hkY hinitY
      (X.room_calling (g := g) (R' := (headSpec (zcw y cc nL rt hh :: lw_all) (zrm d h h')).room) hsize hmY hcY (by rw [hr1]; omega) (by rw [hlY, hr2]; omega) h4 h5) h1
  obtain ⟨mid, hmid⟩ := hAt.above
  have hfr9 : (U.setTop g).frames = (.java g :: mid) ++ below := by rw [State.frames_setTop' g hAt.top, hmid]; rfl
  obtain ⟨o9, s₂, hsteps, -, hend, hq⟩ := Steps.callFree hM p X.admits X.cas X.clock (acts := []) hfr9 happ hPc trivial
  rw [State.frames_setTop' g hAt.top] at hend
  exact z_after X hg hAt hdg hend pH hsteps hq
/-- the step of a call at pc, of n places, that leaves rest on the stack, as the machine's laws give it -/
def zCall (D : va_G) (z : Nat) (p : Program) (e : Env) (l : Launch) (R : Room) (s : State) (m : MethodId) (args : Array Value) (below : List Frame) (meth : Method) (c : Code) (T : State) (locs : List Loc) (cells slots : Nat) (g : JFrame) (n : Nat) (rest : List Value) (h : zH) (r : Option Value ⊕ (Nat × Nat)) (h' : zH) (a : Array Value) : Prop :=
  (∃ (v : Option Value) (vm₁ : Vm) (B : Pt), s.WarmedH vm₁ ∧ Stand p l e R s m args below meth c B.U B.locs B.cells B.slots ∧ zPost z D h r h' ⟨T.setVm vm₁, locs, cells, slots⟩ a v B ∧
      ∀ target, Steps p.tables e below (B.U.setTop { g with pc := g.pc + n, stack := v.toList ++ rest }) target → Steps p.tables e below (T.setTop g) target) ∨
    (∃ (q : Addr) (vm₁ : Vm) (B : Pt), s.WarmedH vm₁ ∧ Stand p l e R s m args below meth c B.U B.locs B.cells B.slots ∧ zPostX z D h r h' ⟨T.setVm vm₁, locs, cells, slots⟩ a q B ∧
      Steps p.tables e below (T.setTop g) ((B.U.setTop { g with stack := rest }).pushFrame (.throwing q)))
variable {y : MethodName} {cc : ByteArray} {nL : Nat} {rt : Option FieldType} {hh : List (Nat × Nat × Nat × Nat)} {d : Nat} {h : zH} {pc : Nat} {L : List (Nat × Value)} {st rest : List Value} {o : zO}
/-- a call's row, out of the machine's law of its kind -/
theorem zS_call {n : Nat} {of : zO} {X : Nat × Nat → zH → zO} {K : Option Value → zH → zO} {a : Array Value}
    (go : ∀ (r : Option Value ⊕ (Nat × Nat)) (h1 : zH), of = some (r, h1) → zle h h1 ∧ ∀ (p : Program) (l : Launch) (e : Env) (R : Room) (s : State) (m : MethodId) (args : Array Value) (below : List Frame) (meth : Method) (c : Code) (T : State) (locs : List Loc) (cells slots : Nat) (ls : Array Slot),
      zCx y cc nL rt hh d p l R s m args meth c → zK D (zG h) s → zHp D z h s T.heap → ls.size = c.maxLocals → Stand p l e R s m args below meth c T locs cells slots → cells + (zsz h1 - zsz h) ≤ R.cells → slots + (zus h1 - zus h) ≤ R.slots →
      zCall D z p e l R s m args below meth c T locs cells slots (F0 m pc ls st) n rest h r h1 a)
    (k : ∀ v h1, zS D z y cc nL rt hh d h1 (pc + n) L (v.toList ++ rest) (K v h1)) (kx : ∀ x h1, zT D z y cc nL rt hh d h1 pc L x (X x h1)) :
    zS D z y cc nL rt hh d h pc L st (zc of X K) := by
  unfold zc
  cases hof : of with
  | none => exact zS_none
  | some w =>
    obtain ⟨r, h1⟩ := w
    obtain ⟨le1, go⟩ := go r h1 hof
    intro rf h' e
    have key : ∀ (p : Program) (l : Launch) (e : Env) (R : Room) (s : State) (m : MethodId) (args : Array Value) (below : List Frame) (meth : Method) (c : Code) (H : Heap) (locs : List Loc) (u0 : Nat) (ls : Array Slot) (Q : State → Prop),
        zle h1 h' → zCx y cc nL rt hh d p l R s m args meth c → zK D (zG h) s → zHp D z h s H → va_S (fun q => z ≤ q) s.heap H locs → lv_has ls nL L → u0 ≤ zus h → zsz h' - s.heap.size ≤ R.cells → zus h' - u0 ≤ R.slots →
        (∀ (v : Option Value) (H1 : Heap) (locs1 : List Loc), r = .inl v → zHp D z h1 s H1 → va_S (fun q => z ≤ q) s.heap H1 locs1 → W p l e R s m args below meth c H1 locs1 (zsz h1 - s.heap.size) (zus h1 - u0) Q (F0 m (pc + n) ls (v.toList ++ rest))) →
        (∀ (x : Nat × Nat) (H1 : Heap) (locs1 : List Loc) (vs : List Value) (w : vw_C), r = .inr x → zHp D z h1 s H1 → va_S (fun q => z ≤ q) s.heap H1 locs1 → zm h1 x.2 = some (x.1, true, vs) → zcl[x.1]? = some w → vx_W p l e R s m args below meth c H1 locs1 (zsz h1 - s.heap.size) (zus h1 - u0) Q (F0 m pc ls rest) x.2) →
        W p l e R s m args below meth c H locs (zsz h - s.heap.size) (zus h - u0) Q (F0 m pc ls st) := by
      intro p l e R s m args below meth c H locs u0 ls Q le2 C Kk P S hl q1 q2 q3 kv kx T hT Xs
      subst hT
      have b0 : s.heap.size ≤ zsz h := by rw [P.1]; exact S.1
      have b1 : zsz h ≤ zsz h1 := le1.1
      have b2 : zsz h1 ≤ zsz h' := le2.1
      have b3 : zus h ≤ zus h1 := le1.2.1
      have b4 : zus h1 ≤ zus h' := le2.2.1
      have e1 : zsz h - s.heap.size + (zsz h1 - zsz h) = zsz h1 - s.heap.size := by omega
      have e2 : zus h - u0 + (zus h1 - zus h) = zus h1 - u0 := by omega
      rcases go p l e R s m args below meth c T locs _ _ ls C Kk P (hl.1.trans C.ml.symm) Xs (by omega) (by omega) with ⟨v, vm₁, ⟨U', l2, c2, s2⟩, hW₁, X', ⟨hv, pH, ⟨⟨L9, hL1, hL2⟩, hc, hs, f1, f2⟩⟩, stp⟩ | ⟨q, vm₁, ⟨U', l2, c2, s2⟩, hW₁, X', ⟨t9, hv, ⟨vs, hm⟩, ⟨w, hw⟩, pH, ⟨⟨L9, hL1, hL2⟩, hc, hs, f1, f2⟩⟩, stp⟩
      · dsimp only [Pt.U, Pt.locs, Pt.cells, Pt.slots] at X' pH hL1 hc hs f1 f2 stp
        subst hL1; subst hc; subst hs
        rw [e1, e2] at X'
        have pH' : zHp D z h1 s U'.heap := pH.moved hW₁.alike.symm
        obtain ⟨t, a1, a2⟩ := kv v U'.heap (locs ++ L9) hv pH' ⟨Nat.le_trans S.1 f1, fun q x1 x2 => (f2 q (Nat.lt_of_lt_of_le x1 S.1) x2).trans (S.2.1 q x1 x2), fun w hw => (List.mem_append.mp hw).elim (S.2.2 w) (hL2 w)⟩ U' rfl X'
        exact ⟨t, stp t a1, a2⟩
      · dsimp only [Pt.U, Pt.locs, Pt.cells, Pt.slots] at X' pH hL1 hc hs f1 f2 stp
        subst hL1; subst hc; subst hs
        rw [e1, e2] at X'
        have pH' : zHp D z h1 s U'.heap := pH.moved hW₁.alike.symm
        obtain ⟨t, a1, a2⟩ := kx (t9, q) U'.heap (locs ++ L9) vs w hv pH' ⟨Nat.le_trans S.1 f1, fun q x1 x2 => (f2 q (Nat.lt_of_lt_of_le x1 S.1) x2).trans (S.2.1 q x1 x2), fun w hw => (List.mem_append.mp hw).elim (S.2.2 w) (hL2 w)⟩ hm hw U' rfl X'
        exact ⟨t, stp.trans a1, a2⟩
    cases r with
    | inl v =>
      obtain ⟨k1, k2⟩ := k v h1 rf h' e
      refine ⟨zle_trans le1 k1, fun p l e R s m args below meth c H locs u0 ls C Kk P S hl q1 q2 q3 => key p l e R s m args below meth c H locs u0 ls _ k1 C Kk P S hl q1 q2 q3 (fun v' H1 locs1 hv pH S1 => ?_) (fun x H1 locs1 vs w hv => nomatch hv)⟩
      cases hv
      exact k2 p l e R s m args below meth c H1 locs1 u0 ls C (by rw [le1.2.2]; exact Kk) pH S1 hl (Nat.le_trans q1 le1.2.1) q2 q3
    | inr x =>
      obtain ⟨k1, k2⟩ := kx x h1 rf h' e
      refine ⟨zle_trans le1 k1, fun p l e R s m args below meth c H locs u0 ls C Kk P S hl q1 q2 q3 => key p l e R s m args below meth c H locs u0 ls _ k1 C Kk P S hl q1 q2 q3 (fun v' H1 locs1 hv => nomatch hv) (fun x' H1 locs1 vs w hv pH S1 hm hw => ?_)⟩
      cases hv
      exact k2 p l e R s m args below meth c H1 locs1 u0 ls rest vs w C (by rw [le1.2.2]; exact Kk) pH S1 hl hm hw (Nat.le_trans q1 le1.2.1) q2 q3
/-- what a call asks of its callee -/
def zCal (D : va_G) (z : Nat) (d0 : Nat) (h : zH) (y : MethodName) (as : List Value) (of : zO) : Prop :=
  ∃ (cc : ByteArray) (nL : Nat) (rt : Option FieldType) (hh : List (Nat × Nat × Nat × Nat)) (d : Nat), zS D z y cc nL rt hh d h 0 (lv_args 0 as) [] of ∧ plainFor y = true ∧ (lg_sl as).length ≤ nL ∧ zcw y cc nL rt hh ∈ lw_all ∧ Cond.initialized y.cls ∈ lw_all ∧ d < d0 ∧ nL ≤ 40 ∧ (y.cls ≠ "java/lang/invoke/MethodHandle" ∧ y.cls ≠ "java/lang/invoke/VarHandle")
theorem s_callS {ix : Nat} {y2 : MethodName} {as : List Value} {of : zO} {X : Nat × Nat → zH → zO} {K : Option Value → zH → zO} (hd : decode cc pc = .ok (.invokestatic ix, 3)) (hC : zCal D z d h y2 as of) (hn : (parseMethodDescriptor y2.desc).map (fun q => q.parameters.length) = some as.length) (hlk : Cond.methodLink y.cls ix y2 ∈ lw_all) (hst : Cond.static y2 ∈ lw_all) (hs : st = as.reverse ++ rest) (hcat : (rest.map fun v => v.category).sum ≤ 8)
    (k : ∀ v h1, zS D z y cc nL rt hh d h1 (pc + 3) L (v.toList ++ rest) (K v h1)) (kx : ∀ x h1, zT D z y cc nL rt hh d h1 pc L x (X x h1)) :
    zS D z y cc nL rt hh d h pc L st (zc of X K) := by
  obtain ⟨cc2, nL2, rt2, hh2, d2, hS, hpn, hlen, hcw, hini, hd2, hnl, hmh⟩ := hC
  refine zS_call (n := 3) (a := as.toArray) (fun r h1 ho => ⟨(hS r h1 ho).1, fun p l e R s m args below meth c T locs cells slots ls C Kk P hsz Xs q1 q2 => ?_⟩) k kx
  have hB := z_back (R := R) (p := p) (e := e) (below := below) (s := s) (sargs := args) (len := 3) hS ho hpn hlen l C.tr C.ts hcw hini hd2 hnl C.fr C.lo
  have hnl9 : ∀ sig, parseMethodDescriptor y2.desc = some sig → as.length = sig.parameters.length := fun sig hsg => by
    rw [hsg] at hn
    exact (Option.some.inj hn).symm
  have hpre : ∀ vm₁, s.WarmedH vm₁ → zPre R as z D h h1 ⟨T.setVm vm₁, locs, cells, slots⟩ as.toArray := fun vm₁ hW => ⟨q1, q2, rfl, Kk.warm hW, P.moved hW.alike⟩
  cases hh2 with
  | nil => exact vx_callS Xs C.hx C.own (C.ts _ hlk) (C.ts _ hst) (C.ts _ hini) (C.ts _ hcw) hmh hB rfl hsz (argsL := as) (rest := rest) hnl9 hs (lv_room hcat) (by rw [C.hb]; exact hd) hpre
  | cons q t => exact vx_callSX Xs C.hx C.own (C.ts _ hlk) (C.ts _ hst) (C.ts _ hini) (C.ts _ hcw) hmh hB rfl hsz (argsL := as) (rest := rest) hnl9 hs (lv_room hcat) (by rw [C.hb]; exact hd) hpre
theorem s_callI {ix : Nat} {y2 : MethodName} {a : Nat} {as : List Value} {of : zO} {X : Nat × Nat → zH → zO} {K : Option Value → zH → zO} (hd : decode cc pc = .ok (.invokespecial ix, 3)) (hC : zCal D z d h y2 (.ref a :: as) of) (hrt : ∃ (cc2 : ByteArray) (nL2 : Nat), Cond.code y2 cc2 nL2 none ∈ lw_all) (hnm : y2.name = "<init>") (hn : (parseMethodDescriptor y2.desc).map (fun q => q.parameters.length) = some as.length) (hlk : Cond.methodLink y.cls ix y2 ∈ lw_all) (hst : Cond.instanceMethod y2 ∈ lw_all) (hs : st = as.reverse ++ .ref a :: rest) (hcat : (rest.map fun v => v.category).sum ≤ 8)
    (k : ∀ v h1, zS D z y cc nL rt hh d h1 (pc + 3) L (v.toList ++ rest) (K v h1)) (kx : ∀ x h1, zT D z y cc nL rt hh d h1 pc L x (X x h1)) :
    zS D z y cc nL rt hh d h pc L st (zc of X K) := by
  obtain ⟨cc2, nL2, rt2, hh2, d2, hS, hpn, hlen, hcw, hini, hd2, hnl, hmh⟩ := hC
  obtain ⟨cc3, nL3, hcode⟩ := hrt
  refine zS_call (n := 3) (a := (.ref a :: as : List Value).toArray) (fun r h1 ho => ⟨(hS r h1 ho).1, fun p l e R s m args below meth c T locs cells slots ls C Kk P hsz Xs q1 q2 => ?_⟩) k kx
  have hB := z_back (R := R) (p := p) (e := e) (below := below) (s := s) (sargs := args) (len := 3) hS ho hpn hlen l C.tr C.ts hcw hini hd2 hnl C.fr C.lo
  have hnl9 : ∀ sig, parseMethodDescriptor y2.desc = some sig → as.length = sig.parameters.length := fun sig hsg => by
    rw [hsg] at hn
    exact (Option.some.inj hn).symm
  have hpre : ∀ vm₁, s.WarmedH vm₁ → zPre R (.ref a :: as) z D h h1 ⟨T.setVm vm₁, locs, cells, slots⟩ (.ref a :: as : List Value).toArray := fun vm₁ hW => ⟨q1, q2, rfl, Kk.warm hW, P.moved hW.alike⟩
  exact vx_callI Xs C.hx C.own hnm (C.ts _ hlk) (C.ts _ hst) (C.ts _ hcode) hmh hB rfl hsz (argsL := as) (rest := rest) hnl9 hs (lv_room hcat) (by rw [C.hb]; exact hd) hpre
end ZCALL
/-! ===== the other kinds of call; stores; helpers of printed walks ===== -/
section ZCALL2
variable {D : va_G} {z : Nat} {y : MethodName} {cc : ByteArray} {nL : Nat} {rt : Option FieldType} {hh : List (Nat × Nat × Nat × Nat)} {d : Nat} {h : zH} {pc : Nat} {L : List (Nat × Value)} {st rest : List Value} {o : zO}
theorem ztg_some {r : Option Nat} {t : Nat} (q : ztg h r = some t) : ∃ a e, r = some a ∧ zm h a = some e ∧ e.1 = t := by
  cases r with
  | none => cases q
  | some a =>
    cases hm : zm h a with
    | none => simp [ztg, hm] at q
    | some e => exact ⟨a, e, rfl, hm, by simpa [ztg, hm] using q⟩
theorem zCal.plen {as : List Value} {y2 : MethodName} {n : Nat} (hn : (parseMethodDescriptor y2.desc).map (fun q => q.parameters.length) = some n) (hl : as.length = n) : ∀ sig, parseMethodDescriptor y2.desc = some sig → as.length = sig.parameters.length := fun sig hsg => by
  rw [hsg] at hn
  exact hl.trans (Option.some.inj hn).symm
theorem s_callV {ix : Nat} {y2 : MethodName} {np : Nat} {as : List Value} {of : zO} {X : Nat × Nat → zH → zO} {K : Option Value → zH → zO} {r0 : Option Nat} {t : Nat} {q : vw_C} (hd : decode cc pc = .ok (.invokevirtual ix, 3)) (ht : ztg h r0 = some t) (hq : zcl[t]? = some q) (hC : zCal D z d h y2 (va_rf r0 :: as) of) (hn : (parseMethodDescriptor y2.desc).map (fun q => q.parameters.length) = some np) (hl9 : as.length = np) (hlk : Cond.methodLink y.cls ix y2 ∈ lw_all) (hin : Cond.instanceMethod y2 ∈ lw_all) (hse : Cond.selects q.1 y2 y2 ∈ lw_all) (hs : st = as.reverse ++ va_rf r0 :: rest) (hcat : (rest.map fun v => v.category).sum ≤ 8) (k : ∀ v h1, zS D z y cc nL rt hh d h1 (pc + 3) L (v.toList ++ rest) (K v h1)) (kx : ∀ x h1, zT D z y cc nL rt hh d h1 pc L x (X x h1)) :
    zS D z y cc nL rt hh d h pc L st (zc of X K) := by
  obtain ⟨a, e9, rfl, hm, rfl⟩ := ztg_some ht
  obtain ⟨cc2, nL2, rt2, hh2, d2, hS, hpn, hlen, hcw, hini, hd2, hnl, hmh⟩ := hC
  refine zS_call (n := 3) (a := (.ref a :: as : List Value).toArray) (fun r h1 ho => ⟨(hS r h1 ho).1, fun p l e R s m args below meth c T locs cells slots ls C Kk P hsz Xs q1 q2 => ?_⟩) k kx
  have hB := z_back (R := R) (p := p) (e := e) (below := below) (s := s) (sargs := args) (len := 3) hS ho hpn hlen l C.tr C.ts hcw hini hd2 hnl C.fr C.lo
  have hpre : ∀ vm₁, s.WarmedH vm₁ → zPre R (.ref a :: as) z D h h1 ⟨T.setVm vm₁, locs, cells, slots⟩ (.ref a :: as : List Value).toArray := fun vm₁ hW => ⟨q1, q2, rfl, Kk.warm hW, P.moved hW.alike⟩
  obtain ⟨cell, g1, g2, g3⟩ := zrecv Kk P hm hq
  cases hh2 with
  | nil => exact vx_callV Xs C.hx C.own (C.ts _ hlk) (C.ts _ hin) (C.ts _ hse) (C.ts _ hcw) hmh hB g1 g2 g3 rfl hsz (argsL := as) (rest := rest) (zCal.plen hn hl9) hs (lv_room hcat) (by rw [C.hb]; exact hd) hpre
  | cons w9 t9 => exact vx_callVX Xs C.hx C.own (C.ts _ hlk) (C.ts _ hin) (C.ts _ hse) (C.ts _ hcw) hmh hB g1 g2 g3 rfl hsz (argsL := as) (rest := rest) (zCal.plen hn hl9) hs (lv_room hcat) (by rw [C.hb]; exact hd) hpre
theorem s_callVN {ix : Nat} {y2 : MethodName} {np : Nat} {as : List Value} {of : zO} {X : Nat × Nat → zH → zO} {K : Option Value → zH → zO} {r0 : Option Nat} {t : Nat} {q : vw_C} {host : String} (hd : decode cc pc = .ok (.invokevirtual ix, 3)) (ht : ztg h r0 = some t) (hq : zcl[t]? = some q) (hC : zCal D z d h y2 (va_rf r0 :: as) of) (hcd : ∃ (b9 : ByteArray) (m9 : Nat) (r9 : Option FieldType), Cond.code y2 b9 m9 r9 ∈ lw_all) (hn : (parseMethodDescriptor y2.desc).map (fun q => q.parameters.length) = some np) (hl9 : as.length = np) (hlk : Cond.methodLinkNest y.cls ix y2 host ∈ lw_tbl) (hin : Cond.instanceMethod y2 ∈ lw_all) (hse : Cond.selects q.1 y2 y2 ∈ lw_all) (hs : st = as.reverse ++ va_rf r0 :: rest) (hcat : (rest.map fun v => v.category).sum ≤ 8) (k : ∀ v h1, zS D z y cc nL rt hh d h1 (pc + 3) L (v.toList ++ rest) (K v h1)) (kx : ∀ x h1, zT D z y cc nL rt hh d h1 pc L x (X x h1)) :
    zS D z y cc nL rt hh d h pc L st (zc of X K) := by
  obtain ⟨a, e9, rfl, hm, rfl⟩ := ztg_some ht
  obtain ⟨cc2, nL2, rt2, hh2, d2, hS, hpn, hlen, hcw, hini, hd2, hnl, hmh⟩ := hC
  refine zS_call (n := 3) (a := (.ref a :: as : List Value).toArray) (fun r h1 ho => ⟨(hS r h1 ho).1, fun p l e R s m args below meth c T locs cells slots ls C Kk P hsz Xs q1 q2 => ?_⟩) k kx
  have hB := z_back (R := R) (p := p) (e := e) (below := below) (s := s) (sargs := args) (len := 3) hS ho hpn hlen l C.tr C.ts hcw hini hd2 hnl C.fr C.lo
  have hpre : ∀ vm₁, s.WarmedH vm₁ → zPre R (.ref a :: as) z D h h1 ⟨T.setVm vm₁, locs, cells, slots⟩ (.ref a :: as : List Value).toArray := fun vm₁ hW => ⟨q1, q2, rfl, Kk.warm hW, P.moved hW.alike⟩
  obtain ⟨cell, g1, g2, g3⟩ := zrecv Kk P hm hq
  obtain ⟨b9, m9, r9, hcd⟩ := hcd
  exact vx_callVN Xs C.hx C.own (va_Nw.use rfl (Kk.2.2.1 _ hlk rfl)) (C.ts _ hin) (C.ts _ hse) (C.ts _ hcd) hmh hB g1 g2 g3 rfl hsz (argsL := as) (rest := rest) (zCal.plen hn hl9) hs (lv_room hcat) (by rw [C.hb]; exact hd) hpre
theorem s_callVU {ix : Nat} {y2 : MethodName} {np : Nat} {as : List Value} {of : zO} {X : Nat × Nat → zH → zO} {K : Option Value → zH → zO} {r0 : Option Nat} {t : Nat} {q : vw_C} {owner : String} {x2 : MethodName} (hd : decode cc pc = .ok (.invokevirtual ix, 3)) (ht : ztg h r0 = some t) (hq : zcl[t]? = some q) (hC : zCal D z d h y2 (va_rf r0 :: as) of) (hcd : ∃ (b9 : ByteArray) (m9 : Nat) (r9 : Option FieldType), Cond.code y2 b9 m9 r9 ∈ lw_all) (hn : (parseMethodDescriptor x2.desc).map (fun q => q.parameters.length) = some np) (hl9 : as.length = np) (hlk : Cond.methodLink y.cls ix x2 ∈ lw_all) (hsm : Cond.sameMethod x2.cls owner x2.name x2.desc ∈ lw_all) (hdl : (∃ (b9 : ByteArray) (m9 : Nat) (r9 : Option FieldType), Cond.instanceMethod ⟨owner, x2.name, x2.desc⟩ ∈ lw_all ∧ Cond.code ⟨owner, x2.name, x2.desc⟩ b9 m9 r9 ∈ lw_all) ∨ Cond.declares ⟨owner, x2.name, x2.desc⟩ ∈ lw_tbl) (hom : owner ≠ "java/lang/invoke/MethodHandle" ∧ owner ≠ "java/lang/invoke/VarHandle") (hin : Cond.instanceMethod y2 ∈ lw_all) (hse : Cond.selects q.1 x2 y2 ∈ lw_all) (hs : st = as.reverse ++ va_rf r0 :: rest) (hcat : (rest.map fun v => v.category).sum ≤ 8) (k : ∀ v h1, zS D z y cc nL rt hh d h1 (pc + 3) L (v.toList ++ rest) (K v h1)) (kx : ∀ x h1, zT D z y cc nL rt hh d h1 pc L x (X x h1)) :
    zS D z y cc nL rt hh d h pc L st (zc of X K) := by
  obtain ⟨a, e9, rfl, hm, rfl⟩ := ztg_some ht
  obtain ⟨cc2, nL2, rt2, hh2, d2, hS, hpn, hlen, hcw, hini, hd2, hnl, hmh⟩ := hC
  refine zS_call (n := 3) (a := (.ref a :: as : List Value).toArray) (fun r h1 ho => ⟨(hS r h1 ho).1, fun p l e R s m args below meth c T locs cells slots ls C Kk P hsz Xs q1 q2 => ?_⟩) k kx
  have hB := z_back (R := R) (p := p) (e := e) (below := below) (s := s) (sargs := args) (len := 3) hS ho hpn hlen l C.tr C.ts hcw hini hd2 hnl C.fr C.lo
  have hpre : ∀ vm₁, s.WarmedH vm₁ → zPre R (.ref a :: as) z D h h1 ⟨T.setVm vm₁, locs, cells, slots⟩ (.ref a :: as : List Value).toArray := fun vm₁ hW => ⟨q1, q2, rfl, Kk.warm hW, P.moved hW.alike⟩
  obtain ⟨cell, g1, g2, g3⟩ := zrecv Kk P hm hq
  obtain ⟨b9, m9, r9, hcd⟩ := hcd
  have hdecl : va_Decl s ⟨owner, x2.name, x2.desc⟩ := by
    rcases hdl with ⟨b8, m8, r8, w1, w2⟩ | w
    · exact va_Decl.of (C.ts _ w1) (C.ts _ w2)
    · exact va_Decl.abs (Kk.2.2.1 _ w rfl)
  exact vx_callVU Xs C.hx C.own (C.ts _ hlk) (C.ts _ hsm) hdecl hom (C.ts _ hse) (C.ts _ hin) (C.ts _ hcd) hB g1 g2 g3 rfl hsz (argsL := as) (rest := rest) (zCal.plen hn hl9) hs (lv_room hcat) (by rw [C.hb]; exact hd) hpre
theorem s_callSN {ix : Nat} {y2 : MethodName} {np : Nat} {as : List Value} {of : zO} {X : Nat × Nat → zH → zO} {K : Option Value → zH → zO} {host : String} (hd : decode cc pc = .ok (.invokestatic ix, 3)) (hC : zCal D z d h y2 as of) (hcd : ∃ (b9 : ByteArray) (m9 : Nat) (r9 : Option FieldType), Cond.code y2 b9 m9 r9 ∈ lw_all) (hn : (parseMethodDescriptor y2.desc).map (fun q => q.parameters.length) = some np) (hl9 : as.length = np) (hlk : Cond.methodLinkNest y.cls ix y2 host ∈ lw_tbl) (hst : Cond.static y2 ∈ lw_all) (hs : st = as.reverse ++ rest) (hcat : (rest.map fun v => v.category).sum ≤ 8) (k : ∀ v h1, zS D z y cc nL rt hh d h1 (pc + 3) L (v.toList ++ rest) (K v h1)) (kx : ∀ x h1, zT D z y cc nL rt hh d h1 pc L x (X x h1)) :
    zS D z y cc nL rt hh d h pc L st (zc of X K) := by
  obtain ⟨cc2, nL2, rt2, hh2, d2, hS, hpn, hlen, hcw, hini, hd2, hnl, hmh⟩ := hC
  refine zS_call (n := 3) (a := as.toArray) (fun r h1 ho => ⟨(hS r h1 ho).1, fun p l e R s m args below meth c T locs cells slots ls C Kk P hsz Xs q1 q2 => ?_⟩) k kx
  have hB := z_back (R := R) (p := p) (e := e) (below := below) (s := s) (sargs := args) (len := 3) hS ho hpn hlen l C.tr C.ts hcw hini hd2 hnl C.fr C.lo
  have hpre : ∀ vm₁, s.WarmedH vm₁ → zPre R as z D h h1 ⟨T.setVm vm₁, locs, cells, slots⟩ as.toArray := fun vm₁ hW => ⟨q1, q2, rfl, Kk.warm hW, P.moved hW.alike⟩
  obtain ⟨b9, m9, r9, hcd⟩ := hcd
  exact vx_callSN Xs C.hx C.own (va_Nw.use rfl (Kk.2.2.1 _ hlk rfl)) (C.ts _ hst) (C.ts _ hini) (C.ts _ hcd) hmh hB rfl hsz (argsL := as) (rest := rest) (zCal.plen hn hl9) hs (lv_room hcat) (by rw [C.hb]; exact hd) hpre
theorem s_callC {ix : Nat} {y2 : MethodName} {np : Nat} {as : List Value} {of : zO} {X : Nat × Nat → zH → zO} {K : Option Value → zH → zO} {r0 : Option Nat} (hd : decode cc pc = .ok (.invokespecial ix, 3)) (hr0 : ¬ r0 = none) (hC : zCal D z d h y2 (va_rf r0 :: as) of) (hcd : ∃ (b9 : ByteArray) (m9 : Nat), Cond.code y2 b9 m9 none ∈ lw_all) (hnm : y2.name = "<init>") (hn : (parseMethodDescriptor y2.desc).map (fun q => q.parameters.length) = some np) (hl9 : as.length = np) (hlk : Cond.methodLink y.cls ix y2 ∈ lw_all) (hin : Cond.instanceMethod y2 ∈ lw_all) (hs : st = as.reverse ++ va_rf r0 :: rest) (hcat : (rest.map fun v => v.category).sum ≤ 8) (k : ∀ v h1, zS D z y cc nL rt hh d h1 (pc + 3) L (v.toList ++ rest) (K v h1)) (kx : ∀ x h1, zT D z y cc nL rt hh d h1 pc L x (X x h1)) :
    zS D z y cc nL rt hh d h pc L st (zc of X K) := by
  cases r0 with
  | none => exact absurd rfl hr0
  | some a =>
  obtain ⟨cc2, nL2, rt2, hh2, d2, hS, hpn, hlen, hcw, hini, hd2, hnl, hmh⟩ := hC
  obtain ⟨cc3, nL3, hcode⟩ := hcd
  refine zS_call (n := 3) (a := (.ref a :: as : List Value).toArray) (fun r h1 ho => ⟨(hS r h1 ho).1, fun p l e R s m args below meth c T locs cells slots ls C Kk P hsz Xs q1 q2 => ?_⟩) k kx
  have hB := z_back (R := R) (p := p) (e := e) (below := below) (s := s) (sargs := args) (len := 3) hS ho hpn hlen l C.tr C.ts hcw hini hd2 hnl C.fr C.lo
  have hpre : ∀ vm₁, s.WarmedH vm₁ → zPre R (.ref a :: as) z D h h1 ⟨T.setVm vm₁, locs, cells, slots⟩ (.ref a :: as : List Value).toArray := fun vm₁ hW => ⟨q1, q2, rfl, Kk.warm hW, P.moved hW.alike⟩
  exact vx_callI Xs C.hx C.own hnm (C.ts _ hlk) (C.ts _ hin) (C.ts _ hcode) hmh hB rfl hsz (argsL := as) (rest := rest) (zCal.plen hn hl9) hs (lv_room hcat) (by rw [C.hb]; exact hd) hpre
theorem s_callCN {ix : Nat} {y2 : MethodName} {np : Nat} {as : List Value} {of : zO} {X : Nat × Nat → zH → zO} {K : Option Value → zH → zO} {r0 : Option Nat} {host : String} (hd : decode cc pc = .ok (.invokespecial ix, 3)) (hr0 : ¬ r0 = none) (hC : zCal D z d h y2 (va_rf r0 :: as) of) (hcd : ∃ (b9 : ByteArray) (m9 : Nat), Cond.code y2 b9 m9 none ∈ lw_all) (hnm : y2.name = "<init>") (hn : (parseMethodDescriptor y2.desc).map (fun q => q.parameters.length) = some np) (hl9 : as.length = np) (hlk : Cond.methodLinkNest y.cls ix y2 host ∈ lw_tbl) (hin : Cond.instanceMethod y2 ∈ lw_all) (hs : st = as.reverse ++ va_rf r0 :: rest) (hcat : (rest.map fun v => v.category).sum ≤ 8) (k : ∀ v h1, zS D z y cc nL rt hh d h1 (pc + 3) L (v.toList ++ rest) (K v h1)) (kx : ∀ x h1, zT D z y cc nL rt hh d h1 pc L x (X x h1)) :
    zS D z y cc nL rt hh d h pc L st (zc of X K) := by
  cases r0 with
  | none => exact absurd rfl hr0
  | some a =>
  obtain ⟨cc2, nL2, rt2, hh2, d2, hS, hpn, hlen, hcw, hini, hd2, hnl, hmh⟩ := hC
  obtain ⟨cc3, nL3, hcode⟩ := hcd
  refine zS_call (n := 3) (a := (.ref a :: as : List Value).toArray) (fun r h1 ho => ⟨(hS r h1 ho).1, fun p l e R s m args below meth c T locs cells slots ls C Kk P hsz Xs q1 q2 => ?_⟩) k kx
  have hB := z_back (R := R) (p := p) (e := e) (below := below) (s := s) (sargs := args) (len := 3) hS ho hpn hlen l C.tr C.ts hcw hini hd2 hnl C.fr C.lo
  have hpre : ∀ vm₁, s.WarmedH vm₁ → zPre R (.ref a :: as) z D h h1 ⟨T.setVm vm₁, locs, cells, slots⟩ (.ref a :: as : List Value).toArray := fun vm₁ hW => ⟨q1, q2, rfl, Kk.warm hW, P.moved hW.alike⟩
  exact vx_callIN Xs C.hx C.own hnm (va_Nw.use rfl (Kk.2.2.1 _ hlk rfl)) (C.ts _ hin) (C.ts _ hcode) hmh hB rfl hsz (argsL := as) (rest := rest) (zCal.plen hn hl9) hs (lv_room hcat) (by rw [C.hb]; exact hd) hpre
theorem s_callSU {ix : Nat} {y2 : MethodName} {np : Nat} {as : List Value} {of : zO} {X : Nat × Nat → zH → zO} {K : Option Value → zH → zO} {r0 : Option Nat} {t : Nat} {q : vw_C} (hd : decode cc pc = .ok (.invokespecial ix, 3)) (ht : ztg h r0 = some t) (hq : zcl[t]? = some q) (hC : zCal D z d h y2 (va_rf r0 :: as) of) (hcd : ∃ (b9 : ByteArray) (m9 : Nat) (r9 : Option FieldType), Cond.code y2 b9 m9 r9 ∈ lw_all) (hno : y2.name ≠ "<init>") (hn : (parseMethodDescriptor y2.desc).map (fun q => q.parameters.length) = some np) (hl9 : as.length = np) (hlk : Cond.methodLink y.cls ix y2 ∈ lw_all) (hsm : Cond.sameMethod y2.cls y2.cls y2.name y2.desc ∈ lw_all) (hsu : Cond.superclass y.cls y2.cls ∈ lw_all) (hin : Cond.instanceMethod y2 ∈ lw_all) (hs : st = as.reverse ++ va_rf r0 :: rest) (hcat : (rest.map fun v => v.category).sum ≤ 8) (k : ∀ v h1, zS D z y cc nL rt hh d h1 (pc + 3) L (v.toList ++ rest) (K v h1)) (kx : ∀ x h1, zT D z y cc nL rt hh d h1 pc L x (X x h1)) :
    zS D z y cc nL rt hh d h pc L st (zc of X K) := by
  obtain ⟨a, e9, rfl, hm, rfl⟩ := ztg_some ht
  obtain ⟨cc2, nL2, rt2, hh2, d2, hS, hpn, hlen, hcw, hini, hd2, hnl, hmh⟩ := hC
  refine zS_call (n := 3) (a := (.ref a :: as : List Value).toArray) (fun r h1 ho => ⟨(hS r h1 ho).1, fun p l e R s m args below meth c T locs cells slots ls C Kk P hsz Xs q1 q2 => ?_⟩) k kx
  have hB := z_back (R := R) (p := p) (e := e) (below := below) (s := s) (sargs := args) (len := 3) hS ho hpn hlen l C.tr C.ts hcw hini hd2 hnl C.fr C.lo
  have hpre : ∀ vm₁, s.WarmedH vm₁ → zPre R (.ref a :: as) z D h h1 ⟨T.setVm vm₁, locs, cells, slots⟩ (.ref a :: as : List Value).toArray := fun vm₁ hW => ⟨q1, q2, rfl, Kk.warm hW, P.moved hW.alike⟩
  obtain ⟨cell, g1, g2, g3⟩ := zrecv Kk P hm hq
  obtain ⟨b9, m9, r9, hcd⟩ := hcd
  obtain ⟨kB, hkB, -⟩ := Vm.findClass_spec g3
  exact vx_callSU Xs C.hx C.own (C.ts _ hlk) (C.ts _ hsm) (C.ts _ hsu) (C.ts _ hin) (C.ts _ hcd) hno hB g1 g2 hkB rfl hsz (argsL := as) (rest := rest) (zCal.plen hn hl9) hs (lv_room hcat) (by rw [C.hb]; exact hd) hpre
theorem s_callF {ix : Nat} {y2 : MethodName} {np : Nat} {as : List Value} {of : zO} {X : Nat × Nat → zH → zO} {K : Option Value → zH → zO} {r0 : Option Nat} {t : Nat} {q : vw_C} {x2 : MethodName} {cnt : Nat} (hd : decode cc pc = .ok (.invokeinterface ix cnt, 5)) (ht : ztg h r0 = some t) (hq : zcl[t]? = some q) (hC : zCal D z d h y2 (va_rf r0 :: as) of) (hcd : ∃ (b9 : ByteArray) (m9 : Nat) (r9 : Option FieldType), Cond.code y2 b9 m9 r9 ∈ lw_all) (hn : (parseMethodDescriptor x2.desc).map (fun q => q.parameters.length) = some np) (hl9 : as.length = np) (hlk : Cond.methodLink y.cls ix x2 ∈ lw_all) (hfw : (q.1, x2, y2) ∈ zfw) (hin : Cond.instanceMethod y2 ∈ lw_all) (hse : Cond.selects q.1 x2 y2 ∈ lw_all) (hs : st = as.reverse ++ va_rf r0 :: rest) (hcat : (rest.map fun v => v.category).sum ≤ 8) (k : ∀ v h1, zS D z y cc nL rt hh d h1 (pc + 5) L (v.toList ++ rest) (K v h1)) (kx : ∀ x h1, zT D z y cc nL rt hh d h1 pc L x (X x h1)) :
    zS D z y cc nL rt hh d h pc L st (zc of X K) := by
  obtain ⟨a, e9, rfl, hm, rfl⟩ := ztg_some ht
  obtain ⟨cc2, nL2, rt2, hh2, d2, hS, hpn, hlen, hcw, hini, hd2, hnl, hmh⟩ := hC
  refine zS_call (n := 5) (a := (.ref a :: as : List Value).toArray) (fun r h1 ho => ⟨(hS r h1 ho).1, fun p l e R s m args below meth c T locs cells slots ls C Kk P hsz Xs q1 q2 => ?_⟩) k kx
  have hB := z_back (R := R) (p := p) (e := e) (below := below) (s := s) (sargs := args) (len := 5) hS ho hpn hlen l C.tr C.ts hcw hini hd2 hnl C.fr C.lo
  have hpre : ∀ vm₁, s.WarmedH vm₁ → zPre R (.ref a :: as) z D h h1 ⟨T.setVm vm₁, locs, cells, slots⟩ (.ref a :: as : List Value).toArray := fun vm₁ hW => ⟨q1, q2, rfl, Kk.warm hW, P.moved hW.alike⟩
  obtain ⟨cell, g1, g2, g3⟩ := zrecv Kk P hm hq
  obtain ⟨b9, m9, r9, hcd⟩ := hcd
  obtain ⟨kB, hkB, -⟩ := Vm.findClass_spec g3
  obtain ⟨f1, f2, f3, f4, f5⟩ := Kk.2.2.2.2.2.1 _ hfw
  exact vx_callIF Xs C.hx C.own (C.ts _ hlk) (va_any rfl f1) (va_any rfl f2) (C.ts _ hse) (C.ts _ hin) (va_any rfl f3) (va_any rfl f4) (va_any rfl f5) (C.ts _ hcd) (zfw_ok _ hfw) hB g1 g2 g3 hkB rfl hsz (argsL := as) (rest := rest) (zCal.plen hn hl9) hs (lv_room hcat) (by rw [C.hb]; exact hd) hpre
theorem s_callSS {ix : Nat} {y2 : MethodName} {np : Nat} {as : List Value} {of : zO} {X : Nat × Nat → zH → zO} {K : Option Value → zH → zO}  (hd : decode cc pc = .ok (.invokestatic ix, 3)) (hC : zCal D z d h y2 as of) (hn : (parseMethodDescriptor y2.desc).map (fun q => q.parameters.length) = some np) (hl9 : as.length = np) (hlk : Cond.methodLink y.cls ix y2 ∈ lw_all) (hst : Cond.static y2 ∈ lw_all) (hs : st = as.reverse ++ rest) (hcat : (rest.map fun v => v.category).sum ≤ 8) (k : ∀ v h1, zS D z y cc nL rt hh d h1 (pc + 3) L (v.toList ++ rest) (K v h1)) (kx : ∀ x h1, zT D z y cc nL rt hh d h1 pc L x (X x h1)) :
    zS D z y cc nL rt hh d h pc L st (zc of X K) := by
  obtain ⟨cc2, nL2, rt2, hh2, d2, hS, hpn, hlen, hcw, hini, hd2, hnl, hmh⟩ := hC
  refine zS_call (n := 3) (a := as.toArray) (fun r h1 ho => ⟨(hS r h1 ho).1, fun p l e R s m args below meth c T locs cells slots ls C Kk P hsz Xs q1 q2 => ?_⟩) k kx
  have hB := z_back (R := R) (p := p) (e := e) (below := below) (s := s) (sargs := args) (len := 3) hS ho hpn hlen l C.tr C.ts hcw hini hd2 hnl C.fr C.lo
  have hpre : ∀ vm₁, s.WarmedH vm₁ → zPre R as z D h h1 ⟨T.setVm vm₁, locs, cells, slots⟩ as.toArray := fun vm₁ hW => ⟨q1, q2, rfl, Kk.warm hW, P.moved hW.alike⟩
  cases hh2 with
  | nil => exact vx_callS Xs C.hx C.own (C.ts _ hlk) (C.ts _ hst) (C.ts _ hini) (C.ts _ hcw) hmh hB rfl hsz (argsL := as) (rest := rest) (zCal.plen hn hl9) hs (lv_room hcat) (by rw [C.hb]; exact hd) hpre
  | cons w9 t9 => exact vx_callSX Xs C.hx C.own (C.ts _ hlk) (C.ts _ hst) (C.ts _ hini) (C.ts _ hcw) hmh hB rfl hsz (argsL := as) (rest := rest) (zCal.plen hn hl9) hs (lv_room hcat) (by rw [C.hb]; exact hd) hpre
theorem s_objinit {ix : Nat} {r0 : Option Nat} (hd : decode cc pc = .ok (.invokespecial ix, 3)) (hr0 : ¬ r0 = none) (hlk : Cond.methodLink y.cls ix objectInit ∈ lw_all) (hin : Cond.instanceMethod objectInit ∈ lw_all) (hcd : Cond.code objectInit ⟨#[0xb1]⟩ 1 none ∈ lw_all) (hd1 : 1 ≤ d) (hcat : (rest.map fun v => v.category).sum ≤ 8) (k : zS D z y cc nL rt hh d h (pc + 3) L rest o) : zS D z y cc nL rt hh d h pc L (va_rf r0 :: rest) o := by
  cases r0 with
  | none => exact absurd rfl hr0
  | some a =>
  refine zS_go (fun p l e0 R s m args below meth c H locs cells slots Q ls C K P S hl k => ?_) k
  have h1 := C.fr
  have h2 := C.lo
  refine W.objInit C.hx C.hb C.own (C.ts _ hlk) (C.ts _ hin) (C.ts _ hcd) rfl (by rw [C.ml]; exact hl.1) rfl hd (by omega) ?_ (k ls hl)
  show 2 * 0 + _ + 12 ≤ R.locals
  omega
theorem zkI {K : Int32 → zH → zO} (k : ∀ x h1, zS D z y cc nL rt hh d h1 pc L (.int x :: rest) (K x h1)) : ∀ (v : Option Value) (h1 : zH), zS D z y cc nL rt hh d h1 pc L (v.toList ++ rest) ((zvI v).bind fun x => K x h1) := by
  intro v h1
  cases hz : zvI v with
  | none => exact zS_none
  | some x => rw [zvI_some hz]; exact k x h1
theorem zkL {K : Int64 → zH → zO} (k : ∀ x h1, zS D z y cc nL rt hh d h1 pc L (.long x :: rest) (K x h1)) : ∀ (v : Option Value) (h1 : zH), zS D z y cc nL rt hh d h1 pc L (v.toList ++ rest) ((zvL v).bind fun x => K x h1) := by
  intro v h1
  cases hz : zvL v with
  | none => exact zS_none
  | some x => rw [zvL_some hz]; exact k x h1
theorem zkF {K : UInt32 → zH → zO} (k : ∀ x h1, zS D z y cc nL rt hh d h1 pc L (.float x :: rest) (K x h1)) : ∀ (v : Option Value) (h1 : zH), zS D z y cc nL rt hh d h1 pc L (v.toList ++ rest) ((zvF v).bind fun x => K x h1) := by
  intro v h1
  cases hz : zvF v with
  | none => exact zS_none
  | some x => rw [zvF_some hz]; exact k x h1
theorem zkD {K : UInt64 → zH → zO} (k : ∀ x h1, zS D z y cc nL rt hh d h1 pc L (.double x :: rest) (K x h1)) : ∀ (v : Option Value) (h1 : zH), zS D z y cc nL rt hh d h1 pc L (v.toList ++ rest) ((zvD v).bind fun x => K x h1) := by
  intro v h1
  cases hz : zvD v with
  | none => exact zS_none
  | some x => rw [zvD_some hz]; exact k x h1
theorem zkR {K : Option Nat → zH → zO} (k : ∀ x h1, zS D z y cc nL rt hh d h1 pc L (va_rf x :: rest) (K x h1)) : ∀ (v : Option Value) (h1 : zH), zS D z y cc nL rt hh d h1 pc L (v.toList ++ rest) ((zvR v).bind fun x => K x h1) := by
  intro v h1
  cases hz : zvR v with
  | none => exact zS_none
  | some x => rw [zvR_some hz]; exact k x h1
theorem zkV {K : zH → zO} (k : ∀ h1, zS D z y cc nL rt hh d h1 pc L rest (K h1)) : ∀ (v : Option Value) (h1 : zH), zS D z y cc nL rt hh d h1 pc L (v.toList ++ rest) (match v with
  | none => K h1
  | some _ => none) := by
  intro v h1
  cases v with
  | none => exact k h1
  | some x => exact zS_none
/-- nothing is caught -/
theorem zxo : ∀ (x : Nat × Nat) (h1 : zH), zT D z y cc nL rt [] d h1 pc L x (zX x h1) := fun x h1 => zT_out fun q hq w hw => nomatch hw
theorem zxo1 {tb : List (Nat × Nat × Nat × Nat)} (hc : tb.all (fun w => !(covers ⟨w.1, w.2.1, w.2.2.1, w.2.2.2⟩ pc)) = true) : ∀ (x : Nat × Nat) (h1 : zH), zT D z y cc nL rt tb d h1 pc L x (zX x h1) := fun x h1 => zT_out fun q hq w hw => by
  obtain ⟨w0, hw0, rfl⟩ := List.mem_map.mp hw
  have := List.all_eq_true.mp hc w0 hw0
  exact Or.inl (Bool.not_eq_true' _ |>.mp this)
theorem zp0 {own E : String} : zpass own E pc (tableOf []) := fun w hw => nomatch hw
theorem zpc {own E : String} {w : Nat × Nat × Nat × Nat} {tb : List (Nat × Nat × Nat × Nat)} (hc : covers ⟨w.1, w.2.1, w.2.2.1, w.2.2.2⟩ pc = false) (k : zpass own E pc (tableOf tb)) : zpass own E pc (tableOf (w :: tb)) := fun x hx => by
  rcases List.mem_cons.mp hx with e | e
  · rw [e]; exact Or.inl hc
  · exact k x e
theorem zpn {own E nm : String} {w : Nat × Nat × Nat × Nat} {tb : List (Nat × Nat × Nat × Nat)} (h0 : w.2.2.2 ≠ 0) (hl : Cond.classLink own w.2.2.2 nm ∈ lw_all) (hn : (E, nm) ∈ znc) (k : zpass own E pc (tableOf tb)) : zpass own E pc (tableOf (w :: tb)) := fun x hx => by
  rcases List.mem_cons.mp hx with e | e
  · rw [e]; exact Or.inr ⟨h0, nm, hl, hn⟩
  · exact k x e
/-! stores, by the places of the locals that stay -/
theorem zkeep {ls : Array Slot} {L L' : List (Nat × Value)} {i : Nat} {v : Value} {ps : List Nat} (hl : lv_has ls nL ((i, v) :: L.filter (fun q => !(q.1 == i) && !(q.1 + 1 == i && q.2.category == 2)))) (h1 : lv_pick L ps = L') (h2 : (L'.all fun q => !(q.1 == i)) = true) (h3 : ∀ q ∈ L', q.1 + 1 = i → q.2.category = 1) : lv_has ls nL ((i, v) :: L') := by
  refine ⟨hl.1, hl.2.1, fun q hq => ?_⟩
  rcases List.mem_cons.mp hq with e | e
  · exact hl.2.2 q (by rw [e]; exact List.mem_cons_self)
  · refine hl.2.2 q (List.mem_cons_of_mem _ (List.mem_filter.mpr ⟨?_, ?_⟩))
    · rw [← h1] at e
      obtain ⟨k, -, hk⟩ := List.mem_filterMap.mp e
      exact List.mem_of_getElem? hk
    · have := List.all_eq_true.mp h2 q e
      simp only [Bool.and_eq_true, this, true_and]
      by_cases hc : q.1 + 1 = i
      · rw [h3 q e hc]; simp
      · simp [hc]
theorem zkeep2 {ls : Array Slot} {L L' : List (Nat × Value)} {i : Nat} {v : Value} {ps : List Nat} (hl : lv_has ls nL ((i, v) :: L.filter (fun q => !(q.1 == i) && (!(q.1 == i + 1) && !(q.1 + 1 == i && q.2.category == 2))))) (h1 : lv_pick L ps = L') (h2 : (L'.all fun q => !(q.1 == i) && !(q.1 == i + 1)) = true) (h3 : ∀ q ∈ L', q.1 + 1 = i → q.2.category = 1) : lv_has ls nL ((i, v) :: L') := by
  refine ⟨hl.1, hl.2.1, fun q hq => ?_⟩
  rcases List.mem_cons.mp hq with e | e
  · exact hl.2.2 q (by rw [e]; exact List.mem_cons_self)
  · refine hl.2.2 q (List.mem_cons_of_mem _ (List.mem_filter.mpr ⟨?_, ?_⟩))
    · rw [← h1] at e
      obtain ⟨k, -, hk⟩ := List.mem_filterMap.mp e
      exact List.mem_of_getElem? hk
    · have := List.all_eq_true.mp h2 q e
      simp only [Bool.and_eq_true] at this ⊢
      refine ⟨this.1, this.2, ?_⟩
      by_cases hc : q.1 + 1 = i
      · rw [h3 q e hc]; simp
      · simp [hc]
theorem zcA {L' : List (Nat × Value)} {i : Nat} (h : (L'.all fun q => !(q.1 + 1 == i)) = true) : ∀ q ∈ L', q.1 + 1 = i → q.2.category = 1 := fun q hq e => by
  have := List.all_eq_true.mp h q hq
  simp [e] at this
theorem zcB {L' : List (Nat × Value)} {i j : Nat} {w : Nat × Value} (hj : L'[j]? = some w) (hw : w.2.category = 1) (h : ((L'.eraseIdx j).all fun q => !(q.1 + 1 == i)) = true) : ∀ q ∈ L', q.1 + 1 = i → q.2.category = 1 := fun q hq e => by
  obtain ⟨n, hn⟩ := List.getElem?_of_mem hq
  by_cases hnj : n = j
  · subst hnj
    cases hn.symm.trans hj
    exact hw
  · have hm : q ∈ L'.eraseIdx j := List.mem_eraseIdx_iff_getElem?.mpr ⟨n, hnj, hn⟩
    have := List.all_eq_true.mp h q hm
    simp [e] at this
theorem s_ist_n {kk : Fin 4} {i : Nat} {x : Int32} {L2 : List (Nat × Value)} (ps : List Nat) (hd : decode cc pc = .ok (.istore_n kk, 1)) (hi : (kk : Nat) = i) (hn : i < nL) (h1 : lv_pick L ps = L2) (h2 : (L2.all fun q => !(q.1 == i)) = true) (h3 : ∀ q ∈ L2, q.1 + 1 = i → q.2.category = 1) (k : zS D z y cc nL rt hh d h (pc + 1) ((i, .int x) :: L2) st o) : zS D z y cc nL rt hh d h pc L (.int x :: st) o :=
  zS_go (fun _ _ _ _ _ _ _ _ _ _ _ _ _ _ _ ls C K P S hl k => lv_istore_n C.hx C.hb hd hi hl hn rfl fun ls' hl' => k ls' (zkeep hl' h1 h2 h3)) k
theorem s_ist {i : Nat} {x : Int32} {L2 : List (Nat × Value)} (ps : List Nat) (hd : decode cc pc = .ok (.istore i, 2)) (hn : i < nL) (h1 : lv_pick L ps = L2) (h2 : (L2.all fun q => !(q.1 == i)) = true) (h3 : ∀ q ∈ L2, q.1 + 1 = i → q.2.category = 1) (k : zS D z y cc nL rt hh d h (pc + 2) ((i, .int x) :: L2) st o) : zS D z y cc nL rt hh d h pc L (.int x :: st) o :=
  zS_go (fun _ _ _ _ _ _ _ _ _ _ _ _ _ _ _ ls C K P S hl k => lv_istore C.hx C.hb hd hl hn rfl fun ls' hl' => k ls' (zkeep hl' h1 h2 h3)) k
theorem s_lst_n {kk : Fin 4} {i : Nat} {x : Int64} {L2 : List (Nat × Value)} (ps : List Nat) (hd : decode cc pc = .ok (.lstore_n kk, 1)) (hi : (kk : Nat) = i) (hn : i + 1 < nL) (h1 : lv_pick L ps = L2) (h2 : (L2.all fun q => !(q.1 == i) && !(q.1 == i + 1)) = true) (h3 : ∀ q ∈ L2, q.1 + 1 = i → q.2.category = 1) (k : zS D z y cc nL rt hh d h (pc + 1) ((i, .long x) :: L2) st o) : zS D z y cc nL rt hh d h pc L (.long x :: st) o :=
  zS_go (fun _ _ _ _ _ _ _ _ _ _ _ _ _ _ _ ls C K P S hl k => lv_lstore_n C.hx C.hb hd hi hl hn rfl fun ls' hl' => k ls' (zkeep2 hl' h1 h2 h3)) k
theorem s_lst {i : Nat} {x : Int64} {L2 : List (Nat × Value)} (ps : List Nat) (hd : decode cc pc = .ok (.lstore i, 2)) (hn : i + 1 < nL) (h1 : lv_pick L ps = L2) (h2 : (L2.all fun q => !(q.1 == i) && !(q.1 == i + 1)) = true) (h3 : ∀ q ∈ L2, q.1 + 1 = i → q.2.category = 1) (k : zS D z y cc nL rt hh d h (pc + 2) ((i, .long x) :: L2) st o) : zS D z y cc nL rt hh d h pc L (.long x :: st) o :=
  zS_go (fun _ _ _ _ _ _ _ _ _ _ _ _ _ _ _ ls C K P S hl k => lv_lstore C.hx C.hb hd hl hn rfl fun ls' hl' => k ls' (zkeep2 hl' h1 h2 h3)) k
theorem s_fst_n {kk : Fin 4} {i : Nat} {x : UInt32} {L2 : List (Nat × Value)} (ps : List Nat) (hd : decode cc pc = .ok (.fstore_n kk, 1)) (hi : (kk : Nat) = i) (hn : i < nL) (h1 : lv_pick L ps = L2) (h2 : (L2.all fun q => !(q.1 == i)) = true) (h3 : ∀ q ∈ L2, q.1 + 1 = i → q.2.category = 1) (k : zS D z y cc nL rt hh d h (pc + 1) ((i, .float x) :: L2) st o) : zS D z y cc nL rt hh d h pc L (.float x :: st) o :=
  zS_go (fun _ _ _ _ _ _ _ _ _ _ _ _ _ _ _ ls C K P S hl k => lv_fstore_n C.hx C.hb hd hi hl hn rfl fun ls' hl' => k ls' (zkeep hl' h1 h2 h3)) k
theorem s_fst {i : Nat} {x : UInt32} {L2 : List (Nat × Value)} (ps : List Nat) (hd : decode cc pc = .ok (.fstore i, 2)) (hn : i < nL) (h1 : lv_pick L ps = L2) (h2 : (L2.all fun q => !(q.1 == i)) = true) (h3 : ∀ q ∈ L2, q.1 + 1 = i → q.2.category = 1) (k : zS D z y cc nL rt hh d h (pc + 2) ((i, .float x) :: L2) st o) : zS D z y cc nL rt hh d h pc L (.float x :: st) o :=
  zS_go (fun _ _ _ _ _ _ _ _ _ _ _ _ _ _ _ ls C K P S hl k => lv_fstore C.hx C.hb hd hl hn rfl fun ls' hl' => k ls' (zkeep hl' h1 h2 h3)) k
theorem s_dst_n {kk : Fin 4} {i : Nat} {x : UInt64} {L2 : List (Nat × Value)} (ps : List Nat) (hd : decode cc pc = .ok (.dstore_n kk, 1)) (hi : (kk : Nat) = i) (hn : i + 1 < nL) (h1 : lv_pick L ps = L2) (h2 : (L2.all fun q => !(q.1 == i) && !(q.1 == i + 1)) = true) (h3 : ∀ q ∈ L2, q.1 + 1 = i → q.2.category = 1) (k : zS D z y cc nL rt hh d h (pc + 1) ((i, .double x) :: L2) st o) : zS D z y cc nL rt hh d h pc L (.double x :: st) o :=
  zS_go (fun _ _ _ _ _ _ _ _ _ _ _ _ _ _ _ ls C K P S hl k => lv_dstore_n C.hx C.hb hd hi hl hn rfl fun ls' hl' => k ls' (zkeep2 hl' h1 h2 h3)) k
theorem s_dst {i : Nat} {x : UInt64} {L2 : List (Nat × Value)} (ps : List Nat) (hd : decode cc pc = .ok (.dstore i, 2)) (hn : i + 1 < nL) (h1 : lv_pick L ps = L2) (h2 : (L2.all fun q => !(q.1 == i) && !(q.1 == i + 1)) = true) (h3 : ∀ q ∈ L2, q.1 + 1 = i → q.2.category = 1) (k : zS D z y cc nL rt hh d h (pc + 2) ((i, .double x) :: L2) st o) : zS D z y cc nL rt hh d h pc L (.double x :: st) o :=
  zS_go (fun _ _ _ _ _ _ _ _ _ _ _ _ _ _ _ ls C K P S hl k => lv_dstore C.hx C.hb hd hl hn rfl fun ls' hl' => k ls' (zkeep2 hl' h1 h2 h3)) k
theorem s_ast_n {kk : Fin 4} {i : Nat} {x : Option Nat} {L2 : List (Nat × Value)} (ps : List Nat) (hd : decode cc pc = .ok (.astore_n kk, 1)) (hi : (kk : Nat) = i) (hn : i < nL) (h1 : lv_pick L ps = L2) (h2 : (L2.all fun q => !(q.1 == i)) = true) (h3 : ∀ q ∈ L2, q.1 + 1 = i → q.2.category = 1) (k : zS D z y cc nL rt hh d h (pc + 1) ((i, va_rf x) :: L2) st o) : zS D z y cc nL rt hh d h pc L (va_rf x :: st) o := by
  cases x with
  | none => exact zS_go (fun _ _ _ _ _ _ _ _ _ _ _ _ _ _ _ ls C K P S hl k => lv_astore_nN C.hx C.hb hd hi hl hn rfl fun ls' hl' => k ls' (zkeep hl' h1 h2 h3)) k
  | some a => exact zS_go (fun _ _ _ _ _ _ _ _ _ _ _ _ _ _ _ ls C K P S hl k => lv_astore_n C.hx C.hb hd hi hl hn rfl fun ls' hl' => k ls' (zkeep hl' h1 h2 h3)) k
theorem s_ast {i : Nat} {x : Option Nat} {L2 : List (Nat × Value)} (ps : List Nat) (hd : decode cc pc = .ok (.astore i, 2)) (hn : i < nL) (h1 : lv_pick L ps = L2) (h2 : (L2.all fun q => !(q.1 == i)) = true) (h3 : ∀ q ∈ L2, q.1 + 1 = i → q.2.category = 1) (k : zS D z y cc nL rt hh d h (pc + 2) ((i, va_rf x) :: L2) st o) : zS D z y cc nL rt hh d h pc L (va_rf x :: st) o := by
  cases x with
  | none => exact zS_go (fun _ _ _ _ _ _ _ _ _ _ _ _ _ _ _ ls C K P S hl k => lv_astoreN C.hx C.hb hd hl hn rfl fun ls' hl' => k ls' (zkeep hl' h1 h2 h3)) k
  | some a => exact zS_go (fun _ _ _ _ _ _ _ _ _ _ _ _ _ _ _ ls C K P S hl k => lv_astore C.hx C.hb hd hl hn rfl fun ls' hl' => k ls' (zkeep hl' h1 h2 h3)) k
theorem s_inc {i : Nat} {n : Int} {x v : Int32} {L2 : List (Nat × Value)} (j : Nat) (ps : List Nat) (hd : decode cc pc = .ok (.iinc i n, 3)) (hj : L[j]? = some (i, .int x)) (hv : Int32.ofInt n = v) (hn : i < nL) (h1 : lv_pick L ps = L2) (h2 : (L2.all fun q => !(q.1 == i)) = true) (h3 : ∀ q ∈ L2, q.1 + 1 = i → q.2.category = 1) {K : Int32 → zO} (k : ∀ w, zS D z y cc nL rt hh d h (pc + 3) ((i, .int w) :: L2) st (K w)) : zS D z y cc nL rt hh d h pc L st (znm (x + v) K) := by
  subst hv
  exact zS_go (fun _ _ _ _ _ _ _ _ _ _ _ _ _ _ _ ls C K P S hl k => lv_iinc C.hx C.hb hd hl hj rfl hn rfl fun ls' hl' => k ls' (zkeep hl' h1 h2 h3)) (k (x + Int32.ofInt n))
end ZCALL2
