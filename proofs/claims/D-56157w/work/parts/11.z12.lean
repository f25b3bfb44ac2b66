/-! ===== lambdas: the class that is made for a site; its object; a call of it ===== -/
def zLk (σ : Lambda.Shape) (caller : String) (cc : ByteArray) (nL : Nat) (fx : List Nat) (ic : Nat) : Bool :=
  match σ.file caller with
  | none => false
  | some cf => match layoutFields cf 0, layoutMethods cf with
    | some lay, some ms => match ms[1]? with
      | none => false
      | some me => match me.code with
        | none => false
        | some co => decide (co.code.data = cc.data ∧ co.maxLocals = nL ∧ me.accessFlags = 1 ∧ me.sig.returnType = some .int) && decide (lay.2.1.toList = σ.captured) &&
          (fx.zipIdx.all fun q => match cf.constantPool[q.1]? with
            | some (.fieldref ci nt) => match cf.constantPool.nameAndType? nt with
              | some w => decide (lay.1.findIdx? (·.name == w.1) = some q.2) && (match lay.1[q.2]? with
                | some fl => !fl.isStatic && decide (fl.slot = q.2)
                | none => false)
              | none => false
            | _ => false) &&
          (match cf.constantPool[ic]? with
            | some (.methodref ci nt) => decide (cf.constantPool.className? ci = some σ.implClass) && decide (cf.constantPool.nameAndType? nt = some (σ.implName, σ.implDesc.toString)) && (match cf.constantPool[ci]? with
              | some (.class_ n) => decide (cf.constantPool.string? n = some σ.implClass) && decide (ci ≠ cf.thisClass)
              | _ => false)
            | _ => false)
    | _, _ => false
/-- what the made class holds -/
def zMd (vm : Vm) (σ : Lambda.Shape) (caller : String) (cc : ByteArray) (nL : Nat) (fx : List Nat) (ic : Nat) (c : ClassId) (k tk : Class) (methk : Method) (ck : Code) (t : ClassId) (tgt found : MethodId) (iface : ClassId) : Prop :=
  (vm.classes[c]? = some k) ∧
  (k.name = caller ++ "$$Lambda") ∧
  (k.instanceTypes.toList = σ.captured) ∧
  (vm.method? ⟨c, 1⟩ = some methk) ∧
  (methk.code = some ck) ∧
  (ck.code = cc) ∧
  (ck.maxLocals = nL) ∧
  (ck.exceptionTable = #[]) ∧
  (methk.locks = false) ∧
  (methk.accessFlags = 1) ∧
  (methk.sig.returnType = some .int) ∧
  (∀ (j f : Nat), fx[j]? = some f → ∃ fl, vm.fieldReady c f c fl ∧ fl.isStatic = false ∧ fl.slot = j) ∧
  (vm.findClass σ.implClass = some t) ∧
  (vm.classes[t]? = some tk) ∧
  (((methodIn t σ.implName σ.implDesc.toString tk.isInterface none).ask { classPath := fun _ => none } vm).1 = .ok tgt) ∧
  (vm.methodReady c ic tgt) ∧
  (∃ (ci nt : Nat) (file : ClassFile), k.cf = some file ∧ file.constantPool[ic]? = some (.methodref ci nt) ∧ file.constantPool.nameAndType? nt = some (σ.implName, σ.implDesc.toString) ∧ vm.classReady c ci t) ∧
  (vm.findClass σ.iface = some iface) ∧
  (((methodIn iface σ.name σ.sam.toString true none).ask { classPath := fun _ => none } vm).1 = .ok found) ∧
  (selectMethod {} vm c found = .method ⟨c, 1⟩)
theorem zMade {vm : Vm} {d c : ClassId} {dk : Class} {σ : Lambda.Shape} {caller : String} {cc : ByteArray} {nL : Nat} {fx : List Nat} {ic : Nat} (hd : vm.classes[d]? = some dk) (hname : dk.name = caller) (hk : zLk σ caller cc nL fx ic = true)
    (hobj : ∀ o ok, vm.findClass "java/lang/Object" = some o → vm.classes[o]? = some ok → ok.instanceTypes = #[]) (h : Lambda.isMade { classPath := fun _ => none } vm d σ c = true) :
    ∃ (k tk : Class) (methk : Method) (ck : Code) (t : ClassId) (tgt found : MethodId) (iface : ClassId), zMd vm σ caller cc nL fx ic c k tk methk ck t tgt found iface := by
  obtain ⟨dk', k, ok, tk, file, cf, object, iface, t, lay, methods, target, found, hd', hk1, hfile, hcf, ho, hi, hok, hlay, hms, ht, htk, hg, hfnd, hrec, -, -, -, -, hpool, hmeth, hflds, htyp, hres, hsel⟩ := Lambda.isMade_spec h
  cases hd.symm.trans hd'
  have hot := hobj _ _ ho hok
  rw [hname] at hcf
  rw [hot] at hlay htyp
  have hlay : layoutFields cf 0 = some lay := hlay
  unfold zLk at hk
  rw [hcf] at hk
  dsimp only at hk
  rw [hlay, hms] at hk
  dsimp only at hk
  cases hm1 : methods[1]? with
  | none => rw [hm1] at hk; cases hk
  | some me =>
    rw [hm1] at hk
    dsimp only at hk
    cases hco : me.code with
    | none => rw [hco] at hk; cases hk
    | some co =>
      rw [hco] at hk
      simp only [Bool.and_eq_true, decide_eq_true_eq] at hk
      obtain ⟨⟨⟨⟨k1, k2, k3, k4⟩, k5⟩, k6⟩, k7⟩ := hk
      obtain ⟨b, hb, hsame⟩ := hmeth 1 me hm1
      obtain ⟨s1, s2, s3, s4, x9, y9, s5, s6, -, s7, s8, s9⟩ := Lambda.sameMethod_spec hsame
      cases hco.symm.trans s5
      have hfr : ∀ (j f : Nat), fx[j]? = some f → ∃ fl, vm.fieldReady c f c fl ∧ fl.isStatic = false ∧ fl.slot = j := by
        intro j f hj
        have h1 := List.all_eq_true.mp k6 (f, j) (by rw [List.mem_zipIdx_iff_getElem?]; exact hj)
        dsimp only at h1
        split at h1
        · rename_i ci nt hcp
          split at h1
          · rename_i w hw
            simp only [Bool.and_eq_true, decide_eq_true_eq] at h1
            obtain ⟨h2, h3⟩ := h1
            split at h3
            · rename_i fl hfl
              simp only [Bool.and_eq_true, decide_eq_true_eq, Bool.not_eq_true'] at h3
              exact ⟨fl, ⟨k, j, k, hk1, hres f _ (Lambda.resolvedOf_field hcp (name := w.1) (desc := w.2) hw h2), hk1, hflds j fl hfl⟩, h3.1, h3.2⟩
            · cases h3
          · cases h1
        · cases h1
      split at k7
      · rename_i ci nt hcp
        simp only [Bool.and_eq_true, decide_eq_true_eq] at k7
        obtain ⟨⟨k8, k9⟩, k10⟩ := k7
        split at k10
        · rename_i n hcl
          simp only [Bool.and_eq_true, decide_eq_true_eq] at k10
          refine ⟨k, tk, b, y9, t, target, found, iface, hk1, by rw [hrec.1, hname], by rw [htyp.1, Array.toList_append, k5]; rfl, by simp [Vm.method?, hk1, hb], s6, ?_, s7.trans k2, s9, ?_, s4.trans k3, by rw [s3]; exact k4, hfr, ht, htk, hg, ⟨k, hk1, hres ic _ (Lambda.resolvedOf_method hcp k8 ht htk k9 hg)⟩,
            ⟨ci, nt, file, hfile, by rw [hpool.2.1]; exact hcp, by rw [hpool.2.1]; exact k9, ⟨k, hk1, hres ci _ (Lambda.resolvedOf_class hcl k10.2 k10.1 ht)⟩⟩, hi, hfnd, hsel⟩
          · rw [s8]
            exact ByteArray.ext k1
          · simp [Method.locks, Method.isSynchronized, s4, k3, hasFlag, Acc.synchronized]
        · cases k10
      · cases k7
/-- the code of a made class's method: what is captured is read, the arguments are loaded, the target is called -/
def zLc (cc : ByteArray) (fx : List Nat) (ks : List Bool) (ic : Nat) (stat : Bool) : Bool :=
  (fx.zipIdx.all fun q => decide (decode cc (4 * q.2) = .ok (.aload_n 0, 1)) && decide (decode cc (4 * q.2 + 1) = .ok (.getfield q.1, 3))) &&
  (ks.zipIdx.all fun q => if q.1 then decide (decode cc (4 * fx.length + q.2) = .ok (.aload_n (Fin.ofNat 4 (q.2 + 1)), 1)) else decide (decode cc (4 * fx.length + q.2) = .ok (.iload_n (Fin.ofNat 4 (q.2 + 1)), 1))) &&
  decide (decode cc (4 * fx.length + ks.length) = .ok (if stat then .invokestatic ic else .invokevirtual ic, 3)) && decide (decode cc (4 * fx.length + ks.length + 3) = .ok (.ireturn, 1)) && decide (ks.length ≤ 3)
section ZLAM
variable {D : va_G} {z : Nat}
variable {p : Program} {l : Launch} {e : Env} {R : Room} {s : State} {m : MethodId} {args : Array Value} {below : List Frame} {meth : Method} {c : Code} {H : Heap} {locs : List Loc} {cells slots : Nat} {Q : State → Prop} {cc : ByteArray} {pc : Nat} {ls : Array Slot} {rest : List Value}
theorem zW_getR {ix a j : Nat} {cell : Cell} {v : Value} (hexec : p.tables.exec = Jvm.exec) (hb : c.code = cc) (hr : ∀ vm', s.WarmedH vm' → ∃ fl, vm'.fieldReady m.cls ix m.cls fl ∧ fl.isStatic = false ∧ fl.slot = j) (hc : H[a]? = some cell) (hu : cell.vm ≠ .unknown) (hv : cell.slots[j]? = some v) (hd : decode cc pc = .ok (.getfield ix, 3))
    (k : W p l e R s m args below meth c H locs cells slots Q (F0 m (pc + 3) ls (v :: rest))) : W p l e R s m args below meth c H locs cells slots Q (F0 m pc ls (.ref a :: rest)) := by
  intro T hT X
  obtain ⟨fl, f1, f2, rfl⟩ := hr T.vm X.warmed
  obtain ⟨t, a1, b1⟩ := k T hT X
  refine ⟨t, ?_, b1⟩
  jvm_step X.here [hexec, hb, hd, getfield.wp_ready (e := e) (s := T) (c := m.cls) (field := fl) (a := a) (rest := rest) (cell := cell) (v := v) (f := F0 m pc ls (.ref a :: rest)) X.here.top f1 f2 rfl (by rw [hT]; exact hc) hu hv]
  exact a1
/-- what is captured, from the j-th on -/
theorem zW_caps {fx : List Nat} {cs : List Value} {a nL : Nat} {cell : Cell} {L : List (Nat × Value)} (hexec : p.tables.exec = Jvm.exec) (hb : c.code = cc) (hr : ∀ vm', s.WarmedH vm' → ∀ (j f : Nat), fx[j]? = some f → ∃ fl, vm'.fieldReady m.cls f m.cls fl ∧ fl.isStatic = false ∧ fl.slot = j) (hc : H[a]? = some cell) (hu : cell.vm ≠ .unknown) (hcs : cell.slots.toList = cs) (hlen : fx.length = cs.length)
    (hd : (fx.zipIdx.all fun q => decide (decode cc (4 * q.2) = .ok (.aload_n 0, 1)) && decide (decode cc (4 * q.2 + 1) = .ok (.getfield q.1, 3))) = true) (hl : lv_has ls nL ((0, .ref a) :: L))
    (k : W p l e R s m args below meth c H locs cells slots Q (F0 m (4 * fx.length) ls cs.reverse)) : ∀ n j, n + j = fx.length → W p l e R s m args below meth c H locs cells slots Q (F0 m (4 * j) ls (cs.take j).reverse) := by
  intro n
  induction n with
  | zero =>
    intro j hj
    have hj' : j = fx.length := by omega
    subst hj'
    rw [hlen, List.take_length, ← hlen]
    exact k
  | succ n ih =>
    intro j hj
    have hjl : j < fx.length := by omega
    have hjc : j < cs.length := by omega
    have h1 := List.all_eq_true.mp hd (fx[j], j) (by rw [List.mem_zipIdx_iff_getElem?]; exact List.getElem?_eq_getElem hjl)
    simp only [Bool.and_eq_true, decide_eq_true_eq] at h1
    refine lv_aload_n hexec hb h1.1 rfl (lv_at hl 0 rfl) ?_
    refine zW_getR hexec hb (fun vm' hW => hr vm' hW j _ (List.getElem?_eq_getElem hjl)) hc hu (v := cs[j]) (by rw [← Array.getElem?_toList, hcs]; exact List.getElem?_eq_getElem hjc) h1.2 ?_
    have h2 := ih (j + 1) (by omega)
    rw [List.take_succ_eq_append_getElem hjc, List.reverse_append] at h2
    exact h2
/-- the arguments, from the j-th on -/
theorem zW_args {ks : List Bool} {as st0 : List Value} {n0 : Nat} (hexec : p.tables.exec = Jvm.exec) (hb : c.code = cc) (hlen : ks.length = as.length) (h3 : ks.length ≤ 3) (hkind : ∀ (k : Nat) (v : Value), as[k]? = some v → (ks[k]? = some true ∧ (v = .null ∨ ∃ a, v = .ref a)) ∨ (ks[k]? = some false ∧ ∃ x, v = .int x)) (hls : ∀ (k : Nat) (v : Value), as[k]? = some v → ls[k + 1]? = some (.val v))
    (hd : (ks.zipIdx.all fun q => if q.1 then decide (decode cc (n0 + q.2) = .ok (.aload_n (Fin.ofNat 4 (q.2 + 1)), 1)) else decide (decode cc (n0 + q.2) = .ok (.iload_n (Fin.ofNat 4 (q.2 + 1)), 1))) = true)
    (k : W p l e R s m args below meth c H locs cells slots Q (F0 m (n0 + ks.length) ls (as.reverse ++ st0))) : ∀ n j, n + j = ks.length → W p l e R s m args below meth c H locs cells slots Q (F0 m (n0 + j) ls ((as.take j).reverse ++ st0)) := by
  intro n
  induction n with
  | zero =>
    intro j hj
    have hj' : j = ks.length := by omega
    subst hj'
    rw [hlen, List.take_length, ← hlen]
    exact k
  | succ n ih =>
    intro j hj
    have hjl : j < ks.length := by omega
    have hjc : j < as.length := by omega
    have h1 := List.all_eq_true.mp hd (ks[j], j) (by rw [List.mem_zipIdx_iff_getElem?]; exact List.getElem?_eq_getElem hjl)
    have h2 := ih (j + 1) (by omega)
    rw [List.take_succ_eq_append_getElem hjc, List.reverse_append] at h2
    have hfin : ((Fin.ofNat 4 (j + 1) : Fin 4) : Nat) = j + 1 := by
      show (j + 1) % 4 = j + 1
      omega
    have hsl := hls j _ (List.getElem?_eq_getElem hjc)
    rcases hkind j _ (List.getElem?_eq_getElem hjc) with ⟨q1, q2⟩ | ⟨q1, x, q2⟩
    · rw [List.getElem?_eq_getElem hjl] at q1
      rw [Option.some.inj q1] at h1
      rcases q2 with q2 | ⟨a, q2⟩
      · rw [q2] at h2 hsl
        exact lv_aload_nN hexec hb (of_decide_eq_true h1) hfin hsl h2
      · rw [q2] at h2 hsl
        exact lv_aload_n hexec hb (of_decide_eq_true h1) hfin hsl h2
    · rw [List.getElem?_eq_getElem hjl] at q1
      rw [Option.some.inj q1] at h1
      rw [q2] at h2 hsl
      exact lv_iload_n hexec hb (of_decide_eq_true h1) hfin hsl h2
theorem zcw_named {y : MethodName} {nL : Nat} {rt : Option FieldType} {hh : List (Nat × Nat × Nat × Nat)} (h : (zcw y cc nL rt hh).before args s = true) : ∃ m, s.methodNamed? y = some m := by
  cases hh with
  | nil => exact Cond.code_named h
  | cons q t =>
    obtain ⟨m9, meth, c, hn9, -⟩ := Cond.codeWith_spec h
    exact ⟨m9, hn9⟩
/-- the call of the target: static, or of what was captured first -/
theorem zlamCall {σ : Lambda.Shape} {caller : String} {nL ic : Nat} {fx : List Nat} {stat : Bool} {T : State} {vals : List Value} {y2 : MethodName} {cc2 : ByteArray} {nL2 : Nat} {rt2 : Option FieldType} {hh2 : List (Nat × Nat × Nat × Nat)} {Pre : Pt → Array Value → Prop} {Post : Pt → Array Value → Option Value → Pt → Prop} {PostX : Pt → Array Value → Addr → Pt → Prop}
    (X : Stand p l e R s m args below meth c T locs cells slots) (hexec : p.tables.exec = Jvm.exec) (hb : c.code = cc) (hsz : ls.size = c.maxLocals) (hF : ∀ vm', s.WarmedH vm' → ∃ (k tk : Class) (methk : Method) (ck : Code) (t : ClassId) (tgt found : MethodId) (iface : ClassId), zMd vm' σ caller cc nL fx ic m.cls k tk methk ck t tgt found iface)
    (hd : decode cc pc = .ok (if stat = true then .invokestatic ic else .invokevirtual ic, 3)) (hy2 : y2 = ⟨σ.implClass, σ.implName, σ.implDesc.toString⟩) (hmh : y2.cls ≠ "java/lang/invoke/MethodHandle" ∧ y2.cls ≠ "java/lang/invoke/VarHandle")
    (hcode : (zcw y2 cc2 nL2 rt2 hh2).before args s = true) (hini : (Cond.initialized y2.cls).before args s = true) (hn : (parseMethodDescriptor y2.desc).map (fun q => q.parameters.length) = some (if stat = true then vals.length else vals.length - 1))
    (hst : if stat = true then (Cond.static y2).before args s = true else (Cond.instanceMethod y2).before args s = true ∧ s.PrivateAt y2 ∧ (∀ kP, s.vm.findClass y2.cls = some kP → ∃ k, s.vm.classes[kP]? = some k ∧ k.isInterface = false) ∧ ∃ (b : Nat) (cell : Cell) (w : List Value), vals = .ref b :: w ∧ T.heap[b]? = some cell ∧ cell.vm.isStatics = false)
    (hK : vx_Back l R p e below s args y2 3 8 Pre Post PostX) (hpre : Pre ⟨T, locs, cells, slots⟩ vals.toArray) :
    (∃ (v : Option Value) (B : Pt), Stand p l e R s m args below meth c B.U B.locs B.cells B.slots ∧ Post ⟨T, locs, cells, slots⟩ vals.toArray v B ∧
      Steps p.tables e below (T.setTop (F0 m pc ls vals.reverse)) (B.U.setTop (F0 m (pc + 3) ls (v.toList)))) ∨
    (∃ (q : Addr) (B : Pt), Stand p l e R s m args below meth c B.U B.locs B.cells B.slots ∧ PostX ⟨T, locs, cells, slots⟩ vals.toArray q B ∧
      Steps p.tables e below (T.setTop (F0 m pc ls vals.reverse)) ((B.U.setTop (F0 m pc ls [])).pushFrame (.throwing q))) := by
  obtain ⟨mk2, hnm⟩ := zcw_named hcode
  obtain ⟨meth2, c2, g1, g2, -, -, -, -, g7, -⟩ := zcw_spec hnm hcode
  obtain ⟨kT, hkT, hnT⟩ := className_of_methodNamed hnm
  have hinitT : kT.init = .initialized := Cond.initialized_spec (findClass_of_methodNamed hnm) hkT hini
  have hnmT := X.named hnm
  have hmT : T.vm.method? mk2 = some meth2 := by rw [X.warmed.alike.method?]; exact g1
  obtain ⟨kT', hkT', heT⟩ := X.warmed.alike.2.2 _ _ hkT
  obtain ⟨k, tk, methk, ck, t, tgt, found, iface, f1, f2, f3, f4, f5, f6, f7, f8, f9, f10, f11, f12, f13, f14, f15, f16, ⟨ci, nt, file, r1, r2, r3, r4⟩, f17, f18, f19⟩ := hF T.vm X.warmed
  have htc : t = mk2.cls := by
    have h1 := findClass_of_methodNamed hnmT
    rw [hy2] at h1
    exact Option.some.inj (f13.symm.trans h1)
  subst htc
  cases hkT'.symm.trans f14
  have htg : tgt = mk2 := by
    have h1 : T.methodFound? σ.implClass σ.implName σ.implDesc.toString = some mk2 := by
      have := State.methodFound?_of_named hnmT hmh
      rw [hy2] at this
      exact this
    simp only [State.methodFound?, f13, f14, Option.bind_eq_bind, Option.bind_some] at h1
    rw [f15] at h1
    exact Option.some.inj h1
  subst htg
  have hnk : kT'.name ≠ "java/lang/invoke/MethodHandle" ∧ kT'.name ≠ "java/lang/invoke/VarHandle" := by
    have : kT'.name = y2.cls := by rw [heT]; exact hnT
    rw [this]; exact hmh
  have hsp : ∀ w : Method, signaturePolymorphic kT' w = false := fun w => by simp [signaturePolymorphic, hnk.1, hnk.2]
  have hlen : ∀ n, (parseMethodDescriptor y2.desc).map (fun q => q.parameters.length) = some n → n = meth2.sig.parameters.length := fun n h => by
    rw [g7] at h
    exact (Option.some.inj h).symm
  cases stat with
  | true =>
    have hst : (Cond.static y2).before args s = true := hst
    have hstM : meth2.isStatic = true := Cond.static_spec hnm g1 hst
    obtain ⟨b, hmem⟩ := memberRef_ask' (e := e) (vm := T.vm) (d := m.cls) (index := ic) f1 r1 (Or.inl r2) r3
    have hd' : decode c.code pc = .ok (.invokestatic ic, 3) := by rw [hb]; exact hd
    have hstep : ∀ target, (∀ acts, Steps p.tables e below (doInvoke e (T.setTop (F0 m pc ls [])) acts tgt vals.toArray).1 target) → Steps p.tables e below (T.setTop (F0 m pc ls vals.reverse)) target := by
      intro target hrest
      jvm_step X.here [hexec, hd', invokestatic.wp_ready (e := e) (s := T) (m := tgt) (k := kT') (meth := meth2) (args := vals) (rest := []) (f := F0 m pc ls vals.reverse) X.here.top ⟨ci, _, _, b, tgt.cls, kT', hmem, r4, f14, by simp [hsp]⟩ f16 f14 hmT (hsp _) hstM (by rw [heT]; exact hinitT) (hlen _ hn) (by simp [F0])]
      intro acts
      exact hrest _
    rcases hK m meth c ⟨T, locs, cells, slots⟩ (F0 m pc ls []) (.invokestatic ic) tgt vals.toArray X rfl hsz hd' (by show 2 * 0 + 0 ≤ 8; omega) hnmT hpre with ⟨v, B, X', hpost, hsteps⟩ | ⟨q, B, X', hpost, hsteps⟩
    · refine Or.inl ⟨v, B, X', hpost, hstep _ fun acts => ?_⟩
      rw [doInvoke_state]
      have : v.toList ++ (F0 m pc ls []).stack = v.toList := List.append_nil _
      rw [this] at hsteps
      exact hsteps
    · exact Or.inr ⟨q, B, X', hpost, hstep _ fun acts => by rw [doInvoke_state]; exact hsteps⟩
  | false =>
    obtain ⟨hin, hpv, hit, b, cell, w, rfl, hcell, hobj⟩ := hst
    obtain ⟨mk3, methM, hnamed, hmethM, hstM, habM⟩ := Cond.instanceMethod_spec hin
    cases hnm.symm.trans hnamed
    cases g1.symm.trans hmethM
    obtain ⟨kP, hkP, hkPi⟩ := hit _ (findClass_of_methodNamed hnm)
    cases hkT.symm.trans hkP
    have hitf : kT'.isInterface = false := by rw [heT]; exact hkPi
    have hd' : decode c.code pc = .ok (.invokevirtual ic, 3) := by rw [hb]; exact hd
    have hselP : selectMethod e.platform T.vm cell.cls tgt = .method tgt := selectMethod_private hmT (hpv tgt meth2 hnm g1)
    have hn' : w.length = meth2.sig.parameters.length := hlen _ hn
    have hstep : ∀ target, (∀ acts, Steps p.tables e below (doInvoke e (T.setTop (F0 m pc ls [])) acts tgt (Value.ref b :: w).toArray).1 target) → Steps p.tables e below (T.setTop (F0 m pc ls (w.reverse ++ [Value.ref b]))) target := by
      intro target hrest
      jvm_step X.here [hexec, hd', invokevirtual.wp_ready (e := e) (s := T) (r := tgt) (m := tgt) (k := kT') (mk := kT') (rmeth := meth2) (meth := meth2) (a := b) (args := w) (rest := []) (cell := cell) (f := F0 m pc ls (w.reverse ++ [Value.ref b])) X.here.top ⟨k, file, ci, nt, tgt.cls, kT', f1, r1, r2, r4, f14, hitf⟩ f16 f14 hmT (hsp _) hstM hn' (by simp [F0]) hcell (fun q h => by rw [h] at hobj; cases hobj) hselP hmT habM f14 hitf]
      intro acts
      exact hrest _
    rw [List.reverse_cons]
    rcases hK m meth c ⟨T, locs, cells, slots⟩ (F0 m pc ls []) (.invokevirtual ic) tgt (Value.ref b :: w).toArray X rfl hsz hd' (by show 2 * 0 + 0 ≤ 8; omega) hnmT hpre with ⟨v, B, X', hpost, hsteps⟩ | ⟨q, B, X', hpost, hsteps⟩
    · refine Or.inl ⟨v, B, X', hpost, hstep _ fun acts => ?_⟩
      rw [doInvoke_state]
      have : v.toList ++ (F0 m pc ls []).stack = v.toList := List.append_nil _
      rw [this] at hsteps
      exact hsteps
    · exact Or.inr ⟨q, B, X', hpost, hstep _ fun acts => by rw [doInvoke_state]; exact hsteps⟩
/-- what a call of a lambda's object asks -/
def zLC (D : va_G) (z d : Nat) (h : zH) (r0 : Option Nat) (as : List Value) (x2 : MethodName) (of : zO) : Prop :=
  of = none ∨ ∃ (t a : Nat) (fr : Bool) (cs : List Value) (q : MethodName × Nat × Nat × Lambda.Shape) (cc : ByteArray) (nL : Nat) (fx : List Nat) (ks : List Bool) (ic : Nat) (stat : Bool) (y2 : MethodName) (of2 : zO),
    r0 = some a ∧ zm h a = some (t, fr, cs) ∧ zls t = some q ∧ zla t = true ∧ x2 = ⟨q.2.2.2.iface, q.2.2.2.name, q.2.2.2.sam.toString⟩ ∧ x2 ∈ zif ∧ zLk q.2.2.2 q.1.cls cc nL fx ic = true ∧ zLc cc fx ks ic stat = true ∧ plainName (q.1.cls ++ "$$Lambda") = true ∧
    y2 = ⟨q.2.2.2.implClass, q.2.2.2.implName, q.2.2.2.implDesc.toString⟩ ∧ zCal D z d h y2 (cs ++ as) of2 ∧ of = zcI of2 zX (fun x h1 => zrI x h1) ∧ fx.length = cs.length ∧ ks.length = as.length ∧ nL = as.length + 1 ∧
    (∀ (k : Nat) (v : Value), as[k]? = some v → (ks[k]? = some true ∧ (v = .null ∨ ∃ a, v = .ref a)) ∨ (ks[k]? = some false ∧ ∃ x, v = .int x)) ∧
    (parseMethodDescriptor y2.desc).map (fun q => q.parameters.length) = some (if stat = true then (cs ++ as).length else (cs ++ as).length - 1) ∧
    (if stat = true then Cond.static y2 ∈ lw_all else Cond.instanceMethod y2 ∈ lw_all ∧ Cond.privateMethod y2 ∈ lw_tbl ∧ (∃ (selC : String) (sel : MethodName), Cond.selects selC sel sel ∈ lw_all ∧ sel.cls = y2.cls) ∧ ∃ (b : Nat) (w : List Value) (eb : zEnt), cs = .ref b :: w ∧ zm h b = some eb)
theorem zobj0 {U : State} (h : (Cond.instantiable "java/lang/Object" 0).before #[] U = true) : ∀ o ok, U.vm.findClass "java/lang/Object" = some o → U.vm.classes[o]? = some ok → ok.instanceTypes = #[] := by
  intro o ok ho hok
  obtain ⟨c, k, h1, h2, h3⟩ := Cond.instantiable_spec h
  cases ho.symm.trans h1
  cases hok.symm.trans h2
  exact Array.eq_empty_of_size_eq_zero h3.2.2.2
end ZLAM
section ZLAM2
variable {D : va_G} {z : Nat}
theorem zlvcat : ∀ (as : List Value) (n : Nat), (∀ v ∈ as, v.category = 1) → (lg_sl as).length = as.length ∧ ∀ (k : Nat) (v : Value), as[k]? = some v → (n + k, v) ∈ lv_args n as := by
  intro as
  induction as with
  | nil => exact fun n _ => ⟨rfl, fun k v h => by simp at h⟩
  | cons a t ih =>
    intro n hc
    obtain ⟨i1, i2⟩ := ih (n + 1) fun v hv => hc v (List.mem_cons_of_mem _ hv)
    have hca := hc a List.mem_cons_self
    refine ⟨?_, fun k v h => ?_⟩
    · have e : lg_sl (a :: t) = (if a.category = 2 then [.val a, .second] else [.val a]) ++ lg_sl t := by simp [lg_sl]
      rw [e, List.length_append, i1, if_neg (by rw [hca]; decide)]
      simp
      omega
    cases k with
    | zero =>
      cases h
      simp [lv_args]
    | succ k =>
      have h9 := i2 k v (by simpa using h)
      simp only [lv_args, hca]
      rw [show n + (k + 1) = n + 1 + k by omega]
      exact List.mem_cons_of_mem _ h9
theorem zFacts {G : Nat → Nat} {U : State} {t : Nat} {q : MethodName × Nat × Nat × Lambda.Shape} {cc : ByteArray} {nL : Nat} {fx : List Nat} {ic : Nat} (K : zK D G U) (hq : zls t = some q) (hk : zLk q.2.2.2 q.1.cls cc nL fx ic = true) :
    ∃ (k tk : Class) (methk : Method) (ck : Code) (tc : ClassId) (tgt found : MethodId) (iface : ClassId), zMd U.vm q.2.2.2 q.1.cls cc nL fx ic (D.1 t) k tk methk ck tc tgt found iface := by
  obtain ⟨m, k, cf, i0, p0, hm, hkm, hcf, hsh, hfind, hmade, hcall⟩ := K.2.2.2.2.2.2.1 t q hq
  obtain ⟨k', hk', hn⟩ := className_of_methodNamed hm
  cases hkm.symm.trans hk'
  exact zMade hkm hn hk (zobj0 K.2.2.2.2.2.2.2.2) hmade
theorem zLamBack {R : Room} {p : Program} {l : Launch} {e : Env} {below : List Frame} {s : State} {sargs : Array Value} {len : Nat} {m : MethodId} {meth : Method} {c : Code} {T : State} {locs : List Loc} {cells slots : Nat} {g : JFrame} {ig : Instr} {h h1 : zH} {r : Option Value ⊕ (Nat × Nat)} {d a : Nat} {as : List Value} {x2 : MethodName} {of : zO}
    (X : Stand p l e R s m sargs below meth c T locs cells slots) (hexec : p.tables.exec = Jvm.exec) (hg : g.method = m) (hsz : g.locals.size = c.maxLocals) (hdg : decode c.code g.pc = .ok (ig, len)) (hW8 : 2 * g.monitorRoom + (g.stack.map fun v => v.category).sum ≤ 8)
    (K : zK D (zG h) T) (P : zHp D z h T T.heap) (hts : ∀ w ∈ lw_all, w.before sargs s = true) (htr : l.stackTraces = false) (hfr : d + 1 ≤ R.frames) (hlo : 64 * (d + 1) ≤ R.locals) (h9 : of = some (r, h1)) (hc1 : cells + (zsz h1 - zsz h) ≤ R.cells) (hs1 : slots + (zus h1 - zus h) ≤ R.slots)
    {t : Nat} {fr : Bool} {cs : List Value} {q : MethodName × Nat × Nat × Lambda.Shape} {cc : ByteArray} {nL : Nat} {fx : List Nat} {ks : List Bool} {ic : Nat} {stat : Bool} {y2 : MethodName} {of2 : zO}
    (hm : zm h a = some (t, fr, cs)) (hq : zls t = some q) (hla : zla t = true) (hk : zLk q.2.2.2 q.1.cls cc nL fx ic = true) (hlc : zLc cc fx ks ic stat = true) (hpl : plainName (q.1.cls ++ "$$Lambda") = true)
    (hy2 : y2 = ⟨q.2.2.2.implClass, q.2.2.2.implName, q.2.2.2.implDesc.toString⟩) (hC : zCal D z d h y2 (cs ++ as) of2) (hof : of = zcI of2 zX (fun x h1 => zrI x h1)) (hfx : fx.length = cs.length) (hks : ks.length = as.length) (hnL : nL = as.length + 1)
    (hkind : ∀ (k : Nat) (v : Value), as[k]? = some v → (ks[k]? = some true ∧ (v = .null ∨ ∃ a, v = .ref a)) ∨ (ks[k]? = some false ∧ ∃ x, v = .int x))
    (hn : (parseMethodDescriptor y2.desc).map (fun q => q.parameters.length) = some (if stat = true then (cs ++ as).length else (cs ++ as).length - 1))
    (hst : if stat = true then Cond.static y2 ∈ lw_all else Cond.instanceMethod y2 ∈ lw_all ∧ Cond.privateMethod y2 ∈ lw_tbl ∧ (∃ (selC : String) (sel : MethodName), Cond.selects selC sel sel ∈ lw_all ∧ sel.cls = y2.cls) ∧ ∃ (b : Nat) (w : List Value) (eb : zEnt), cs = .ref b :: w ∧ zm h b = some eb) :
    (∃ (v : Option Value) (B : Pt), Stand p l e R s m sargs below meth c B.U B.locs B.cells B.slots ∧ zPost z D h r h1 ⟨T, locs, cells, slots⟩ (.ref a :: as : List Value).toArray v B ∧
      Steps p.tables e below (doInvoke e (T.setTop g) [] ⟨D.1 t, 1⟩ (.ref a :: as : List Value).toArray).1 (B.U.setTop { g with pc := g.pc + len, stack := v.toList ++ g.stack })) ∨
    (∃ (q : Addr) (B : Pt), Stand p l e R s m sargs below meth c B.U B.locs B.cells B.slots ∧ zPostX z D h r h1 ⟨T, locs, cells, slots⟩ (.ref a :: as : List Value).toArray q B ∧
      Steps p.tables e below (doInvoke e (T.setTop g) [] ⟨D.1 t, 1⟩ (.ref a :: as : List Value).toArray).1 ((B.U.setTop g).pushFrame (.throwing q))) := by
  obtain ⟨k, tk, methk, ck, tc, tgt, found, iface, f1, f2, f3, f4, f5, f6, f7, f8, f9, f10, f11, -⟩ := zFacts K hq hk
  simp only [zLc, Bool.and_eq_true, decide_eq_true_eq] at hlc
  obtain ⟨⟨⟨⟨l1, l2⟩, l3⟩, l4⟩, l5⟩ := hlc
  have hcat : ∀ v ∈ (.ref a :: as : List Value), v.category = 1 := by
    intro v hv
    rcases List.mem_cons.mp hv with rfl | hv
    · rfl
    · obtain ⟨i, hi⟩ := List.getElem?_of_mem hv
      rcases hkind i v hi with ⟨-, rfl | ⟨b, rfl⟩⟩ | ⟨-, x, rfl⟩ <;> rfl
  obtain ⟨v1, v2⟩ := zlvcat (.ref a :: as) 0 hcat
  have hpk : T.plainMethod ⟨D.1 t, 1⟩ := State.plainMethod.of_name (fun k' hk' => by cases f1.symm.trans hk'; rw [f2]; exact hpl)
  obtain ⟨Y₀, hin⟩ := X.into hg hsz hdg (.ref a :: as : List Value).toArray (R' := { frames := d, locals := 64 * d, cells := zsz h1 - zsz h, slots := zus h1 - zus h }) f4 f5 f9 hpk hfr (by rw [f7]; show _ + _ + _ + 64 * d ≤ _; omega) hc1 hs1
  have hnamed2 : (lg_sl (.ref a :: as : List Value)).length ≤ ck.maxLocals := by rw [v1, f7, hnL]; exact Nat.le_refl _
  rw [lg_entry_eq] at Y₀ hin
  obtain ⟨cell, hcell, hu, hs0, hfr0, hkd⟩ := P.2.2.1 a _ hm
  have hcl : cell.cls = D.1 t ∧ cell.slots.toList = cs := by
    rcases hkd with ⟨q2, hq2, -⟩ | ⟨ty, hty, -⟩ | ⟨-, w1, w2⟩
    · exact absurd (zcl_la hq2) (by rw [hla]; exact fun e => nomatch e)
    · exact absurd (zla_ta hla) (by rw [hty]; exact fun e => nomatch e)
    · exact ⟨w1, w2⟩
  obtain ⟨cc2, nL2, rt2, hh2, d2, hS, hpn, hlen2, hcw, hini, hd2, hnl2, hmh⟩ := hC
  -- what the target's program gives
  have hres : ∃ r2, of2 = some (r2, h1) ∧ ((∃ x, r2 = .inl (some (.int x)) ∧ r = .inl (some (.int x))) ∨ (∃ x, r2 = .inr x ∧ r = .inr x)) := by
    rw [hof] at h9
    unfold zcI zc at h9
    cases hq2 : of2 with
    | none => rw [hq2] at h9; cases h9
    | some w =>
      rw [hq2] at h9
      obtain ⟨r2, h2⟩ := w
      cases r2 with
      | inl v =>
        dsimp only at h9
        cases hz : zvI v with
        | none => rw [hz] at h9; cases h9
        | some x =>
          rw [hz] at h9
          cases h9
          exact ⟨_, rfl, Or.inl ⟨x, by rw [zvI_some hz], rfl⟩⟩
      | inr x =>
        cases h9
        exact ⟨_, rfl, Or.inr ⟨x, rfl, rfl⟩⟩
  obtain ⟨r2, ho2, hr2⟩ := hres
  have hpay := pay_in (s := s) hts lw_self
  generalize hsg : T.calling g ⟨D.1 t, 1⟩ (.ref a :: as : List Value).toArray = s0 at Y₀
  have hvm0 : s0.vm = T.vm := by rw [← hsg]; rfl
  have hhp0 : s0.heap = T.heap := by rw [← hsg]; rfl
  have hW0 : s.WarmedH s0.vm := by rw [hvm0]; exact X.warmed
  have hts0 : ∀ w ∈ lw_all, w.before (.ref a :: as : List Value).toArray s0 = true := fun w hw => hpay w hw _ _ hW0
  have hF : ∀ vm', s0.WarmedH vm' → ∃ (k tk : Class) (methk : Method) (ck : Code) (tc : ClassId) (tgt found : MethodId) (iface : ClassId), zMd vm' q.2.2.2 q.1.cls cc nL fx ic (D.1 t) k tk methk ck tc tgt found iface := by
    intro vm' hW
    have hW' : T.WarmedH vm' := by
      rw [← hsg] at hW
      exact hW
    exact zFacts (U := T.setVm vm') (K.warm hW') hq hk
  have hB := z_back (R := { frames := d, locals := 64 * d, cells := zsz h1 - zsz h, slots := zus h1 - zus h }) (p := p) (e := e) (below := .java g :: below) (s := s0) (sargs := (.ref a :: as : List Value).toArray) (len := 3) hS ho2 hpn hlen2 l htr hts0 hcw hini hd2 hnl2 (Nat.le_refl _) (Nat.le_refl _)
  have htb : ck.exceptionTable.toList = [] := by rw [f8]
  generalize hlsg : (lg_sl (.ref a :: as : List Value) ++ List.replicate (ck.maxLocals - (lg_sl (.ref a :: as : List Value)).length) Slot.unset).toArray = ls at Y₀ hin
  have hl : lv_has ls ck.maxLocals (lv_args 0 (.ref a :: as : List Value)) := by rw [← hlsg]; exact lv_entry _ hnamed2
  have hl0 : lv_has ls ck.maxLocals ((0, .ref a) :: lv_args 1 as) := hl
  have walk : W p l e { frames := d, locals := 64 * d, cells := zsz h1 - zsz h, slots := zus h1 - zus h } s0 ⟨D.1 t, 1⟩ (.ref a :: as : List Value).toArray (.java g :: below) methk ck T.heap [] 0 0 (zF D z (.java g :: below) s0 (zus h) r h1) (F0 ⟨D.1 t, 1⟩ 0 ls []) := by
    refine zW_caps (fx := fx) (cs := cs) hexec f6 (fun vm' hW j f hj => ?_) hcell hu hcl.2 hfx l1 hl0 ?_ fx.length 0 rfl
    · obtain ⟨k, tk, methk, ck, tc, tgt, found, iface, -, -, -, -, -, -, -, -, -, -, -, w, -⟩ := hF vm' hW
      exact w j f hj
    · refine zW_args (ks := ks) (as := as) (st0 := cs.reverse) hexec f6 hks l5 hkind (fun k v hv => hl.2.2 (k + 1, v) (by simpa using v2 (k + 1) v (by simpa using hv))) l2 ?_ ks.length 0 rfl
      intro T1 hT1 X1
      have hT1v : T.WarmedH T1.vm := by
        have := X1.warmed
        rw [← hsg] at this
        exact this
      have hpre : zPre { frames := d, locals := 64 * d, cells := zsz h1 - zsz h, slots := zus h1 - zus h } (cs ++ as) z D h h1 ⟨T1, [], 0, 0⟩ (cs ++ as).toArray :=
        ⟨by show 0 + (zsz h1 - zsz h) ≤ zsz h1 - zsz h; omega, by show 0 + (zus h1 - zus h) ≤ zus h1 - zus h; omega, rfl, K.warm hT1v, by show zHp D z h T1 T1.heap; rw [hT1]; exact P.moved hT1v.alike⟩
      have hcall := zlamCall (σ := q.2.2.2) (caller := q.1.cls) (nL := nL) (fx := fx) (vals := cs ++ as) X1 hexec f6 (hl.1) hF l3 hy2 hmh (hts0 _ hcw) (hts0 _ hini) hn (by
        cases stat with
        | true => exact hts0 _ hst
        | false =>
          obtain ⟨w1, w2, ⟨selC, sel, w3, w3'⟩, b, w, eb, w4, w5⟩ := hst
          obtain ⟨cb, hcb, -, hcb2, -⟩ := P.2.2.1 b _ w5
          refine ⟨hts0 _ w1, Cond.privateMethod_at (va_Nw.use (A := (.ref a :: as : List Value).toArray) (U := s0) rfl ((K.warm (U := s0) (by rw [hvm0]; exact State.WarmedH.refl T)).2.2.1 _ w2 rfl)), fun kP hkP => ?_, b, cb, w ++ as, by rw [w4]; rfl, by rw [hT1]; exact hcb, hcb2⟩
          obtain ⟨c2, r2, m2, u1, u2, u3, u4, kP2, hkP2, hkPi⟩ := Cond.selects_spec (hts0 _ w3)
          have h9 := findClass_of_methodNamed u3
          rw [w3'] at h9
          cases hkP.symm.trans h9
          exact ⟨kP2, hkP2, hkPi⟩) hB hpre
      rw [List.reverse_append] at hcall
      rcases hcall with ⟨v, B, X', ⟨hv, pH, ⟨L9, hL1, hL2⟩, hbc, hbs, hb1, hb2⟩, stp⟩ | ⟨qx, B, X', ⟨t9, hv, ⟨vs, hmx⟩, ⟨w, hw⟩, pH, ⟨L9, hL1, hL2⟩, hbc, hbs, hb1, hb2⟩, stp⟩
      · obtain ⟨x, e1, e2⟩ : ∃ x, v = some (.int x) ∧ r = .inl (some (.int x)) := by
          rcases hr2 with ⟨x, q1, q2⟩ | ⟨x, q1, q2⟩
          · rw [q1] at hv; cases hv; exact ⟨x, rfl, q2⟩
          · rw [q1] at hv; cases hv
        subst e1
        obtain ⟨U', l2', c2', s2'⟩ := B
        dsimp only [Pt.U, Pt.locs, Pt.cells, Pt.slots] at X' pH hL1 hbc hbs hb1 hb2 stp
        subst hL1; subst hbc; subst hbs
        have hW1 := X1.warmed
        have pH' : zHp D z h1 s0 U'.heap := pH.moved hW1.alike.symm
        obtain ⟨tt, a1, o9, g1, g2, g3, L, g5, g6⟩ := W.iret (Qc := fun _ _ o t => o = .returned (some (.int x)) ∧ zHp D z h1 s0 t.heap) (free := fun q => z ≤ q) (v := x) hexec f6 f11 (fun tt ht hWt => ⟨rfl, by rw [ht]; exact pH'⟩) (fun q hq => hL2 q (by simpa using hq)) l4 f9 U' rfl X'
        refine ⟨tt, stp.trans a1, o9, g1, g2, g3.2, Or.inl ⟨some (.int x), L, e2, g3.1, ?_, g6⟩⟩
        rw [hhp0, ← P.1]
        simpa using g5
      · obtain ⟨U', l2', c2', s2'⟩ := B
        dsimp only [Pt.U, Pt.locs, Pt.cells, Pt.slots] at X' pH hL1 hbc hbs hb1 hb2 stp
        subst hL1; subst hbc; subst hbs
        have hW1 := X1.warmed
        have pH' : zHp D z h1 s0 U'.heap := pH.moved hW1.alike.symm
        have e2 : r = .inr (t9, qx) := by
          rcases hr2 with ⟨x, q1, q2⟩ | ⟨x, q1, q2⟩
          · rw [q1] at hv; cases hv
          · rw [q1] at hv; cases hv; exact q2
        have Ks : zK D (zG h) s0 := K.warm (by rw [hvm0]; exact State.WarmedH.refl T)
        obtain ⟨ce, w1, w2, w3, w4, w5⟩ := pH'.2.2.1 _ _ hmx
        have hcv : ce.vm = .none := (w4 rfl).1
        have hcls : s0.vm.findClass w.1 = some ce.cls := by
          rcases w5 with ⟨q2, u1, u2, -⟩ | ⟨ty, u1, -⟩ | ⟨u1, -⟩
          · cases hw.symm.trans u1
            rw [u2]
            exact (Ks.1 t9 _ hw).2.1
          · exact absurd (zcl_ta hw) (by rw [u1]; exact fun e => nomatch e)
          · exact absurd (zcl_la hw) (by rw [u1]; exact fun e => nomatch e)
        obtain ⟨vm', hW', X'', st9⟩ := X'.outThrough f9 qx (g := F0 ⟨D.1 t, 1⟩ (4 * fx.length + ks.length) ls []) rfl rfl rfl (cell := ce) w1 (by rw [hcv]; rfl)
          (by obtain ⟨k9, h9, -⟩ := Vm.findClass_spec hcls; exact ⟨k9, h9⟩) (fun w hw => by rw [htb] at hw; cases hw)
        obtain ⟨g₀, hfrm⟩ := X''.frames_eq
        have hend : Ended ((U'.setVm vm').setFrames (.throwing qx :: (.java g :: below))) (.java g :: below) (.threw qx) := State.frames_setFrames _ (State.cur_lt_of_frames hfrm)
        refine ⟨(U'.setVm vm').setFrames (.throwing qx :: (.java g :: below)), stp.trans ?_, .threw qx, X''.here.running, hend, pH', Or.inr ⟨(t9, qx), vs, ce, w, _, e2, rfl, hmx, hw, hcls, w1, hcv, (X''.ends _).1, ?_, fun q hq => hL2 q (by simpa using hq)⟩⟩
        · rw [X'.pushThrowing_eq]
          exact st9
        · have h8 := (X''.ends (.throwing qx :: (.java g :: below))).2
          rw [hhp0, ← P.1]
          simpa using h8
  obtain ⟨tt, a1, o9, b1, b2, b3⟩ := walk ((T.setTop g).pushFrame (Frame.java (F0 { cls := D.1 t, idx := 1 } 0 ls []))) rfl Y₀
  rw [← hsg] at b3
  refine z_after X hg (by rw [hg]; exact X.here) hdg (by rw [X.tail]; exact b2) P ?_ b3
  rw [hin []]
  exact Steps.weaken (mid := [.java g]) a1
end ZLAM2
theorem zarr3 {α : Type} {A : Array Nat} {F : Nat → Nat → Nat → Option α} {v : α} (h : Lambda.shapeOf?.match_15 (fun _ => Option α) A F (fun _ => none) = some v) : ∃ i j k, F i j k = some v := by
  obtain ⟨L⟩ := A
  cases L with
  | nil => cases h
  | cons i L =>
    cases L with
    | nil => cases h
    | cons j L =>
      cases L with
      | nil => cases h
      | cons k L =>
        cases L with
        | nil => exact ⟨i, j, k, h⟩
        | cons => cases h
theorem zshape_site {cf : ClassFile} {index : Nat} {σ : Lambda.Shape} (h : Lambda.shapeOf? cf index = some σ) :
    ∃ (b nt : Nat) (desc : String) (site : MethodDescriptor), cf.constantPool[index]? = some (.invokeDynamic b nt) ∧ cf.constantPool.nameAndType? nt = some (σ.name, desc) ∧ parseMethodDescriptor desc = some site ∧ site.parameters = σ.captured := by
  unfold Lambda.shapeOf? at h
  cases hc : cf.constantPool[index]? with
  | none => rw [hc] at h; cases h
  | some x =>
    rw [hc] at h
    cases x <;> try (cases h; done)
    rename_i b nt
    obtain ⟨entries, -, h⟩ := Option.bind_eq_some_iff.mp h
    obtain ⟨bm, -, h⟩ := Option.bind_eq_some_iff.mp h
    try dsimp only at h
    generalize cf.constantPool[bm.bootstrapMethodRef]? = X1 at h
    rcases X1 with - | X1
    · cases h
    cases X1 <;> try (cases h; done)
    rename_i k1 r1
    have hk : k1 = 6 := by
      by_cases e : k1 = 6
      · exact e
      · exfalso
        match k1, e, h with
        | 0, _, h => cases h
        | 1, _, h => cases h
        | 2, _, h => cases h
        | 3, _, h => cases h
        | 4, _, h => cases h
        | 5, _, h => cases h
        | 6, e, _ => exact e rfl
        | n + 7, _, h => cases h
    subst hk
    obtain ⟨u, -, h⟩ := Option.bind_eq_some_iff.mp h
    try dsimp only at h
    obtain ⟨a0, a1, a2, h⟩ := zarr3 h
    split at h
    · split at h
      · split at h
        · obtain ⟨w, hnt, h⟩ := Option.bind_eq_some_iff.mp h
          obtain ⟨site, hsite, h⟩ := Option.bind_eq_some_iff.mp h
          try dsimp only at h
          split at h
          · obtain ⟨w2, -, h⟩ := Option.bind_eq_some_iff.mp h
            obtain ⟨x1, -, h⟩ := Option.bind_eq_some_iff.mp h
            obtain ⟨x2, -, h⟩ := Option.bind_eq_some_iff.mp h
            obtain ⟨x3, -, h⟩ := Option.bind_eq_some_iff.mp h
            obtain ⟨x4, -, h⟩ := Option.bind_eq_some_iff.mp h
            obtain ⟨x5, -, h⟩ := Option.bind_eq_some_iff.mp h
            cases h
            exact ⟨b, nt, w.2, site, rfl, hnt, hsite, rfl⟩
          · cases h
        · cases h
      · cases h
    · cases h
section ZLAM3
variable {D : va_G} {z : Nat} {y : MethodName} {cc : ByteArray} {nL : Nat} {rt : Option FieldType} {hh : List (Nat × Nat × Nat × Nat)} {d : Nat} {h : zH} {pc : Nat} {L : List (Nat × Value)} {st rest : List Value} {o : zO}
theorem zcI_inv {of2 of : zO} {r : Option Value ⊕ (Nat × Nat)} {h1 : zH} (hof : of = zcI of2 zX (fun x h1 => zrI x h1)) (h9 : of = some (r, h1)) : ∃ r2, of2 = some (r2, h1) := by
  rw [hof] at h9
  unfold zcI zc at h9
  cases hq2 : of2 with
  | none => rw [hq2] at h9; cases h9
  | some w =>
    rw [hq2] at h9
    obtain ⟨r2, h2⟩ := w
    cases r2 with
    | inl v =>
      try dsimp only at h9
      cases hz : zvI v with
      | none => rw [hz] at h9; cases h9
      | some x =>
        rw [hz] at h9
        cases h9
        exact ⟨_, rfl⟩
    | inr x =>
      cases h9
      exact ⟨_, rfl⟩
/-- a call of an interface's method on a lambda's object -/
theorem s_callL {ix cnt np d' : Nat} {x2 : MethodName} {r0 : Option Nat} {as : List Value} {of : zO} {X : Nat × Nat → zH → zO} {K : Option Value → zH → zO} (hd : decode cc pc = .ok (.invokeinterface ix cnt, 5)) (hdd : d' + 1 ≤ d) (hC : zLC D z d' h r0 as x2 of) (hn : (parseMethodDescriptor x2.desc).map (fun q => q.parameters.length) = some np) (hl9 : as.length = np) (hlk : Cond.methodLink y.cls ix x2 ∈ lw_all) (hs : st = as.reverse ++ va_rf r0 :: rest) (hcat : (rest.map fun v => v.category).sum ≤ 8)
    (k : ∀ v h1, zS D z y cc nL rt hh d h1 (pc + 5) L (v.toList ++ rest) (K v h1)) (kx : ∀ x h1, zT D z y cc nL rt hh d h1 pc L x (X x h1)) :
    zS D z y cc nL rt hh d h pc L st (zc of X K) := by
  rcases hC with rfl | ⟨t, a, fr, cs, q, cc9, nL9, fx, ks, ic, stat, y2, of2, rfl, hm, hq, hla, hx2, hxi, hk9, hlc, hpl, hy2, hC, hof, hfx, hks, hnL9, hkind, hn2, hst⟩
  · exact zS_none
  refine zS_call (n := 5) (a := (.ref a :: as : List Value).toArray) (fun r h1 ho => ⟨?_, fun p l e R s m args below meth c T locs cells slots ls C Kk P hsz Xs q1 q2 => ?_⟩) k kx
  · obtain ⟨r2, ho2⟩ := zcI_inv hof ho
    obtain ⟨cc2, nL2, rt2, hh2, d2, hS, -⟩ := hC
    exact (hS r2 h1 ho2).1
  obtain ⟨hdecl, hface⟩ := Kk.2.2.2.2.2.2.2.1 x2 hxi
  obtain ⟨r0, rm, hnr, hrm, hstR, hsigR⟩ := Cond.declares_spec (va_any (A' := args) rfl hdecl)
  obtain ⟨cL, kL, r1, hcL, hkL, hiL, hfoundL, hn1⟩ := Cond.interfaceMethod_spec (va_any (A' := args) rfl hface)
  cases hnr.symm.trans (show s.methodNamed? x2 = some r1 from hn1)
  have hr0cls : r0.cls = cL := Option.some.inj ((findClass_of_methodNamed hnr).symm.trans hcL)
  obtain ⟨hnameR, hdescR⟩ := name_of_methodNamed hnr hrm
  obtain ⟨kK, tk, methk, ck, tc, tgt, found, iface, f1, f2, f3, f4, f5, f6, f7, f8, f9, f10, f11, f12, f13, f14, f15, f16, f17, f18, f19, f20⟩ := zFacts Kk hq hk9
  obtain ⟨mD, kD, cfD, i0, p0, hmD, hkD, hcfD, hshD, hfindD, hmade, hcall⟩ := Kk.2.2.2.2.2.2.1 t q hq
  have hxc : x2.cls = q.2.2.2.iface := by rw [hx2]
  have hxn : x2.name = q.2.2.2.name := by rw [hx2]
  have hxd : x2.desc = q.2.2.2.sam.toString := by rw [hx2]
  have hcif : cL = iface := by
    rw [hxc] at hcL
    exact Option.some.inj (hcL.symm.trans f18)
  subst hcif
  have hfr : found = r0 := by
    have h1 : s.methodFound? x2.cls x2.name x2.desc = some r0 := hfoundL
    simp only [State.methodFound?, hcL, hkL, hiL, Option.bind_eq_bind, Option.bind_some] at h1
    rw [hxn, hxd, f19] at h1
    exact Option.some.inj h1
  subst hfr
  obtain ⟨i2, hi2, hasg, hway⟩ := State.lambdaCallable_spec hcall
  cases f18.symm.trans hi2
  obtain ⟨cell, hcell, hu, hs0, hfr0, hkd⟩ := P.2.2.1 a _ hm
  have hcl : cell.cls = D.1 t := by
    rcases hkd with ⟨q2, hq2, -⟩ | ⟨ty, hty, -⟩ | ⟨-, w1, w2⟩
    · exact absurd (zcl_la hq2) (by rw [hla]; exact fun e => nomatch e)
    · exact absurd (zla_ta hla) (by rw [hty]; exact fun e => nomatch e)
    · exact w1
  obtain ⟨vm₁, X₁, hstep₁⟩ := Xs.invokeinterface C.hx C.own (C.ts _ hlk) hnr hrm hstR (by rw [hr0cls]; exact hkL) hiL (zif_ok x2 hxi) (a := a) (cell := cell) (kcell := kK) hcell
    (fun w hw => by rw [hw] at hs0; cases hs0) (by rw [hcl]; exact f1) (by rw [hcl, hr0cls]; exact hasg) (m' := ⟨D.1 t, 1⟩) (meth' := methk) (by rw [hcl, Launch.admits_selectMethod Xs.admits]; exact f20) f4 (by rw [hcl, hnameR, hdescR, hxn, hxd]; exact hway) (by rw [f10]; decide) (by simp [Method.isAbstract, f10, hasFlag, Acc.abstract])
    (g := F0 m pc ls st) rfl (argsL := as) (rest := rest) (zCal.plen hn hl9 _ hsigR) hs (by rw [C.hb]; exact hd)
  have hr := zLamBack (z := z) (D := D) (h := h) (h1 := h1) (r := r) (of := of) (d := d') (g := { F0 m pc ls st with stack := rest }) X₁ C.hx rfl hsz (by rw [C.hb]; exact hd) (by show 2 * 0 + (rest.map fun v => v.category).sum ≤ 8; omega) (Kk.warm X₁.warmed) (P.moved X₁.warmed.alike) C.ts C.tr (Nat.le_trans hdd C.fr) (Nat.le_trans (Nat.mul_le_mul_left 64 hdd) C.lo) ho q1 q2 hm hq hla hk9 hlc hpl hy2 hC hof hfx hks hnL9 hkind hn2 hst (x2 := x2)
  rcases hr with ⟨v, B, X', hpost, hsteps⟩ | ⟨qx, B, X', hpost, hsteps⟩
  · exact Or.inl ⟨v, vm₁, B, X₁.warmed, X', hpost, fun target h => hstep₁ _ fun acts => by rw [doInvoke_state]; exact hsteps.trans h⟩
  · exact Or.inr ⟨qx, vm₁, B, X₁.warmed, X', hpost, hstep₁ _ fun acts => by rw [doInvoke_state]; exact hsteps⟩
def zLv : List FieldType → List Value → Prop
  | [], [] => True
  | t :: ts, v :: vs => zok t v = true ∧ zLv ts vs
  | _, _ => False
theorem zLv_spec : ∀ (ts : List FieldType) (vs : List Value), zLv ts vs → ts.length = vs.length ∧ ((ts.zip vs).map fun (t, v) => narrow t v) = vs ∧ ∀ (i : Nat) (t : FieldType) (v : Value), ts[i]? = some t → vs[i]? = some v → fits t v = true := by
  intro ts
  induction ts with
  | nil =>
    intro vs h
    cases vs with
    | nil => exact ⟨rfl, rfl, fun i t v h => by simp at h⟩
    | cons v vs => cases h
  | cons t ts ih =>
    intro vs h
    cases vs with
    | nil => cases h
    | cons v vs =>
      obtain ⟨h1, h2⟩ := h
      obtain ⟨i1, i2, i3⟩ := ih vs h2
      simp only [zok, Bool.and_eq_true, decide_eq_true_eq] at h1
      refine ⟨by simp [i1], ?_, fun i t' v' ht hv => ?_⟩
      · simp only [List.zip_cons_cons, List.map_cons]
        rw [i2, h1.1]
      · cases i with
        | zero => cases ht; cases hv; exact h1.2
        | succ i => exact i3 i t' v' (by simpa using ht) (by simpa using hv)
theorem zok_i (x : Int32) : zok .int (.int x) = true := by simp [zok, narrow, fits]
theorem zok_o (s : String) (r : Option Nat) : zok (.object s) (va_rf r) = true := by cases r <;> simp [zok, narrow, fits, va_rf]
theorem zlink {e : Env} {l : Launch} (h : l.admits e) : e.platform.lambdaLinkWords = 3072 := by rw [h.platform]
/-- an object is made for a site, of what it captures -/
theorem s_lamM {ix t : Nat} {q : MethodName × Nat × Nat × Lambda.Shape} {vals : List Value} {K : Option Nat → zH → zO} {cc9 : ByteArray} {nL9 : Nat} {fx : List Nat} {ic : Nat} (hd : decode cc pc = .ok (.invokedynamic ix, 5)) (hq : zls t = some q) (hla : zla t = true) (hy : q.1 = y) (hpc : q.2.1 = pc) (hix : q.2.2.1 = ix) (hcap : q.2.2.2.captured.isEmpty = false) (hk9 : zLk q.2.2.2 q.1.cls cc9 nL9 fx ic = true) (hv : zLv q.2.2.2.captured vals) (hs : st = vals.reverse ++ rest) (hcat : (st.map fun v => v.category).sum ≤ 64) (hd50 : 50 ≤ d)
    (k9 : ∀ r h1, zS D z y cc nL rt hh d h1 (pc + 5) L (va_rf r :: rest) (K r h1)) : zS D z y cc nL rt hh d h pc L st (znO h t vals K) := by
  unfold znO
  refine zS_goN (fun p l e0 R s m args below meth c H locs cells slots Q ls C Kk P S hl hc1 hs1 kk => ?_) (k9 _ _)
  obtain ⟨kK, tk, methk, ck, tc, tgt, found, iface, f1, f2, f3, -⟩ := zFacts Kk hq hk9
  obtain ⟨mD, kD, cfD, i0, p0, hmD, hkD, hcfD, hshD, hfindD, hmade, hcall⟩ := Kk.2.2.2.2.2.2.1 t q hq
  obtain ⟨b, nt, desc, site, g1, g2, g3, g4⟩ := zshape_site hshD
  obtain ⟨v1, v2, v3⟩ := zLv_spec _ _ hv
  have hmm : mD = m := by
    have h1 := C.2.2.2.2.2.2.2.2.2.2.2.2
    rw [← hy] at h1
    exact Option.some.inj (hmD.symm.trans h1)
  subst hmm
  rw [hcap] at hfindD
  rw [hpc] at hfindD
  rw [hix] at g1
  have hvals : ((kK.instanceTypes.toList.zip vals).map fun (t, v) => narrow t v) = vals := by rw [f3]; exact v2
  intro T hT X
  have hm := X.lambdaMakes C.hx (g := F0 mD pc ls st) rfl (hl.1.trans C.ml.symm) (by rw [C.hb]; exact hd) hkD hfindD hcfD g1 g2 (parseLong_of_parse g3) (vals := vals) (rest := rest) (by rw [g4]; exact v1.symm) hs (kc := kK) f1 (by
      have h2 := C.lo
      have h3 := zlink X.admits
      show 2 * 0 + (st.map fun v => v.category).sum + e0.platform.lambdaLinkWords ≤ R.locals
      omega) hc1 (by rw [hvals]; exact hs1) (by
      rw [hvals]
      intro i v hi
      have hi' : vals[i]? = some v := by simpa using hi
      have hlt : i < q.2.2.2.captured.length := by rw [v1]; exact (List.getElem?_eq_some_iff.mp hi').1
      have h5 := v3 i _ v (List.getElem?_eq_getElem hlt) hi'
      have h6 : kK.instanceTypes[i]? = some q.2.2.2.captured[i] := by rw [← Array.getElem?_toList, f3]; exact List.getElem?_eq_getElem hlt
      obtain ⟨dk', k', ok, tk', file, cf, object, iface', t', lay, methods, target, found', -, w2, -, -, -, -, -, -, -, -, -, -, -, w3, -⟩ := Lambda.isMade_spec hmade
      cases f1.symm.trans w2
      simpa [State.fitsSlot, State.slotType?, f1, w3.2.1, h6] using h5)
  rw [hvals] at hm
  obtain ⟨X', st9⟩ := hm
  rw [P.1] at kk
  obtain ⟨t9, a1, b1⟩ := kk (H.push { cls := D.1 t, slots := vals.toArray, vm := .none }) (by rw [Array.size_push]) (fun q hq => by rw [Array.getElem?_push, if_neg (Nat.ne_of_lt hq)])
    ⟨{ cls := D.1 t, slots := vals.toArray, vm := .none }, by rw [Array.getElem?_push_size], fun q => (by cases q), rfl, fun _ => ⟨rfl, P.2.1⟩, Or.inr (Or.inr ⟨hla, rfl, rfl⟩)⟩
    (T.pushCell { cls := D.1 t, slots := vals.toArray, vm := .none }) (by rw [← hT]; rfl) (by simpa using X')
  refine ⟨t9, st9 t9 ?_, b1⟩
  rw [hT]
  exact a1
/-- a site that captures nothing: its one object -/
theorem s_lamC {ix t : Nat} {q : MethodName × Nat × Nat × Lambda.Shape} (hd : decode cc pc = .ok (.invokedynamic ix, 5)) (hq : zls t = some q) (hy : q.1 = y) (hpc : q.2.1 = pc) (hcap : q.2.2.2.captured.isEmpty = true) (hcat : (st.map fun v => v.category).sum ≤ 64) (hd50 : 50 ≤ d)
    (k9 : zS D z y cc nL rt hh d h (pc + 5) L (va_rf (some (zG h t)) :: st) o) : zS D z y cc nL rt hh d h pc L st o := by
  refine zS_go (fun p l e0 R s m args below meth c H locs cells slots Q ls C Kk P S hl k => ?_) k9
  obtain ⟨mD, kD, cfD, i0, p0, hmD, hkD, hcfD, hshD, hfindD, hmade, hcall⟩ := Kk.2.2.2.2.2.2.1 t q hq
  have hmm : mD = m := by
    have h1 := C.2.2.2.2.2.2.2.2.2.2.2.2
    rw [← hy] at h1
    exact Option.some.inj (hmD.symm.trans h1)
  subst hmm
  rw [hcap] at hfindD
  rw [hpc] at hfindD
  intro T hT X
  obtain ⟨t9, a1, b1⟩ := k ls hl T hT X
  exact ⟨t9, X.lambdaConstant C.hx (g := F0 mD pc ls st) rfl (hl.1.trans C.ml.symm) (by rw [C.hb]; exact hd) hkD hfindD (by
      have h2 := C.lo
      have h3 := zlink X.admits
      show 2 * 0 + (st.map fun v => v.category).sum + e0.platform.lambdaLinkWords ≤ R.locals
      omega) a1, b1⟩
end ZLAM3
def zcs9 (h : zH) (r : Option Nat) : Option (List Value) := r.bind fun a => (zm h a).map fun e => e.2.2
def zlv0 (h : zH) (r : Option Nat) (K : zO) : zO := match zcs9 h r with
  | some [] => K
  | _ => none
def zlv1 (h : zH) (r : Option Nat) (K : Int32 → zO) : zO := match zcs9 h r with
  | some [.int a] => K a
  | _ => none
def zlv2 (h : zH) (r : Option Nat) (K : Int32 → Int32 → zO) : zO := match zcs9 h r with
  | some [.int a, .int b] => K a b
  | _ => none
def zlv3 (h : zH) (r : Option Nat) (K : Int32 → Int32 → Int32 → zO) : zO := match zcs9 h r with
  | some [.int a, .int b, .int c] => K a b c
  | _ => none
def zlvR (h : zH) (r : Option Nat) (K : Nat → Int32 → zO) : zO := match zcs9 h r with
  | some [.ref a, .int b] => match zm h a with
    | some _ => K a b
    | none => none
  | _ => none
theorem zcs9_some {h : zH} {r : Option Nat} {cs : List Value} {t : Nat} (hs : zcs9 h r = some cs) (ht : ztg h r = some t) : ∃ (a : Nat) (fr : Bool), r = some a ∧ zm h a = some (t, fr, cs) := by
  obtain ⟨a, e, rfl, hm, rfl⟩ := ztg_some ht
  simp only [zcs9, Option.bind_some, hm, Option.map_some, Option.some.injEq] at hs
  exact ⟨a, e.2.1, rfl, by rw [← hs]; exact hm⟩
theorem zlv0_C {P : zO → Prop} {h : zH} {r : Option Nat} {t : Nat} {K : zO} (ht : ztg h r = some t) (h0 : P none) (hK : ∀ (a : Nat) (fr : Bool), r = some a → zm h a = some (t, fr, []) → P K) : P (zlv0 h r K) := by
  unfold zlv0
  split
  · rename_i hs; obtain ⟨a, fr, h1, h2⟩ := zcs9_some hs ht; exact hK a fr h1 h2
  · exact h0
theorem zlv1_C {P : zO → Prop} {h : zH} {r : Option Nat} {t : Nat} {K : Int32 → zO} (ht : ztg h r = some t) (h0 : P none) (hK : ∀ (a : Nat) (fr : Bool) (x : Int32), r = some a → zm h a = some (t, fr, [.int x]) → P (K x)) : P (zlv1 h r K) := by
  unfold zlv1
  split
  · rename_i hs; obtain ⟨a, fr, h1, h2⟩ := zcs9_some hs ht; exact hK a fr _ h1 h2
  · exact h0
theorem zlv2_C {P : zO → Prop} {h : zH} {r : Option Nat} {t : Nat} {K : Int32 → Int32 → zO} (ht : ztg h r = some t) (h0 : P none) (hK : ∀ (a : Nat) (fr : Bool) (x y : Int32), r = some a → zm h a = some (t, fr, [.int x, .int y]) → P (K x y)) : P (zlv2 h r K) := by
  unfold zlv2
  split
  · rename_i hs; obtain ⟨a, fr, h1, h2⟩ := zcs9_some hs ht; exact hK a fr _ _ h1 h2
  · exact h0
theorem zlv3_C {P : zO → Prop} {h : zH} {r : Option Nat} {t : Nat} {K : Int32 → Int32 → Int32 → zO} (ht : ztg h r = some t) (h0 : P none) (hK : ∀ (a : Nat) (fr : Bool) (x y w : Int32), r = some a → zm h a = some (t, fr, [.int x, .int y, .int w]) → P (K x y w)) : P (zlv3 h r K) := by
  unfold zlv3
  split
  · rename_i hs; obtain ⟨a, fr, h1, h2⟩ := zcs9_some hs ht; exact hK a fr _ _ _ h1 h2
  · exact h0
theorem zlvR_C {P : zO → Prop} {h : zH} {r : Option Nat} {t : Nat} {K : Nat → Int32 → zO} (ht : ztg h r = some t) (h0 : P none) (hK : ∀ (a : Nat) (fr : Bool) (b : Nat) (y : Int32) (eb : zEnt), r = some a → zm h a = some (t, fr, [.ref b, .int y]) → zm h b = some eb → P (K b y)) : P (zlvR h r K) := by
  unfold zlvR
  split
  · rename_i b y hs
    obtain ⟨a, fr, h1, h2⟩ := zcs9_some hs ht
    split
    · rename_i eb heb; exact hK a fr _ _ eb h1 h2 heb
    · exact h0
  · exact h0
def zKd (as : List Value) (ks : List Bool) : Prop := ∀ (k : Nat) (v : Value), as[k]? = some v → (ks[k]? = some true ∧ (v = .null ∨ ∃ a, v = .ref a)) ∨ (ks[k]? = some false ∧ ∃ x, v = .int x)
theorem zKd0 : zKd [] [] := fun k v h => by simp at h
theorem zKdR {as : List Value} {ks : List Bool} (r : Option Nat) (h : zKd as ks) : zKd (va_rf r :: as) (true :: ks) := by
  intro k v hk
  cases k with
  | zero =>
    cases hk
    refine Or.inl ⟨rfl, ?_⟩
    cases r with
    | none => exact Or.inl rfl
    | some a => exact Or.inr ⟨a, rfl⟩
  | succ k => exact h k v (by simpa using hk)
theorem zKdI {as : List Value} {ks : List Bool} (x : Int32) (h : zKd as ks) : zKd (.int x :: as) (false :: ks) := by
  intro k v hk
  cases k with
  | zero => cases hk; exact Or.inr ⟨rfl, x, rfl⟩
  | succ k => exact h k v (by simpa using hk)
theorem zlamif {D : va_G} {z d : Nat} {h : zH} {r : Option Nat} {as : List Value} {x2 : MethodName} {t : Nat} {o1 o2 : zO} (h1 : ztg h r = some t → zLC D z d h r as x2 o1) (h2 : zLC D z d h r as x2 o2) : zLC D z d h r as x2 (if ztg h r = some t then o1 else o2) := by
  by_cases hp : ztg h r = some t
  · rw [if_pos hp]; exact h1 hp
  · rw [if_neg hp]; exact h2
