/-! ===== tags of arrays; statics by kind ===== -/
def zfuel : Nat := 1048576
def zarrs : List Nat := [200, 201, 202, 203, 204, 205, 206, 207, 208, 209, 210, 211, 212]
def zrefs : List Nat := [205, 206, 207, 208, 209, 210, 211, 212]
theorem zarrs_ok : ∀ t ∈ zarrs, ∃ ty, zta t = some ty := ztc ⟨_, rfl⟩ (ztc ⟨_, rfl⟩ (ztc ⟨_, rfl⟩ (ztc ⟨_, rfl⟩ (ztc ⟨_, rfl⟩ (ztc ⟨_, rfl⟩ (ztc ⟨_, rfl⟩ (ztc ⟨_, rfl⟩ (ztc ⟨_, rfl⟩ (ztc ⟨_, rfl⟩ (ztc ⟨_, rfl⟩ (ztc ⟨_, rfl⟩ (ztc ⟨_, rfl⟩ zt0))))))))))))
theorem zrefs_ok : ∀ t ∈ zrefs, ∃ ty : FieldType, zta t = some ty ∧ ty.isReference = true := ztc ⟨_, rfl, rfl⟩ (ztc ⟨_, rfl, rfl⟩ (ztc ⟨_, rfl, rfl⟩ (ztc ⟨_, rfl, rfl⟩ (ztc ⟨_, rfl, rfl⟩ (ztc ⟨_, rfl, rfl⟩ (ztc ⟨_, rfl, rfl⟩ (ztc ⟨_, rfl, rfl⟩ zt0)))))))
theorem zcat_i (x : Int32) : (Value.int x).category = 1 := rfl
theorem zcat_l (x : Int64) : (Value.long x).category = 2 := rfl
theorem zcat_f (x : UInt32) : (Value.float x).category = 1 := rfl
theorem zcat_d (x : UInt64) : (Value.double x).category = 2 := rfl
section ZR8
variable {D : va_G} {z : Nat} {y : MethodName} {cc : ByteArray} {nL : Nat} {rt : Option FieldType} {hh : List (Nat × Nat × Nat × Nat)} {d : Nat} {h : zH} {pc : Nat} {L : List (Nat × Value)} {st rest : List Value} {o : zO}
theorem s_getsI {ix : Nat} {C n ds : String} {v : Int32} (hd : decode cc pc = .ok (.getstatic ix, 3)) (hq : (C, n, ds, .inl v) ∈ zstat) (hlk : Cond.fieldLink y.cls ix C n ds ∈ lw_all) (k9 : zS D z y cc nL rt hh d h (pc + 3) L (.int v :: st) o) : zS D z y cc nL rt hh d h pc L st o := s_gets hd hq hlk k9
theorem s_getsR {ix i : Nat} {C n ds : String} (hd : decode cc pc = .ok (.getstatic ix, 3)) (hq : (C, n, ds, .inr (.inl i)) ∈ zstat) (hlk : Cond.fieldLink y.cls ix C n ds ∈ lw_all) (k9 : zS D z y cc nL rt hh d h (pc + 3) L (va_rf (some (zG h i)) :: st) o) : zS D z y cc nL rt hh d h pc L st o := s_gets hd hq hlk k9
theorem s_getsQ {ix i : Nat} {C n ds : String} (hd : decode cc pc = .ok (.getstatic ix, 3)) (hq : (C, n, ds, .inr (.inr i)) ∈ zstat) (hlk : Cond.fieldLink y.cls ix C n ds ∈ lw_all) (k9 : zS D z y cc nL rt hh d h (pc + 3) L (va_rf (if zG h i = 0 then none else some (zG h i - 1)) :: st) o) : zS D z y cc nL rt hh d h pc L st o := s_gets hd hq hlk k9
end ZR8
/-! ===== JDK exceptions without text: new, dup, invokespecial ===== -/
theorem zin_tbl (ws : List Cond) (ps : List Nat) (hp : ws = ps.filterMap (fun i => lw_tbl[i]?)) (hg : ws.all zwk = true) : ∀ w ∈ ws, w ∈ lw_tbl ∧ zwk w = true := by
  intro w h
  have h1 := List.all_eq_true.mp hg w h
  rw [hp] at h
  obtain ⟨i, -, hi⟩ := List.mem_filterMap.mp h
  exact ⟨List.mem_of_getElem? hi, h1⟩
def zFx (own : String) (ik ic t : Nat) : Prop := ∃ (cls : String) (names : List String) (T0 : u_T), zcl[t]? = some (cls, T0, 0) ∧ Bundle.fit cls = true ∧ (∀ n ∈ names, Bundle.fit n = true) ∧ Cond.classLink own ik cls ∈ lw_all ∧ Cond.initialized cls ∈ lw_all ∧ names.length ≤ 4 ∧
  (∀ w ∈ (vx_at0 own ic cls names).filter goodWord, w ∈ lw_all) ∧ (∀ w ∈ (vx_at0 own ic cls names).filter (fun w => !goodWord w), w ∈ lw_tbl ∧ zwk w = true) ∧ (∀ w ∈ Cond.classLink own ik cls :: Cond.initialized cls :: vx_at0 own ic cls names, vx_ot w = true)
section ZR9
variable {D : va_G} {z : Nat} {y : MethodName} {cc : ByteArray} {nL : Nat} {rt : Option FieldType} {hh : List (Nat × Nat × Nat × Nat)} {d : Nat} {h : zH} {pc : Nat} {L : List (Nat × Value)} {st rest : List Value} {o : zO}
set_option maxHeartbeats 1000000 in
theorem s_make0 {ik ic t : Nat} {K : Option Nat → zH → zO} (d0 : decode cc pc = .ok (.new ik, 3)) (d3 : decode cc (pc + 3) = .ok (.dup, 1)) (d4 : decode cc (pc + 4) = .ok (.invokespecial ic, 3)) (hF : zFx y.cls ik ic t) (hd8 : 8 ≤ d) (hcat : (st.map fun v => v.category).sum ≤ 8)
    (k9 : ∀ r h1, zS D z y cc nL rt hh d h1 (pc + 7) L (va_rf r :: st) (K r h1)) : zS D z y cc nL rt hh d h pc L st (znE h t K) := by
  unfold znE
  obtain ⟨cls, names, T0, hc, hcls, hnames, hk, hini, hlen, hg1, hg2, hgood⟩ := hF
  refine zS_goN (fun p l e R s m args below meth c H locs cells slots Q ls C Kk P S hl hRcells hRslots kk => ?_) (k9 _ _)
  have hfr := C.fr
  have hlo := C.lo
  have hat : ∀ w ∈ vx_at0 y.cls ic cls names, w.before args s = true := fun w hw => by
    by_cases hgw : goodWord w = true
    · exact C.ts w (hg1 w (List.mem_filter.mpr ⟨hw, hgw⟩))
    · obtain ⟨w1, w2⟩ := hg2 w (List.mem_filter.mpr ⟨hw, by simpa using hgw⟩)
      exact vx_ot_at (State.WarmedH.refl s) rfl (hgood w (List.mem_cons_of_mem _ (List.mem_cons_of_mem _ hw))) (Kk.2.2.1 w w1 w2)
  rw [P.1] at kk
  have P4 := P.2.2.2.2
  intro T hT X
  subst hT
  have htr : e.platform.stackTraces = false := (show e.platform.stackTraces = l.stackTraces by rw [X.admits.platform]).trans C.tr
  have Y := vx_rebase X (R' := { frames := R.frames, locals := R.locals, cells := 1, slots := 6 }) (Nat.le_refl _) (Nat.le_refl _) hRcells hRslots
  obtain ⟨s', hA'⟩ : ∃ z, z = (T.setVm s.vm).setFrames (.invoking m args :: below) := ⟨_, rfl⟩
  rw [← hA'] at Y
  have hvm : s'.vm = s.vm := by rw [hA']; rfl
  have hhp : s'.heap = T.heap := by rw [hA']; rfl
  have hW0 : s.WarmedH s'.vm := by rw [hvm]; exact State.WarmedH.refl s
  have hat' : ∀ w ∈ vx_at0 y.cls ic cls names, w.before args s' = true := fun w hw => vx_ot_at hW0 hvm.symm (hgood w (List.mem_cons_of_mem _ (List.mem_cons_of_mem _ hw))) (hat w hw)
  have hk' : (Cond.classLink y.cls ik cls).before args s' = true := vx_ot_at hW0 hvm.symm (hgood _ List.mem_cons_self) (C.ts _ hk)
  have hini' : (Cond.initialized cls).before args s' = true := vx_ot_at hW0 hvm.symm (hgood _ (List.mem_cons_of_mem _ List.mem_cons_self)) (C.ts _ hini)
  have hU' : vx_Zq Bundle.tN "UNASSIGNED_STACK" Bundle.steD (fun a => z ≤ a) s' s'.heap := by rw [hhp]; exact vx_Zq.moved hW0.alike P4.1
  have hN' : vx_Zq Bundle.tN "SUPPRESSED_SENTINEL" Bundle.listD (fun a => z ≤ a) s' s'.heap := by rw [hhp]; exact vx_Zq.moved hW0.alike P4.2
  have h9 : ∀ w ∈ Bundle.ownAtoms0 y.cls ic cls names, w.before args s' = true := vx_own hat' (vx_isRefq hU'.1) (vx_isRefq hN'.1) hU'.2.word hN'.2.word
  have hown' : s'.vm.findClass y.cls = some m.cls := by rw [hvm]; exact C.own
  have hins : (Cond.instantiable cls 6).before args s' = true := h9 _ (by simp [Bundle.ownAtoms0])
  obtain ⟨vm₁, cX, kX, hfX, hkX, -, -, X₁, st1⟩ := Y.newCold C.hx (own := y.cls) (C := cls) (index := ik) (n := 6) hown' hk' hins hini'
    (g := F0 m pc ls st) rfl (by rw [C.hb]; exact d0) (Nat.le_refl _) (Nat.le_refl _)
  generalize hT1 : (T.setVm vm₁).pushCell { cls := cX, slots := kX.instanceTypes.map defaultValue, vm := .none } = T1 at X₁ st1
  have hcat9 : (Value.ref T.heap.size).category = 1 := rfl
  have hcellA : T1.heap[T.heap.size]? = some (freshCell cX kX) := by rw [← hT1]; exact State.heap_pushCell_size _ _
  have d3' : decode c.code (pc + 3) = .ok (.dup, 1) := by rw [C.hb]; exact d3
  obtain ⟨V, ce, L9, Z, hL, hlt, hcl9, hvm9, st9⟩ := vx_ctorMade0 X₁ C.hx htr (own := y.cls) (cls := cls) (names := names) (ic := ic) hown' hcls hnames h9 (fun x hx => nomatch hx) hfX hkX hcellA (by rw [hhp]; exact Nat.le_refl _)
    (g := { method := m, pc := pc + 4, locals := ls, stack := .ref T.heap.size :: .ref T.heap.size :: st, locked := none }) rfl (hl.1.trans C.ml.symm) (rest := st) rfl
    (by rw [C.hb]; exact d4) (show names.length + 3 < R.frames by omega) (by
      have e1 : (([.ref T.heap.size] : List Value) ++ st).map (fun v => v.category) = 1 :: st.map (fun v => v.category) := rfl
      simp only [List.map_cons, List.sum_cons, hcat9]
      show _ ≤ R.locals
      omega)
  have Z0 := Stand.forget (locs := []) Z (fun y hy => by rw [hL y hy, hhp]; exact Nat.le_refl _)
  obtain ⟨f1, f2⟩ := vx_frame Z0.same
  rw [hhp] at f1 f2
  have hcid : ce.cls = D.1 t := by
    rw [hcl9]
    have h1 := (Kk.1 t _ hc).2.1
    rw [hvm] at hfX
    exact Option.some.inj (hfX.symm.trans h1)
  have hh9 : (V.setCell T.heap.size ce).heap[T.heap.size]? = some ce := heapAt_setCell_self (s := V) ce hlt
  have hsz : (V.setCell T.heap.size ce).heap.size = T.heap.size + 1 := by
    have q1 := Z0.heapSize
    rw [hhp] at q1
    have q2 : T.heap.size < (V.setCell T.heap.size ce).heap.size := (Array.getElem?_eq_some_iff.mp hh9).1
    omega
  subst hA'
  have X5 := vx_back9 X Y Z0
  have X6 : Stand p l e R s m args below meth c (V.setCell T.heap.size ce) locs (cells + 1) (slots + 6) := { X5 with same := X5.same.mono (by omega) (by omega) }
  obtain ⟨t9, a1, b1⟩ := kk (V.setCell T.heap.size ce).heap hsz (fun q hq => f2 q hq (fun z hz => nomatch hz)) ⟨ce, hh9, by rw [hvm9]; exact fun q => (by cases q), by rw [hvm9]; rfl, fun _ => ⟨hvm9, P.2.1⟩, Or.inl ⟨_, hc, hcid, rfl, fun k hk => absurd hk (Nat.not_lt_zero k)⟩⟩ _ rfl X6
  refine ⟨t9, st1 _ ?_, b1⟩
  show Steps p.tables e below (T1.setTop { method := m, pc := pc + 3, locals := ls, stack := .ref T.heap.size :: st, locked := none }) _
  have hexec := C.hx
  jvm_step X₁.here [X₁.here.top, hexec, d3', Value.category]
  exact st9 _ a1
end ZR9
/-! ===== System.arraycopy ===== -/
theorem zcopyL_get {f g : List Value} {i j n k : Nat} (h1 : i + n ≤ f.length) (h2 : j + n ≤ g.length) : (zcopyL f g i j n)[k]? = if j ≤ k ∧ k < j + n then f[i + (k - j)]? else g[k]? := by
  unfold zcopyL
  rw [List.getElem?_append, List.length_take, Nat.min_eq_left (by omega)]
  by_cases q1 : k < j
  · rw [if_pos q1, if_neg (by omega), List.getElem?_take_of_lt q1]
  · rw [if_neg q1, List.getElem?_append, List.length_take, List.length_drop, Nat.min_eq_left (by omega)]
    by_cases q2 : k - j < n
    · rw [if_pos q2, if_pos (by omega), List.getElem?_take_of_lt q2, List.getElem?_drop]
    · rw [if_neg q2, if_neg (by omega), List.getElem?_drop]
      congr 1
      omega
theorem zcopied {cs cd : Cell} {i j n : Nat} (h1 : i + n ≤ cs.slots.size) (h2 : j + n ≤ cd.slots.size) : (cd.storeRun j (cs.stretch i n)).slots.toList = zcopyL cs.slots.toList cd.slots.toList i j n := by
  have hl : (cs.stretch i n).length = n := by simp [Cell.stretch]
  apply List.ext_getElem?
  intro k
  rw [Array.getElem?_toList, Cell.storeRun_get _ _ _ _ (by rw [hl]; exact h2), hl, zcopyL_get (by rw [Array.length_toList]; exact h1) (by rw [Array.length_toList]; exact h2)]
  by_cases q : j ≤ k ∧ k < j + n
  · rw [if_pos q, if_pos q, Array.getElem?_toList]
    have q3 : k - j < n := by omega
    have q4 : i + (k - j) < cs.slots.size := by omega
    simp [Cell.stretch, q3, Array.getD, q4]
  · rw [if_neg q, if_neg q, Array.getElem?_toList]
/-- may a value be copied into an array of things of these tags -/
def zfitV (h : zH) (us : List Nat) : Value → Bool
  | .null => true
  | .ref a => match zm h a with
    | some e => us.contains e.1
    | none => false
  | _ => false
section ZR10
variable {D : va_G} {z : Nat} {y : MethodName} {cc : ByteArray} {nL : Nat} {rt : Option FieldType} {hh : List (Nat × Nat × Nat × Nat)} {d : Nat} {h : zH} {pc : Nat} {L : List (Nat × Value)} {st rest : List Value} {o : zO}
theorem znn {x : Int32} (hz : ¬ x < 0) : x.toInt = (x.toNatClampNeg : Int) := by
  have hz0 : (0 : Int) ≤ x.toInt := by
    have := Int32.not_lt.mp hz
    simpa using Int32.le_iff_toInt_le.mp this
  show x.toInt = ((x.toInt.toNat : Nat) : Int)
  omega
/-- a step that writes places of one known cell -/
theorem zS_goM {a : Nat} {e1 : zEnt} {pc' : Nat} {st' : List Value}
    (go : ∀ (p : Program) (l : Launch) (e : Env) (R : Room) (s : State) (m : MethodId) (args : Array Value) (below : List Frame) (meth : Method) (c : Code) (H : Heap) (locs : List Loc) (cells slots : Nat) (Q : State → Prop) (ls : Array Slot),
      zCx y cc nL rt hh d p l R s m args meth c → zK D (zG h) s → zHp D z h s H → va_S (fun q => z ≤ q) s.heap H locs → lv_has ls nL L →
      (∀ (H1 : Heap) (L9 : List Loc), H1.size = H.size → (∀ q : Nat, q ≠ a → H1[q]? = H[q]?) → z ≤ a → (∀ q ∈ L9, q.base = a) → zat D z s a e1 H1 → W p l e R s m args below meth c H1 (locs ++ L9) cells slots Q (F0 m pc' ls st')) → W p l e R s m args below meth c H locs cells slots Q (F0 m pc ls st))
    (k : zS D z y cc nL rt hh d (zput h a e1) pc' L st' o) : zS D z y cc nL rt hh d h pc L st o := by
  intro r h' e
  obtain ⟨k1, k2⟩ := k r h' e
  refine ⟨zle_trans (zle_put h a e1) k1, fun p l e R s m args below meth c H locs u0 ls C K P S hl h1 h2 h3 => go p l e R s m args below meth c H locs _ _ _ ls C K P S hl fun H1 L9 z1 oq za hL9 hat => ?_⟩
  refine k2 p l e R s m args below meth c H1 _ u0 ls C K ⟨P.1.trans z1.symm, by rw [z1]; exact P.2.1, fun b e2 hb => ?_, (P.2.2.2.kept fun q hq hz => oq q fun e => hz (by rw [e]; exact za)).G rfl⟩ ⟨by rw [z1]; exact S.1, fun q q1 q2 => (oq q (fun e => q2 (by rw [e]; exact za))).trans (S.2.1 q q1 q2), fun w hw => (List.mem_append.mp hw).elim (S.2.2 w) (fun h9 => by rw [hL9 w h9]; exact za)⟩ hl h1 h2 h3
  by_cases hba : b = a
  · subst hba
    rw [zm_put_same] at hb
    cases hb
    exact hat
  · rw [zm_put_ne h e1 hba] at hb
    exact (P.2.2.1 b e2 hb).kept (oq b hba)
theorem zar_low : (nativeFrameWords "java/lang/System" "arraycopy" 5 + 11) ≤ 18 := by decide +kernel
theorem s_acp {ix : Nat} {ty : FieldType} {t : Nat} {ok : Value → Bool} {r q : Option Nat} {i j n : Int32} {K : zH → zO} (hd : decode cc pc = .ok (.invokestatic ix, 3)) (hlk : Cond.methodLink y.cls ix arraycopyName ∈ lw_all) (hnat : Cond.native arraycopyName ∈ lw_all) (hst : Cond.static arraycopyName ∈ lw_all) (hini : Cond.initialized "java/lang/System" ∈ lw_all)
    (hT : zta t = some ty) (hd1 : 1 ≤ d) (hcat : (st.map fun v => v.category).sum ≤ 8)
    (hok : ∀ v, ok v = true → fits ty v = true ∧ ∀ (s : State) (T : State) (vm1 : Vm) (comp : ClassId) (kd : Class), zK D (zG h) s → zHp D z h s T.heap → s.vm.Alike vm1 → s.vm.classes[D.1 t]? = some kd → kd.kind = .array comp ty → (T.setVm vm1).takes comp v)
    (k9 : ∀ h1, zS D z y cc nL rt hh d h1 (pc + 3) L st (K h1)) : zS D z y cc nL rt hh d h pc L (.int n :: .int j :: va_rf q :: .int i :: va_rf r :: st) (zacp h [t] ok r i q j n K) := by
  unfold zacp
  cases he : zob h [t] r with
  | none => exact zS_none
  | some e =>
    cases q with
    | none => exact zS_none
    | some b =>
      cases he2 : zob h [t] (some b) with
      | none => exact zS_none
      | some e2 =>
        dsimp only
        refine zS_ite (fun hc => ?_) (fun _ => zS_none)
        obtain ⟨hfr2, hi, hj, hn, hb1, hb2, hall⟩ := hc
        obtain ⟨a, rfl, hm, ht⟩ := zob_some he
        obtain ⟨b', hbe, hm2, ht2⟩ := zob_some he2
        cases hbe
        have ht' : e.1 = t := by simpa using ht
        have ht2' : e2.1 = t := by simpa using ht2
        refine zS_goM (fun p l e0 R s m args below meth c H locs cells slots Q ls C Kk P S hl kk => ?_) (k9 _)
        obtain ⟨cs, hcs, hu, hs, hfr, h3, h4, h5⟩ := zarr P hm (by rw [ht']; exact hT)
        obtain ⟨cd, hcd, hu2, hs2, hfr22, h32, h42, h52⟩ := zarr P hm2 (by rw [ht2']; exact hT)
        obtain ⟨g1, ks, g2, sc, g3⟩ := id h3
        obtain ⟨g12, kd, g22, dc, g32⟩ := id h32
        have hcls : cd.cls = D.1 t := by rw [h52 hfr2, ht2']
        have hz1 := zsize h4
        have hz2 := zsize h42
        intro T hT9 X
        obtain ⟨vm', X', step⟩ := X.arraycopy C.hx C.own (C.ts _ hlk) (C.ts _ hnat) (C.ts _ hst) (C.ts _ hini) (src := a) (dst := b) (cs := cs) (cd := cd) (srcPos := i) (destPos := j) (n := n) (by rw [hT9]; exact hcs) (by rw [hT9]; exact hcd) g1 g12 hu hu2 g2 g22 g3 g32 (by simp) hi hj hn
          (by rw [znn hi, znn hn, hz1]; omega) (by rw [znn hj, znn hn, hz2]; omega)
          (fun vm1 hal k hk => by
            have hin : i.toNatClampNeg + k < e.2.2.length := by omega
            have e9 : cs.slots.getD (i.toNatClampNeg + k) .null = e.2.2[i.toNatClampNeg + k] := by
              have h8 : cs.slots[i.toNatClampNeg + k]? = some e.2.2[i.toNatClampNeg + k] := zslot h4 (List.getElem?_eq_getElem hin)
              rw [Array.getD_eq_getD_getElem?, h8]
              rfl
            rw [e9]
            have h7 := List.all_eq_true.mp hall e.2.2[i.toNatClampNeg + k] (by
              apply List.mem_of_getElem? (i := k)
              rw [List.getElem?_take_of_lt hk, List.getElem?_drop, List.getElem?_eq_getElem hin])
            obtain ⟨q1, q2⟩ := hok _ h7
            exact ⟨q1, q2 s T vm1 dc kd Kk (by rw [hT9]; exact P) hal (by rw [← hcls]; exact g22) g32⟩)
          (g := F0 m pc ls (.int n :: .int j :: .ref b :: .int i :: .ref a :: st)) rfl (hl.1.trans C.ml.symm) (rest := st) rfl (by rw [C.hb]; exact hd) (Nat.le_trans hd1 C.fr) (by
            have h1 := zar_low
            have h2 := C.lo
            show 2 * 0 + _ + _ ≤ _
            omega)
        have hl9 : b < H.size := (Array.getElem?_eq_some_iff.mp hcd).1
        have hheap : ((T.setVm vm').setCell b (copied cs cd i j n)).heap = H.setIfInBounds b (copied cs cd i j n) := by rw [← hT9]; rfl
        obtain ⟨f1, f2, f3, -, -⟩ := Cell.storeRun_facts cd j.toNatClampNeg (cs.stretch i.toNatClampNeg n.toNatClampNeg)
        obtain ⟨t9, a1, b1⟩ := kk (H.setIfInBounds b (copied cs cd i j n)) _ (by simp) (fun q hq => by simp [Array.getElem?_setIfInBounds, Ne.symm hq]) (hfr22 hfr2).2
          (by intro q hq; obtain ⟨w, -, rfl⟩ := List.mem_map.mp hq; rfl)
          ⟨copied cs cd i j n, by simp [hl9], by rw [show (copied cs cd i j n).vm = cd.vm from f2]; exact hu2, by rw [show (copied cs cd i j n).vm = cd.vm from f2]; exact hs2, fun _ => by rw [show (copied cs cd i j n).vm = cd.vm from f2]; exact hfr22 hfr2,
            Or.inr (Or.inl ⟨ty, by rw [ht2']; exact hT, ⟨fun k => by rw [show (copied cs cd i j n).vm = cd.vm from f2]; exact g12 k, kd, by rw [show (copied cs cd i j n).cls = cd.cls from f1]; exact g22, dc, g32⟩, by rw [← h4, ← h42]; exact zcopied (by omega) (by omega), fun _ => by rw [show (copied cs cd i j n).cls = cd.cls from f1, ht2']; exact hcls⟩)⟩
          _ hheap X'
        exact ⟨t9, step t9 a1, b1⟩
theorem s_acpB {ix : Nat} {r q : Option Nat} {i j n : Int32} {K : zH → zO} (hd : decode cc pc = .ok (.invokestatic ix, 3)) (hlk : Cond.methodLink y.cls ix arraycopyName ∈ lw_all) (hd1 : 1 ≤ d) (hcat : (st.map fun v => v.category).sum ≤ 8)
    (k9 : ∀ h1, zS D z y cc nL rt hh d h1 (pc + 3) L st (K h1)) : zS D z y cc nL rt hh d h pc L (.int n :: .int j :: va_rf q :: .int i :: va_rf r :: st) (zacp h [204] (fun v => fits .byte v) r i q j n K) :=
  s_acp (ty := .byte) hd hlk q901 q900 q130 rfl hd1 hcat (fun v hv => ⟨hv, fun s T vm1 comp kd _ _ _ _ _ => by
    unfold State.takes
    split
    · simp [fits] at hv
    · trivial⟩) k9
theorem s_acpR {ix t : Nat} {E : String} {us : List Nat} {r q : Option Nat} {i j n : Int32} {K : zH → zO} (hd : decode cc pc = .ok (.invokestatic ix, 3)) (hlk : Cond.methodLink y.cls ix arraycopyName ∈ lw_all) (hT : zta t = some (.object E) ∧ t < 212) (hU : zcs E us) (hd1 : 1 ≤ d) (hcat : (st.map fun v => v.category).sum ≤ 8)
    (k9 : ∀ h1, zS D z y cc nL rt hh d h1 (pc + 3) L st (K h1)) : zS D z y cc nL rt hh d h pc L (.int n :: .int j :: va_rf q :: .int i :: va_rf r :: st) (zacp h [t] (zfitV h us) r i q j n K) :=
  s_acp (ty := .object E) hd hlk q901 q900 q130 hT.1 hd1 hcat (fun v hv => by
    cases v with
    | null => exact ⟨rfl, fun _ _ _ _ _ _ _ _ _ _ => trivial⟩
    | ref a =>
      refine ⟨rfl, fun s T vm1 comp kd Kk P hal hkd hkk => ?_⟩
      simp only [zfitV] at hv
      cases hm : zm h a with
      | none => rw [hm] at hv; cases hv
      | some e =>
        rw [hm] at hv
        have hu : e.1 ∈ us := by simpa using hv
        obtain ⟨kA, comp2, k1, k2, k3, -⟩ := (Kk.2.1 t _ hT.1 hT.2).2
        cases hkd.symm.trans k1
        cases hkk.symm.trans k2
        obtain ⟨kE, hkE, -⟩ := Vm.findClass_spec k3
        obtain ⟨cv, kv, v1, v2, v3, v4⟩ := zcs_asg hU Kk P hm hu k3
        obtain ⟨kv', hkv', -⟩ := hal.2.2 _ _ v3
        obtain ⟨kE', hkE', -⟩ := hal.2.2 _ _ hkE
        refine ⟨cv, v1, (fun q h9 => by rw [h9] at v2; cases v2), ⟨kv', hkv'⟩, ⟨kE', hkE'⟩, ?_⟩
        show vm1.assignable _ _ = true
        rw [hal.assignable]
        exact v4
    | int x => simp [zfitV] at hv
    | long x => simp [zfitV] at hv
    | float x => simp [zfitV] at hv
    | double x => simp [zfitV] at hv
    | _ => simp [zfitV] at hv) k9
end ZR10
/-! ===== rows that the printed list lacks: ldc_w of a float, private methods of a superclass, clone() of a byte[] ===== -/
def zcln (h : zH) (t : Nat) (ok : Value → Bool) (r : Option Nat) (K : Option Nat → zH → zO) : zO :=
  match zob h [t] r with
  | some e => if e.2.1 = true ∧ e.2.2.all ok = true then K (some (zsz h)) (znew h (t, true, e.2.2) e.2.2.length) else none
  | none => none
section ZR11
variable {D : va_G} {z : Nat} {y : MethodName} {cc : ByteArray} {nL : Nat} {rt : Option FieldType} {hh : List (Nat × Nat × Nat × Nat)} {d : Nat} {h : zH} {pc : Nat} {L : List (Nat × Value)} {st rest : List Value} {o : zO}
theorem zldcwF {p : Program} {l : Launch} {e : Env} {R : Room} {s : State} {m : MethodId} {args : Array Value} {below : List Frame} {meth : Method} {c : Code} {H : Heap} {locs : List Loc} {cells slots : Nat} {Q : State → Prop} {ls : Array Slot} (hexec : p.tables.exec = Jvm.exec) (hb : c.code = cc) {own : String} {index : Nat} {v : UInt32} (hown : s.vm.findClass own = some m.cls) (hconst : (Jvm.Cond.constantFloat own index v).before args s = true) (hdg : decode cc pc = .ok (.ldc_w index, 3)) (k : W p l e R s m args below meth c H locs cells slots Q (F0 m (pc + 3) ls (.float v :: rest))) : W p l e R s m args below meth c H locs cells slots Q (F0 m pc ls rest) := by
  intro T hT X
  obtain ⟨t, a, b⟩ := k T hT X
  refine ⟨t, ?_, b⟩
  obtain ⟨kk, cf, hk, hcf, hcp⟩ := Cond.constantFloat_spec hown hconst
  obtain ⟨k', hk', he⟩ := X.warmed.alike.2.2 _ _ hk
  jvm_step X.here [hexec, hb, hdg, ldc_w.wp_float (s := T) (f := F0 m pc ls rest) X.here.top hk' (by rw [he]; exact hcf) hcp]
  exact a
theorem s_ldcwf {ix : Nat} {v : UInt32} (hd : decode cc pc = .ok (.ldc_w ix, 3)) (hw : Jvm.Cond.constantFloat y.cls ix v ∈ lw_all)
    (k : zS D z y cc nL rt hh d h (pc + 3) L (.float v :: st) o) : zS D z y cc nL rt hh d h pc L st o :=
  zS_go (fun _ _ _ _ _ _ _ _ _ _ _ _ _ _ _ ls C K P S hl k => zldcwF C.hx C.hb C.own (C.ts _ hw) hd (k ls hl)) k
theorem zcallP {p : Program} {l : Launch} {e : Env} {R : Room} {s : State} {m : MethodId} {args : Array Value} {below : List Frame} {meth : Method} {c : Code} {T : State} {locs : List Loc} {cells slots : Nat} (X : Stand p l e R s m args below meth c T locs cells slots) (hexec : p.tables.exec = Jvm.exec) {own : String} {index : Nat} {y : MethodName} {bytes : ByteArray} {maxL : Nat} {ret : Option FieldType}
    (hown : s.vm.findClass own = some m.cls) (hlink : (Cond.methodLink own index y).before args s = true) (hinst : (Cond.instanceMethod y).before args s = true) (hpriv : s.PrivateAt y)
    (hcode : (Cond.code y bytes maxL ret).before args s = true) (hy : y.cls ≠ "java/lang/invoke/MethodHandle" ∧ y.cls ≠ "java/lang/invoke/VarHandle") (hitf : ∀ kP, s.vm.findClass y.cls = some kP → ∃ k, s.vm.classes[kP]? = some k ∧ k.isInterface = false)
    {W9 : Nat} {Pre : Pt → Array Value → Prop} {Post : Pt → Array Value → Option Value → Pt → Prop} {PostX : Pt → Array Value → Addr → Pt → Prop} (hK : vx_Back l R p e below s args y 3 W9 Pre Post PostX)
    {b : Addr} {cellB : Cell} (hcell : T.heap[b]? = some cellB) (hobj : cellB.vm.isStatics = false)
    {g : JFrame} (hg : g.method = m) (hsize : g.locals.size = c.maxLocals) {argsL rest : List Value} (hlen : ∀ sig, parseMethodDescriptor y.desc = some sig → argsL.length = sig.parameters.length)
    (hstack : g.stack = argsL.reverse ++ .ref b :: rest) (hW : 2 * g.monitorRoom + (rest.map fun v => v.category).sum ≤ W9) (hdg : decode c.code g.pc = .ok (.invokevirtual index, 3))
    (hpre : ∀ vm₁, s.WarmedH vm₁ → Pre ⟨T.setVm vm₁, locs, cells, slots⟩ (Value.ref b :: argsL).toArray) :
    (∃ (v : Option Value) (vm₁ : Vm) (B : Pt), s.WarmedH vm₁ ∧ Stand p l e R s m args below meth c B.U B.locs B.cells B.slots ∧ Post ⟨T.setVm vm₁, locs, cells, slots⟩ (Value.ref b :: argsL).toArray v B ∧
      ∀ target, Steps p.tables e below (B.U.setTop { g with pc := g.pc + 3, stack := v.toList ++ rest }) target → Steps p.tables e below (T.setTop g) target) ∨
    (∃ (q : Addr) (vm₁ : Vm) (B : Pt), s.WarmedH vm₁ ∧ Stand p l e R s m args below meth c B.U B.locs B.cells B.slots ∧ PostX ⟨T.setVm vm₁, locs, cells, slots⟩ (Value.ref b :: argsL).toArray q B ∧
      Steps p.tables e below (T.setTop g) ((B.U.setTop { g with stack := rest }).pushFrame (.throwing q))) := by
  obtain ⟨mk, methM, hnamed, hmethM, hstM, habM⟩ := Cond.instanceMethod_spec hinst
  obtain ⟨methM', cM, hmethM', -, -, -, -, -, -, hsigM⟩ := Cond.code_spec hnamed hcode
  cases hmethM.symm.trans hmethM'
  obtain ⟨kP, hkP, hkPi⟩ := hitf _ (findClass_of_methodNamed hnamed)
  have hselP : selectMethod e.platform s.vm cellB.cls mk = .method mk := selectMethod_private hmethM (hpriv mk methM hnamed hmethM)
  obtain ⟨vm₁, X₁, hstep₁⟩ := X.invokevirtual hexec hown hlink hnamed hmethM hstM hkP hkPi hy (a := b) (cell := cellB) hcell
    (fun z h => by rw [h] at hobj; cases hobj) hselP hmethM habM hkP hkPi (g := g) hg (argsL := argsL) (rest := rest) (hlen _ hsigM) hstack hdg
  rcases hK m meth c ⟨T.setVm vm₁, locs, cells, slots⟩ { g with stack := rest } (.invokevirtual index) mk (Value.ref b :: argsL).toArray X₁ hg hsize hdg hW (X₁.named hnamed) (hpre vm₁ X₁.warmed) with ⟨v, B, X', hpost, hsteps⟩ | ⟨q, B, X', hpost, hsteps⟩
  · exact Or.inl ⟨v, vm₁, B, X₁.warmed, X', hpost, fun target h => hstep₁ _ fun acts => by rw [doInvoke_state]; exact hsteps.trans h⟩
  · exact Or.inr ⟨q, vm₁, B, X₁.warmed, X', hpost, hstep₁ _ fun acts => by rw [doInvoke_state]; exact hsteps⟩
/-- a private method, called on a thing of a subclass -/
theorem s_callVP {ix : Nat} {y2 : MethodName} {np : Nat} {as : List Value} {of : zO} {X : Nat × Nat → zH → zO} {K : Option Value → zH → zO} {r0 : Option Nat} {t : Nat} {q : vw_C} {sel : MethodName} {selC : String} (hd : decode cc pc = .ok (.invokevirtual ix, 3)) (ht : ztg h r0 = some t) (hq : zcl[t]? = some q) (hC : zCal D z d h y2 (va_rf r0 :: as) of) (hcd : ∃ (b9 : ByteArray) (m9 : Nat) (r9 : Option FieldType), Cond.code y2 b9 m9 r9 ∈ lw_all) (hn : (parseMethodDescriptor y2.desc).map (fun q => q.parameters.length) = some np) (hl9 : as.length = np) (hlk : Cond.methodLink y.cls ix y2 ∈ lw_all) (hin : Cond.instanceMethod y2 ∈ lw_all) (hpv : Cond.privateMethod y2 ∈ lw_tbl) (hse : Cond.selects selC sel sel ∈ lw_all) (hsel : sel.cls = y2.cls) (hs : st = as.reverse ++ va_rf r0 :: rest) (hcat : (rest.map fun v => v.category).sum ≤ 8)
    (k : ∀ v h1, zS D z y cc nL rt hh d h1 (pc + 3) L (v.toList ++ rest) (K v h1)) (kx : ∀ x h1, zT D z y cc nL rt hh d h1 pc L x (X x h1)) :
    zS D z y cc nL rt hh d h pc L st (zc of X K) := by
  obtain ⟨a, e9, rfl, hm, rfl⟩ := ztg_some ht
  obtain ⟨cc2, nL2, rt2, hh2, d2, hS, hpn, hlen, hcw, hini, hd2, hnl, hmh⟩ := hC
  refine zS_call (n := 3) (a := (.ref a :: as : List Value).toArray) (fun r h1 ho => ⟨(hS r h1 ho).1, fun p l e R s m args below meth c T locs cells slots ls C Kk P hsz Xs q1 q2 => ?_⟩) k kx
  have hB := z_back (R := R) (p := p) (e := e) (below := below) (s := s) (sargs := args) (len := 3) hS ho hpn hlen l C.tr C.ts hcw hini hd2 hnl C.fr C.lo
  have hpre : ∀ vm₁, s.WarmedH vm₁ → zPre R (.ref a :: as) z D h h1 ⟨T.setVm vm₁, locs, cells, slots⟩ (.ref a :: as : List Value).toArray := fun vm₁ hW => ⟨q1, q2, rfl, Kk.warm hW, P.moved hW.alike⟩
  obtain ⟨cell, g1, g2, g3⟩ := zrecv Kk P hm hq
  obtain ⟨b9, m9, r9, hcd⟩ := hcd
  refine zcallP Xs C.hx C.own (C.ts _ hlk) (C.ts _ hin) (Cond.privateMethod_at (va_Nw.use (A := args) rfl (Kk.2.2.1 _ hpv rfl))) (C.ts _ hcd) hmh (fun kP hkP => ?_) hB g1 g2 rfl hsz (argsL := as) (rest := rest) (zCal.plen hn hl9) hs (lv_room hcat) (by rw [C.hb]; exact hd) hpre
  obtain ⟨c2, r2, m2, w1, w2, w3, w4, kP2, hkP2, hkPi⟩ := Cond.selects_spec (C.ts _ hse)
  have h9 := findClass_of_methodNamed w3
  rw [hsel] at h9
  cases hkP.symm.trans h9
  exact ⟨kP2, hkP2, hkPi⟩
theorem s_cloneB {ix : Nat} {r : Option Nat} {K : Option Nat → zH → zO} (hd : decode cc pc = .ok (.invokevirtual ix, 3)) (hlk : Cond.methodLink y.cls ix ⟨"[B", "clone", "()Ljava/lang/Object;"⟩ ∈ lw_all) (hsame : Cond.sameMethod "[B" "java/lang/Object" "clone" "()Ljava/lang/Object;" ∈ lw_all) (hnat : Cond.native ⟨"java/lang/Object", "clone", "()Ljava/lang/Object;"⟩ ∈ lw_all) (hin : Cond.instanceMethod ⟨"java/lang/Object", "clone", "()Ljava/lang/Object;"⟩ ∈ lw_all) (hsel : Cond.selects "[B" ⟨"[B", "clone", "()Ljava/lang/Object;"⟩ ⟨"java/lang/Object", "clone", "()Ljava/lang/Object;"⟩ ∈ lw_all) (hcl : Cond.castable "[B" "java/lang/Cloneable" ∈ lw_tbl) (hd1 : 1 ≤ d) (hcat : (st.map fun v => v.category).sum ≤ 8)
    (k9 : ∀ r h1, zS D z y cc nL rt hh d h1 (pc + 3) L (va_rf r :: st) (K r h1)) : zS D z y cc nL rt hh d h pc L (va_rf r :: st) (zcln h 204 (fun v => fits .byte v) r K) := by
  unfold zcln
  cases he : zob h [204] r with
  | none => exact zS_none
  | some e =>
    dsimp only
    refine zS_ite (fun hc => ?_) (fun _ => zS_none)
    obtain ⟨hfr0, hall⟩ := hc
    obtain ⟨a, rfl, hm, ht⟩ := zob_some he
    have ht' : e.1 = 204 := by simpa using ht
    refine zS_goN (fun p l e0 R s m args below meth c H locs cells slots Q ls C Kk P S hl hc1 hs1 kk => ?_) (k9 _ _)
    obtain ⟨cell, hcell, hu, hs, hfr, h3, h4, h5⟩ := zarr P hm (ty := .byte) (by rw [ht']; rfl)
    obtain ⟨hvm0, hza⟩ := hfr hfr0
    have hcl0 : cell.cls = D.1 204 := by rw [h5 hfr0, ht']
    have hnm : s.vm.findClass "[B" = some cell.cls := by rw [hcl0]; exact va_nm_byte (Kk.2.1 204 .byte rfl (by decide)).2
    obtain ⟨c0, t0', f1, f2, f3⟩ := Cond.castable_spec (va_Nw.use (A := args) rfl (Kk.2.2.1 _ hcl rfl))
    cases hnm.symm.trans f1
    have hsz := zsize h4
    intro T hT X
    have hcellT : T.heap[a]? = some cell := by rw [hT]; exact hcell
    obtain ⟨g1, kS, hkS, compS, hkindS⟩ := id h3
    obtain ⟨-, kA, hkA, comp, hkind⟩ := State.isArrayOf_alike X.warmed.alike h3
    have hcellE : ({ cls := cell.cls, slots := cell.slots } : Cell) = { cell with hash := ({ cls := cell.cls, slots := cell.slots } : Cell).hash, monitor := ({ cls := cell.cls, slots := cell.slots } : Cell).monitor, vm := .none } := rfl
    obtain ⟨vm', X', st9⟩ := X.cloneArray C.hx C.own (C.ts _ hlk) (C.ts _ hsame) (C.ts _ hnat) (C.ts _ hin) (C.ts _ hsel) (a := a) (cell := cell) hcellT g1 hu hnm f2 f3
      (fun i v hv => by
        have hk' : T.vm.classes[cell.cls]? = some kA := hkA
        have h8 : v ∈ e.2.2 := by
          rw [← h4]
          exact List.mem_of_getElem? (i := i) (by rw [Array.getElem?_toList]; exact hv)
        simpa [State.fitsSlot, State.slotType?, hk', hkind] using List.all_eq_true.mp hall v h8)
      (g := F0 m pc ls (.ref a :: st)) rfl (hl.1.trans C.ml.symm) rfl (by rw [C.hb]; exact hd) (Nat.le_trans hd1 C.fr) (by
        have h2 := C.lo
        show 2 * 0 + _ + 14 ≤ _
        omega) hc1 (by rw [hsz]; exact hs1) (hloader := Vm.clonesLoader_of_array hkS hkindS)
    rw [hsz] at X'
    rw [P.1] at kk
    obtain ⟨t9, a1, b1⟩ := kk (H.push { cls := cell.cls, slots := cell.slots }) (by rw [Array.size_push]) (fun q hq => by rw [Array.getElem?_push, if_neg (Nat.ne_of_lt hq)])
      ⟨{ cls := cell.cls, slots := cell.slots }, by rw [Array.getElem?_push_size], fun q => (by cases q), rfl, fun _ => ⟨rfl, P.2.1⟩, Or.inr (Or.inl ⟨.byte, rfl, ⟨fun k h9 => (by cases h9), kS, hkS, compS, hkindS⟩, h4, fun _ => hcl0⟩)⟩
      ((T.setVm vm').pushCell { cls := cell.cls, slots := cell.slots }) (by rw [← hT]; rfl) X'
    refine ⟨t9, st9 t9 ?_, b1⟩
    rw [hT]
    exact a1
theorem s_castB {ix : Nat} {r : Option Nat} (hd : decode cc pc = .ok (.checkcast ix, 3)) (hlk : Cond.classLink y.cls ix "[B" ∈ lw_all) (k9 : zS D z y cc nL rt hh d h (pc + 3) L (va_rf r :: st) o) : zS D z y cc nL rt hh d h pc L (va_rf r :: st) (zcastF h [204] r o) := by
  unfold zcastF
  cases r with
  | none => exact zS_go (fun _ _ _ _ _ _ _ _ _ _ _ _ _ _ _ ls C K P S hl k => lv_castN C.hx C.hb hd (k ls hl)) k9
  | some a =>
    dsimp only
    cases he : zob h [204] (some a) with
    | none => exact zS_none
    | some e =>
      obtain ⟨a', ha, hm, ht⟩ := zob_some he
      cases ha
      dsimp only
      refine zS_ite (fun hfr0 => ?_) (fun _ => zS_none)
      have ht' : e.1 = 204 := by simpa using ht
      refine zS_go (fun p l e0 R s m args below meth c H locs cells slots Q ls C K P S hl k => ?_) k9
      obtain ⟨cell, hc, hu, hs, hfr, h3, h4, h5⟩ := zarr P hm (ty := .byte) (by rw [ht']; rfl)
      have k4 : s.vm.findClass "[B" = some (D.1 204) := va_nm_byte (K.2.1 204 .byte rfl (by decide)).2
      intro T hT9 X
      obtain ⟨vm', X', st9⟩ := X.checkcastYes C.hx C.own (C.ts _ hlk) (by rw [hT9]; exact hc) hs k4 (by rw [h5 hfr0, ht']; exact va_asg _ _) (g := F0 m pc ls (.ref a :: st)) rfl rfl (by rw [C.hb]; exact hd)
      obtain ⟨t, a1, b1⟩ := k ls hl (T.setVm vm') hT9 X'
      exact ⟨t, st9 t a1, b1⟩
end ZR11
