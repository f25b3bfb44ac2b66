/-! ===== the z layer: an abstract heap, pure programs over it ===== -/
abbrev zEnt : Type := Nat × Bool × List Value
abbrev zH : Type := Nat × Nat × (Nat → Nat) × (Nat → Option zEnt)
abbrev zR : Type := (Option Value ⊕ (Nat × Nat)) × zH
abbrev zO : Type := Option zR
def zsz (h : zH) : Nat := h.1
def zus (h : zH) : Nat := h.2.1
def zG (h : zH) : Nat → Nat := h.2.2.1
def zm (h : zH) : Nat → Option zEnt := h.2.2.2
def zput (h : zH) (a : Nat) (e : zEnt) : zH := (h.1, h.2.1, h.2.2.1, fun j => if j = a then some e else h.2.2.2 j)
def znew (h : zH) (e : zEnt) (n : Nat) : zH := (h.1 + 1, h.2.1 + n, h.2.2.1, fun j => if j = h.1 then some e else h.2.2.2 j)
theorem zsz_put (h : zH) (a : Nat) (e : zEnt) : zsz (zput h a e) = zsz h := rfl
theorem zus_put (h : zH) (a : Nat) (e : zEnt) : zus (zput h a e) = zus h := rfl
theorem zG_put (h : zH) (a : Nat) (e : zEnt) : zG (zput h a e) = zG h := rfl
theorem zm_put (h : zH) (a : Nat) (e : zEnt) (j : Nat) : zm (zput h a e) j = if j = a then some e else zm h j := rfl
theorem zsz_new (h : zH) (e : zEnt) (n : Nat) : zsz (znew h e n) = zsz h + 1 := rfl
theorem zus_new (h : zH) (e : zEnt) (n : Nat) : zus (znew h e n) = zus h + n := rfl
theorem zG_new (h : zH) (e : zEnt) (n : Nat) : zG (znew h e n) = zG h := rfl
theorem zm_new (h : zH) (e : zEnt) (n : Nat) (j : Nat) : zm (znew h e n) j = if j = zsz h then some e else zm h j := rfl
theorem zm_put_same (h : zH) (a : Nat) (e : zEnt) : zm (zput h a e) a = some e := by rw [zm_put, if_pos rfl]
theorem zm_put_ne (h : zH) {a j : Nat} (e : zEnt) (n : j ≠ a) : zm (zput h a e) j = zm h j := by rw [zm_put, if_neg n]
theorem zm_new_same (h : zH) (e : zEnt) (n : Nat) : zm (znew h e n) (zsz h) = some e := by rw [zm_new, if_pos rfl]
theorem zm_new_ne (h : zH) {j : Nat} (e : zEnt) (n : Nat) (q : j ≠ zsz h) : zm (znew h e n) j = zm h j := by rw [zm_new, if_neg q]
/-- a value's kinds -/
def zvI : Option Value → Option Int32
  | some (.int x) => some x
  | _ => none
def zvL : Option Value → Option Int64
  | some (.long x) => some x
  | _ => none
def zvF : Option Value → Option UInt32
  | some (.float x) => some x
  | _ => none
def zvD : Option Value → Option UInt64
  | some (.double x) => some x
  | _ => none
def zvR : Option Value → Option (Option Nat)
  | some .null => some none
  | some (.ref a) => some (some a)
  | _ => none
theorem zvI_some {v : Option Value} {x : Int32} (h : zvI v = some x) : v = some (.int x) := by
  unfold zvI at h
  split at h
  · cases h; rfl
  · cases h
theorem zvL_some {v : Option Value} {x : Int64} (h : zvL v = some x) : v = some (.long x) := by
  unfold zvL at h
  split at h
  · cases h; rfl
  · cases h
theorem zvF_some {v : Option Value} {x : UInt32} (h : zvF v = some x) : v = some (.float x) := by
  unfold zvF at h
  split at h
  · cases h; rfl
  · cases h
theorem zvD_some {v : Option Value} {x : UInt64} (h : zvD v = some x) : v = some (.double x) := by
  unfold zvD at h
  split at h
  · cases h; rfl
  · cases h
theorem zvR_some {v : Option Value} {x : Option Nat} (h : zvR v = some x) : v = some (va_rf x) := by
  unfold zvR at h
  split at h
  · cases h; rfl
  · cases h; rfl
  · cases h
/-- the thing at a reference, if its tag is one of these -/
def zob (h : zH) (ts : List Nat) : Option Nat → Option zEnt
  | none => none
  | some a => match zm h a with
    | some e => if ts.contains e.1 = true then some e else none
    | none => none
theorem zob_some {h : zH} {ts : List Nat} {r : Option Nat} {e : zEnt} (q : zob h ts r = some e) : ∃ a, r = some a ∧ zm h a = some e ∧ e.1 ∈ ts := by
  cases r with
  | none => cases q
  | some a =>
    simp only [zob] at q
    cases hm : zm h a with
    | none => rw [hm] at q; cases q
    | some e1 =>
      rw [hm] at q
      dsimp only at q
      split at q
      · rename_i hc
        cases q
        exact ⟨a, rfl, hm, by simpa using hc⟩
      · cases q
def zgV (h : zH) (ts : List Nat) (k : Nat) (r : Option Nat) : Option Value := (zob h ts r).bind fun e => e.2.2[k]?
def zgI (h : zH) (ts : List Nat) (k : Nat) (r : Option Nat) (K : Int32 → zO) : zO := (zvI (zgV h ts k r)).bind K
def zgL (h : zH) (ts : List Nat) (k : Nat) (r : Option Nat) (K : Int64 → zO) : zO := (zvL (zgV h ts k r)).bind K
def zgF (h : zH) (ts : List Nat) (k : Nat) (r : Option Nat) (K : UInt32 → zO) : zO := (zvF (zgV h ts k r)).bind K
def zgD (h : zH) (ts : List Nat) (k : Nat) (r : Option Nat) (K : UInt64 → zO) : zO := (zvD (zgV h ts k r)).bind K
def zgR (h : zH) (ts : List Nat) (k : Nat) (r : Option Nat) (K : Option Nat → zO) : zO := (zvR (zgV h ts k r)).bind K
/-- a field is written -/
def zpF (h : zH) (ts : List Nat) (k : Nat) (r : Option Nat) (v : Value) (K : zH → zO) : zO :=
  match r, zob h ts r with
  | some a, some e => if e.2.1 = true ∧ k < e.2.2.length then K (zput h a (e.1, true, e.2.2.set k v)) else none
  | _, _ => none
def zok (ty : FieldType) (v : Value) : Bool := decide (narrow ty v = v) && fits ty v
def zpN (h : zH) (ts : List Nat) (k : Nat) (r : Option Nat) (ty : FieldType) (v : Value) (K : zH → zO) : zO := if zok ty v = true then zpF h ts k r v K else none
/-- arrays -/
def zix (i : Int32) (n : Nat) : Option Nat := if i < 0 ∨ n ≤ i.toNatClampNeg then none else some i.toNatClampNeg
theorem zix_some {i : Int32} {n j : Nat} (h : zix i n = some j) : ¬ (i < 0 ∨ n ≤ i.toNatClampNeg) ∧ j = i.toNatClampNeg := by
  unfold zix at h
  split at h
  · cases h
  · rename_i q
    cases h
    exact ⟨q, rfl⟩
def zaV (h : zH) (ts : List Nat) (r : Option Nat) (i : Int32) : Option Value := (zob h ts r).bind fun e => (zix i e.2.2.length).bind fun j => e.2.2[j]?
def zaI (h : zH) (ts : List Nat) (r : Option Nat) (i : Int32) (K : Int32 → zO) : zO := (zvI (zaV h ts r i)).bind K
def zaL (h : zH) (ts : List Nat) (r : Option Nat) (i : Int32) (K : Int64 → zO) : zO := (zvL (zaV h ts r i)).bind K
def zaD (h : zH) (ts : List Nat) (r : Option Nat) (i : Int32) (K : UInt64 → zO) : zO := (zvD (zaV h ts r i)).bind K
def zaR (h : zH) (ts : List Nat) (r : Option Nat) (i : Int32) (K : Option Nat → zO) : zO := (zvR (zaV h ts r i)).bind K
def zaS (h : zH) (ts : List Nat) (r : Option Nat) (i : Int32) (v : Value) (K : zH → zO) : zO :=
  match r, zob h ts r with
  | some a, some e => match zix i e.2.2.length with
    | some j => if e.2.1 = true then K (zput h a (e.1, true, e.2.2.set j v)) else none
    | none => none
  | _, _ => none
def zaN (h : zH) (ts : List Nat) (r : Option Nat) (K : Int32 → zO) : zO := (zob h ts r).bind fun e => K (Int32.ofNat e.2.2.length)
/-- a reference that may be stored in an array: null, or a thing of one of these tags -/
def zfit (h : zH) (us : List Nat) : Option Nat → Bool
  | none => true
  | some a => match zm h a with
    | some e => us.contains e.1
    | none => false
def zaQ (h : zH) (ts us : List Nat) (r : Option Nat) (i : Int32) (v : Option Nat) (K : zH → zO) : zO := if zfit h us v = true then zaS h ts r i (va_rf v) K else none
/-- new things -/
def znO (h : zH) (t : Nat) (vs : List Value) (K : Option Nat → zH → zO) : zO := K (some (zsz h)) (znew h (t, true, vs) vs.length)
def znE (h : zH) (t : Nat) (K : Option Nat → zH → zO) : zO := K (some (zsz h)) (znew h (t, true, []) 6)
def znA (h : zH) (t b : Nat) (dv : Value) (n : Int32) (K : Option Nat → zH → zO) : zO :=
  if n < 0 ∨ 536870912 < n.toNatClampNeg * b then none else K (some (zsz h)) (znew h (t, true, List.replicate n.toNatClampNeg dv) n.toNatClampNeg)
/-- calls: what goes on behind them -/
def zX : Nat × Nat → zH → zO := fun x h => some (.inr x, h)
def zc (o : zO) (X : Nat × Nat → zH → zO) (K : Option Value → zH → zO) : zO :=
  match o with
  | none => none
  | some (.inl v, h) => K v h
  | some (.inr x, h) => X x h
def zcI (o : zO) (X : Nat × Nat → zH → zO) (K : Int32 → zH → zO) : zO := zc o X fun v h => (zvI v).bind fun x => K x h
def zcL (o : zO) (X : Nat × Nat → zH → zO) (K : Int64 → zH → zO) : zO := zc o X fun v h => (zvL v).bind fun x => K x h
def zcF (o : zO) (X : Nat × Nat → zH → zO) (K : UInt32 → zH → zO) : zO := zc o X fun v h => (zvF v).bind fun x => K x h
def zcD (o : zO) (X : Nat × Nat → zH → zO) (K : UInt64 → zH → zO) : zO := zc o X fun v h => (zvD v).bind fun x => K x h
def zcR (o : zO) (X : Nat × Nat → zH → zO) (K : Option Nat → zH → zO) : zO := zc o X fun v h => (zvR v).bind fun x => K x h
def zcV (o : zO) (X : Nat × Nat → zH → zO) (K : zH → zO) : zO := zc o X fun v h => match v with
  | none => K h
  | some _ => none
/-- ends -/
def zrI (x : Int32) (h : zH) : zO := some (.inl (some (.int x)), h)
def zrN (ty : FieldType) (x : Int32) (h : zH) : zO := if narrow ty (.int x) = .int x then some (.inl (some (.int x)), h) else none
def zrL (x : Int64) (h : zH) : zO := some (.inl (some (.long x)), h)
def zrF (x : UInt32) (h : zH) : zO := some (.inl (some (.float x)), h)
def zrD (x : UInt64) (h : zH) : zO := some (.inl (some (.double x)), h)
def zrR (r : Option Nat) (h : zH) : zO := some (.inl (some (va_rf r)), h)
def zrV (h : zH) : zO := some (.inl none, h)
def zth (h : zH) (ts : List Nat) (r : Option Nat) (X : Nat × Nat → zH → zO) : zO :=
  match r with
  | none => none
  | some a => match zm h a with
    | some (t, true, _) => if ts.contains t = true then X (t, a) h else none
    | _ => none
def ztg (h : zH) (r : Option Nat) : Option Nat := r.bind fun a => (zm h a).map fun e => e.1
def zcast (h : zH) (ts : List Nat) (r : Option Nat) (o : zO) : zO :=
  match r with
  | none => o
  | some a => match zob h ts (some a) with
    | some _ => o
    | none => none
def zinst (h : zH) (ts ns : List Nat) (r : Option Nat) (K : Int32 → zO) : zO :=
  match r with
  | none => K 0
  | some a => match zm h a with
    | some e => if ts.contains e.1 = true then K 1 else if ns.contains e.1 = true then K 0 else none
    | none => none
def znm {α : Type} (x : α) (K : α → zO) : zO := K x
/-- arraycopy between two arrays of one tag: n places from i on to j on -/
def zcopyL (f g : List Value) (i j n : Nat) : List Value := g.take j ++ ((f.drop i).take n ++ g.drop (j + n))
def zacp (h : zH) (ts : List Nat) (ok : Value → Bool) (r : Option Nat) (i : Int32) (q : Option Nat) (j n : Int32) (K : zH → zO) : zO :=
  match zob h ts r, q, zob h ts q with
  | some e, some b, some e2 => if e2.2.1 = true ∧ ¬ i < 0 ∧ ¬ j < 0 ∧ ¬ n < 0 ∧ i.toNatClampNeg + n.toNatClampNeg ≤ e.2.2.length ∧ j.toNatClampNeg + n.toNatClampNeg ≤ e2.2.2.length ∧ ((e.2.2.drop i.toNatClampNeg).take n.toNatClampNeg).all ok = true then
      K (zput h b (e2.1, true, zcopyL e.2.2 e2.2.2 i.toNatClampNeg j.toNatClampNeg n.toNatClampNeg)) else none
  | _, _, _ => none
/-- heaps grow -/
def zle (h h' : zH) : Prop := zsz h ≤ zsz h' ∧ zus h ≤ zus h' ∧ zG h' = zG h
theorem zle_refl (h : zH) : zle h h := ⟨Nat.le_refl _, Nat.le_refl _, rfl⟩
theorem zle_trans {a b c : zH} (h : zle a b) (k : zle b c) : zle a c := ⟨Nat.le_trans h.1 k.1, Nat.le_trans h.2.1 k.2.1, k.2.2.trans h.2.2⟩
theorem zle_put (h : zH) (a : Nat) (e : zEnt) : zle h (zput h a e) := zle_refl h
theorem zle_new (h : zH) (e : zEnt) (n : Nat) : zle h (znew h e n) := ⟨Nat.le_succ _, Nat.le_add_right _ _, rfl⟩
def zcastF (h : zH) (ts : List Nat) (r : Option Nat) (o : zO) : zO :=
  match r with
  | none => o
  | some a => match zob h ts (some a) with
    | some e => if e.2.1 = true then o else none
    | none => none
/-! ===== the machine's side: what realises an abstract heap ===== -/
def zat (D : va_G) (z : Nat) (U : State) (a : Nat) (e : zEnt) (H : Heap) : Prop :=
  ∃ cell : Cell, H[a]? = some cell ∧ cell.vm ≠ .unknown ∧ cell.vm.isStatics = false ∧ (e.2.1 = true → cell.vm = .none ∧ z ≤ a) ∧
    ((∃ q, zcl[e.1]? = some q ∧ cell.cls = D.1 e.1 ∧ e.2.2.length = q.2.2 ∧ ∀ k, k < q.2.2 → cell.slots[D.2 e.1 k]? = e.2.2[k]?) ∨
     (∃ ty, zta e.1 = some ty ∧ U.isArrayOf cell ty ∧ cell.slots.toList = e.2.2 ∧ (e.2.1 = true → cell.cls = D.1 e.1)) ∨
     (zla e.1 = true ∧ cell.cls = D.1 e.1 ∧ cell.slots.toList = e.2.2))
theorem zat.lt {D : va_G} {z : Nat} {U : State} {a : Nat} {e : zEnt} {H : Heap} (h : zat D z U a e H) : a < H.size := by
  obtain ⟨cell, h1, -⟩ := h
  exact (Array.getElem?_eq_some_iff.mp h1).1
theorem zat.moved {D : va_G} {z : Nat} {u U : State} {a : Nat} {e : zEnt} {H : Heap} (hvm : u.vm.Alike U.vm) (h : zat D z u a e H) : zat D z U a e H := by
  obtain ⟨cell, h1, h2, h3, h4, h5⟩ := h
  refine ⟨cell, h1, h2, h3, h4, ?_⟩
  rcases h5 with h5 | ⟨ty, h5, h6, h7⟩ | h5
  · exact Or.inl h5
  · exact Or.inr (Or.inl ⟨ty, h5, State.isArrayOf_alike hvm h6, h7⟩)
  · exact Or.inr (Or.inr h5)
theorem zat.kept {D : va_G} {z : Nat} {U : State} {a : Nat} {e : zEnt} {H H1 : Heap} (h : zat D z U a e H) (h1 : H1[a]? = H[a]?) : zat D z U a e H1 := by
  obtain ⟨cell, q, r⟩ := h
  exact ⟨cell, by rw [h1]; exact q, r⟩
/-- a static's value -/
def zsv (h : zH) : Int32 ⊕ Nat ⊕ Nat → Value
  | .inl k => .int k
  | .inr (.inl i) => .ref (zG h i)
  | .inr (.inr i) => va_rf (if zG h i = 0 then none else some (zG h i - 1))
def zSt (h : zH) (z : Nat) (U : State) (H : Heap) : Prop :=
  (∀ q ∈ zstat, va_Z q.1 q.2.1 q.2.2.1 (zsv h q.2.2.2) (fun a => z ≤ a) U H) ∧
  vx_Zq Bundle.tN "UNASSIGNED_STACK" Bundle.steD (fun a => z ≤ a) U H ∧ vx_Zq Bundle.tN "SUPPRESSED_SENTINEL" Bundle.listD (fun a => z ≤ a) U H
theorem zSt.moved {h : zH} {z : Nat} {u U : State} {H : Heap} (hvm : u.vm.Alike U.vm) (q : zSt h z u H) : zSt h z U H := ⟨fun w hw => (q.1 w hw).moved hvm, q.2.1.moved hvm, q.2.2.moved hvm⟩
theorem zSt.kept {h : zH} {z : Nat} {U : State} {H H1 : Heap} (q : zSt h z U H) (k : ∀ a : Nat, a < H.size → ¬ z ≤ a → H1[a]? = H[a]?) : zSt h z U H1 := ⟨fun w hw => (q.1 w hw).kept k, q.2.1.kept k, q.2.2.kept k⟩
theorem zsv_G {h h' : zH} (e : zG h' = zG h) (x : Int32 ⊕ Nat ⊕ Nat) : zsv h' x = zsv h x := by
  rcases x with k | i | i
  · rfl
  · show Value.ref (zG h' i) = Value.ref (zG h i); rw [e]
  · show va_rf (if zG h' i = 0 then none else some (zG h' i - 1)) = va_rf (if zG h i = 0 then none else some (zG h i - 1)); rw [e]
theorem zSt.G {h h' : zH} {z : Nat} {U : State} {H : Heap} (e : zG h' = zG h) (q : zSt h z U H) : zSt h' z U H := ⟨fun w hw => by rw [zsv_G e]; exact q.1 w hw, q.2⟩
/-- the heap's part of a world -/
def zHp (D : va_G) (z : Nat) (h : zH) (U : State) (H : Heap) : Prop :=
  zsz h = H.size ∧ z ≤ H.size ∧ (∀ (a : Nat) (e : zEnt), zm h a = some e → zat D z U a e H) ∧ zSt h z U H
theorem zHp.moved {D : va_G} {z : Nat} {h : zH} {u U : State} {H : Heap} (hvm : u.vm.Alike U.vm) (q : zHp D z h u H) : zHp D z h U H := ⟨q.1, q.2.1, fun a e hm => (q.2.2.1 a e hm).moved hvm, q.2.2.2.moved hvm⟩
/-- a lambda's site and the class that was made for it -/
def zLm (D : va_G) (G : Nat → Nat) (t : Nat) (q : MethodName × Nat × Nat × Lambda.Shape) (U : State) : Prop :=
  ∃ (m : MethodId) (k : Class) (cf : ClassFile) (i0 p0 : Nat), U.methodNamed? q.1 = some m ∧ U.vm.classes[m.cls]? = some k ∧ k.cf = some cf ∧ Lambda.shapeOf? cf q.2.2.1 = some q.2.2.2 ∧
    (k.callSites.find? fun y => y.1 == m.idx && y.2.1 == q.2.1) = some (i0, p0, if q.2.2.2.captured.isEmpty = true then .constant (G t) else .makes (D.1 t)) ∧
    Lambda.isMade { classPath := fun _ => none } U.vm m.cls q.2.2.2 (D.1 t) = true ∧ U.lambdaCallable q.2.2.2 (D.1 t) = true
theorem zLm.warm {D : va_G} {G : Nat → Nat} {t : Nat} {q : MethodName × Nat × Nat × Lambda.Shape} {s U : State} (hW : s.WarmedH U.vm) (h : zLm D G t q s) : zLm D G t q U := by
  obtain ⟨m, k, cf, i0, p0, hm, hk, hcf, hsh, hfind, hmade, hcall⟩ := h
  have hA := hW.alike
  obtain ⟨kc', hk', he⟩ := hA.2.2 _ _ hk
  have hm' : U.methodNamed? q.1 = some m := by
    have := State.methodNamed?_setVm (s := s) hA q.1
    rw [hm] at this
    exact this
  refine ⟨m, kc', cf, i0, p0, hm', hk', by rw [he]; exact hcf, hsh, by rw [he]; exact hfind, Lambda.isMade_warmer hW hmade, ?_⟩
  simp only [State.lambdaCallable, hA.findClass, hA.assignable, hA.superclasses, hA.declaredIn] at hcall ⊢
  exact hcall
theorem zLm.asg {D : va_G} {G : Nat → Nat} {t : Nat} {q : MethodName × Nat × Nat × Lambda.Shape} {U : State} (h : zLm D G t q U) : ∃ kv : Class, U.vm.classes[D.1 t]? = some kv ∧ ∃ comp : ClassId, U.vm.findClass q.2.2.2.iface = some comp ∧ U.vm.assignable (D.1 t) comp = true := by
  obtain ⟨m, k, cf, i0, p0, hm, hk, hcf, hsh, hfind, hmade, hcall⟩ := h
  obtain ⟨dk, kv, ok, tk, file, cf, object, iface, t, lay, methods, target, found, h1, h2, -⟩ := Lambda.isMade_spec hmade
  obtain ⟨i, hi, ha, -⟩ := State.lambdaCallable_spec hcall
  exact ⟨kv, h2, i, hi, ha⟩
/-- an interface's method that lambdas implement -/
def zIf (x : MethodName) (U : State) : Prop := (Cond.declares x).before #[] U = true ∧ (Cond.interfaceMethod x.cls x.cls x.name x.desc).before #[] U = true
theorem zIf.moved {x : MethodName} (hx : x.cls ≠ "java/lang/invoke/MethodHandle" ∧ x.cls ≠ "java/lang/invoke/VarHandle") {u U : State} (hvm : u.vm.Alike U.vm) (h : zIf x u) : zIf x U := by
  obtain ⟨h1, h2⟩ := h
  obtain ⟨r, meth, hn, -⟩ := Cond.declares_spec h1
  have tr : ∀ {c : Cond}, c.onTables = true → c.before #[] (u.setVm U.vm) = true → c.before #[] U = true := by
    intro c hc h
    have e := Cond.onTables_vm (A := #[]) (A' := #[]) (U := u) (U' := U) U.vm c hc
    have hU : U.setVm U.vm = U := rfl
    rw [hU] at e
    rw [← e]
    exact h
  exact ⟨tr rfl (by rw [Cond.declares_setVm hvm]; exact h1), tr rfl (by rw [Cond.interfaceMethod_setVm hvm (r := r) hn hx]; exact h2)⟩
/-- the tables' part -/
def zK (D : va_G) (G : Nat → Nat) (U : State) : Prop :=
  (∀ (c : Nat) (q : vw_C), zcl[c]? = some q → u_Kn U q.1 q.2.1 q.2.2 (D.1 c) (D.2 c)) ∧
  (∀ (k : Nat) (ty : FieldType), zta k = some ty → k < 212 → ArrOfT U (D.1 k) ty ∧ va_RA U (D.1 k) ty) ∧
  (∀ w ∈ lw_tbl, zwk w = true → va_Nw w U) ∧
  (∀ q ∈ zstr, vk_R q.1 q.2.1 q.2.2.1 (G q.2.2.2) U) ∧
  (∀ q ∈ znc, va_Nc q.1 q.2 U) ∧
  (∀ q ∈ zfw, va_Fw q.1 q.2.1 q.2.2 U) ∧
  (∀ t q, zls t = some q → zLm D G t q U) ∧ (∀ x ∈ zif, zIf x U) ∧ (Cond.instantiable "java/lang/Object" 0).before #[] U = true
theorem zK.asg {D : va_G} {G : Nat → Nat} {U : State} (h : zK D G U) : ∀ t, zla t = true → ∃ kv : Class, U.vm.classes[D.1 t]? = some kv ∧ ∃ comp : ClassId, U.vm.findClass (zlf t) = some comp ∧ U.vm.assignable (D.1 t) comp = true := by
  intro t ht
  obtain ⟨q, hq, hf⟩ := zls_la ht
  rw [← hf]
  exact (h.2.2.2.2.2.2.1 t q hq).asg
theorem zwk_warm {w : Cond} (hk : zwk w = true) {s U : State} (hW : s.WarmedH U.vm) (h : va_Nw w s) : va_Nw w U := by
  unfold zwk at hk
  split at hk
  · exact va_Nw.warmC hW h
  · exact va_Nw.warmD hW h
  · exact va_Nw.warmM hW h
  · exact va_Nw.warmF hW h
  · exact va_tabs rfl (rfl : (s.setVm U.vm).vm = U.vm) (by rw [Cond.publicMethod_setVm hW.alike]; exact h)
  · exact va_tabs rfl (rfl : (s.setVm U.vm).vm = U.vm) (by rw [Cond.privateMethod_setVm hW.alike]; exact h)
  · rename_i C
    exact va_AO.moved (C := C) hW.alike h
  · cases hk
theorem zinst_warm {s U : State} (hW : s.WarmedH U.vm) (h : (Cond.instantiable "java/lang/Object" 0).before #[] s = true) : (Cond.instantiable "java/lang/Object" 0).before #[] U = true :=
  va_tabs rfl (rfl : (s.setVm U.vm).vm = U.vm) (by rw [Cond.instantiable_setVm hW.alike]; exact h)
theorem zK.warm {D : va_G} {G : Nat → Nat} {s U : State} (hW : s.WarmedH U.vm) (h : zK D G s) : zK D G U := by
  obtain ⟨h1, h2, h3, h4, h5, h6, h7, h8, h9⟩ := h
  refine ⟨fun c q hq => u_Kn_moved hW.alike (h1 c q hq), fun k ty hk hl => ⟨arrOfT_moved hW.alike (h2 k ty hk hl).1, (h2 k ty hk hl).2.moved hW.alike⟩, fun w hw hk => zwk_warm hk hW (h3 w hw hk), fun q hq => (h4 q hq).warm hW, fun q hq => (h5 q hq).moved hW.alike, fun q hq => (h6 q hq).moved (zfw_ok q hq) hW.alike, fun t q hq => (h7 t q hq).warm hW, fun x hx => (h8 x hx).moved (zif_ok x hx) hW.alike, va_any (A := #[]) rfl (zinst_warm hW h9)⟩
/-- a method's place: the machine, its code and table, the room that it has -/
def zCx (y : MethodName) (cc : ByteArray) (nL : Nat) (rt : Option FieldType) (hh : List (Nat × Nat × Nat × Nat)) (d : Nat) (p : Program) (l : Launch) (R : Room) (s : State) (m : MethodId) (args : Array Value) (meth : Method) (c : Code) : Prop :=
  p.tables.exec = Jvm.exec ∧ c.code = cc ∧ s.vm.findClass y.cls = some m.cls ∧ (∀ w ∈ lw_all, w.before args s = true) ∧ c.maxLocals = nL ∧ meth.locks = false ∧ meth.sig.returnType = rt ∧
  c.exceptionTable.toList = tableOf hh ∧ d ≤ R.frames ∧ 64 * d ≤ R.locals ∧ l.stackTraces = false ∧ meth.name = y.name ∧ s.methodNamed? y = some m
/-- what a run ends in -/
def zE (D : va_G) (z : Nat) (s : State) (u0 : Nat) (r : Option Value ⊕ (Nat × Nat)) (h' : zH) (o : Outcome) (t : State) : Prop :=
  zHp D z h' s t.heap ∧
  ((∃ (v : Option Value) (L : List Loc), r = .inl v ∧ o = .returned v ∧ FrameEnd s o t L (zsz h' - s.heap.size) (zus h' - u0) ∧ ∀ q ∈ L, z ≤ q.base) ∨
   (∃ (x : Nat × Nat) (vs : List Value) (ce : Cell) (q : vw_C) (L : List Loc), r = .inr x ∧ o = .threw x.2 ∧ zm h' x.2 = some (x.1, true, vs) ∧ zcl[x.1]? = some q ∧ s.vm.findClass q.1 = some ce.cls ∧ t.heap[x.2]? = some ce ∧ ce.vm = .none ∧ s.WarmedH t.vm ∧
      s.sameButNew ({ t with vm := s.vm } : State) L (zsz h' - s.heap.size) (zus h' - u0) ∧ ∀ w ∈ L, z ≤ w.base))
def zF (D : va_G) (z : Nat) (below : List Frame) (s : State) (u0 : Nat) (r : Option Value ⊕ (Nat × Nat)) (h' : zH) : State → Prop := fun t => ∃ o, t.status = .running ∧ Ended t below o ∧ zE D z s u0 r h' o t
/-- THE JUDGEMENT: from pc, with these locals and this stack, over any heap that realises h: if the pure program comes to an end, so does the machine, in what it says -/
def zS (D : va_G) (z : Nat) (y : MethodName) (cc : ByteArray) (nL : Nat) (rt : Option FieldType) (hh : List (Nat × Nat × Nat × Nat)) (d : Nat) (h : zH) (pc : Nat) (L : List (Nat × Value)) (st : List Value) (o : zO) : Prop :=
  ∀ (r : Option Value ⊕ (Nat × Nat)) (h' : zH), o = some (r, h') → zle h h' ∧
    ∀ (p : Program) (l : Launch) (e : Env) (R : Room) (s : State) (m : MethodId) (args : Array Value) (below : List Frame) (meth : Method) (c : Code) (H : Heap) (locs : List Loc) (u0 : Nat) (ls : Array Slot),
      zCx y cc nL rt hh d p l R s m args meth c → zK D (zG h) s → zHp D z h s H → va_S (fun q => z ≤ q) s.heap H locs → lv_has ls nL L →
      u0 ≤ zus h → zsz h' - s.heap.size ≤ R.cells → zus h' - u0 ≤ R.slots →
      W p l e R s m args below meth c H locs (zsz h - s.heap.size) (zus h - u0) (zF D z below s u0 r h') (F0 m pc ls st)
/-- the same with x thrown here -/
def zT (D : va_G) (z : Nat) (y : MethodName) (cc : ByteArray) (nL : Nat) (rt : Option FieldType) (hh : List (Nat × Nat × Nat × Nat)) (d : Nat) (h : zH) (pc : Nat) (L : List (Nat × Value)) (x : Nat × Nat) (o : zO) : Prop :=
  ∀ (r : Option Value ⊕ (Nat × Nat)) (h' : zH), o = some (r, h') → zle h h' ∧
    ∀ (p : Program) (l : Launch) (e : Env) (R : Room) (s : State) (m : MethodId) (args : Array Value) (below : List Frame) (meth : Method) (c : Code) (H : Heap) (locs : List Loc) (u0 : Nat) (ls : Array Slot) (st : List Value) (vs : List Value) (q : vw_C),
      zCx y cc nL rt hh d p l R s m args meth c → zK D (zG h) s → zHp D z h s H → va_S (fun q => z ≤ q) s.heap H locs → lv_has ls nL L → zm h x.2 = some (x.1, true, vs) → zcl[x.1]? = some q →
      u0 ≤ zus h → zsz h' - s.heap.size ≤ R.cells → zus h' - u0 ≤ R.slots →
      vx_W p l e R s m args below meth c H locs (zsz h - s.heap.size) (zus h - u0) (zF D z below s u0 r h') (F0 m pc ls st) x.2
section ZROWS
variable {D : va_G} {z : Nat} {y : MethodName} {cc : ByteArray} {nL : Nat} {rt : Option FieldType} {hh : List (Nat × Nat × Nat × Nat)} {d : Nat} {h : zH} {pc : Nat} {L : List (Nat × Value)} {st : List Value} {o : zO}
theorem zS_none : zS D z y cc nL rt hh d h pc L st none := fun _ _ e => nomatch e
theorem zT_none {x : Nat × Nat} : zT D z y cc nL rt hh d h pc L x none := fun _ _ e => nomatch e
theorem zS_ite {P : Prop} [Decidable P] {o1 o2 : zO} (h1 : P → zS D z y cc nL rt hh d h pc L st o1) (h2 : ¬ P → zS D z y cc nL rt hh d h pc L st o2) : zS D z y cc nL rt hh d h pc L st (if P then o1 else o2) := by
  by_cases hp : P
  · rw [if_pos hp]; exact h1 hp
  · rw [if_neg hp]; exact h2 hp
theorem zT_ite {P : Prop} [Decidable P] {x : Nat × Nat} {o1 o2 : zO} (h1 : P → zT D z y cc nL rt hh d h pc L x o1) (h2 : ¬ P → zT D z y cc nL rt hh d h pc L x o2) : zT D z y cc nL rt hh d h pc L x (if P then o1 else o2) := by
  by_cases hp : P
  · rw [if_pos hp]; exact h1 hp
  · rw [if_neg hp]; exact h2 hp
/-- a step that leaves heap and room as they are -/
theorem zS_go {pc' : Nat} {L' : List (Nat × Value)} {st' : List Value}
    (go : ∀ (p : Program) (l : Launch) (e : Env) (R : Room) (s : State) (m : MethodId) (args : Array Value) (below : List Frame) (meth : Method) (c : Code) (H : Heap) (locs : List Loc) (cells slots : Nat) (Q : State → Prop) (ls : Array Slot),
      zCx y cc nL rt hh d p l R s m args meth c → zK D (zG h) s → zHp D z h s H → va_S (fun q => z ≤ q) s.heap H locs → lv_has ls nL L →
      (∀ ls' : Array Slot, lv_has ls' nL L' → W p l e R s m args below meth c H locs cells slots Q (F0 m pc' ls' st')) → W p l e R s m args below meth c H locs cells slots Q (F0 m pc ls st))
    (k : zS D z y cc nL rt hh d h pc' L' st' o) : zS D z y cc nL rt hh d h pc L st o := by
  intro r h' e
  obtain ⟨k1, k2⟩ := k r h' e
  exact ⟨k1, fun p l e R s m args below meth c H locs u0 ls C K P S hl h1 h2 h3 => go p l e R s m args below meth c H locs _ _ _ ls C K P S hl fun ls' hl' => k2 p l e R s m args below meth c H locs u0 ls' C K P S hl' h1 h2 h3⟩
theorem zCx.hx {p : Program} {l : Launch} {R : Room} {s : State} {m : MethodId} {args : Array Value} {meth : Method} {c : Code} (C : zCx y cc nL rt hh d p l R s m args meth c) : p.tables.exec = Jvm.exec := C.1
theorem zCx.hb {p : Program} {l : Launch} {R : Room} {s : State} {m : MethodId} {args : Array Value} {meth : Method} {c : Code} (C : zCx y cc nL rt hh d p l R s m args meth c) : c.code = cc := C.2.1
theorem zCx.own {p : Program} {l : Launch} {R : Room} {s : State} {m : MethodId} {args : Array Value} {meth : Method} {c : Code} (C : zCx y cc nL rt hh d p l R s m args meth c) : s.vm.findClass y.cls = some m.cls := C.2.2.1
theorem zCx.ts {p : Program} {l : Launch} {R : Room} {s : State} {m : MethodId} {args : Array Value} {meth : Method} {c : Code} (C : zCx y cc nL rt hh d p l R s m args meth c) : ∀ w ∈ lw_all, w.before args s = true := C.2.2.2.1
theorem zCx.ml {p : Program} {l : Launch} {R : Room} {s : State} {m : MethodId} {args : Array Value} {meth : Method} {c : Code} (C : zCx y cc nL rt hh d p l R s m args meth c) : c.maxLocals = nL := C.2.2.2.2.1
theorem zCx.lk {p : Program} {l : Launch} {R : Room} {s : State} {m : MethodId} {args : Array Value} {meth : Method} {c : Code} (C : zCx y cc nL rt hh d p l R s m args meth c) : meth.locks = false := C.2.2.2.2.2.1
theorem zCx.ret {p : Program} {l : Launch} {R : Room} {s : State} {m : MethodId} {args : Array Value} {meth : Method} {c : Code} (C : zCx y cc nL rt hh d p l R s m args meth c) : meth.sig.returnType = rt := C.2.2.2.2.2.2.1
theorem zCx.tab {p : Program} {l : Launch} {R : Room} {s : State} {m : MethodId} {args : Array Value} {meth : Method} {c : Code} (C : zCx y cc nL rt hh d p l R s m args meth c) : c.exceptionTable.toList = tableOf hh := C.2.2.2.2.2.2.2.1
theorem zCx.fr {p : Program} {l : Launch} {R : Room} {s : State} {m : MethodId} {args : Array Value} {meth : Method} {c : Code} (C : zCx y cc nL rt hh d p l R s m args meth c) : d ≤ R.frames := C.2.2.2.2.2.2.2.2.1
theorem zCx.lo {p : Program} {l : Launch} {R : Room} {s : State} {m : MethodId} {args : Array Value} {meth : Method} {c : Code} (C : zCx y cc nL rt hh d p l R s m args meth c) : 64 * d ≤ R.locals := C.2.2.2.2.2.2.2.2.2.1
theorem zCx.tr {p : Program} {l : Launch} {R : Room} {s : State} {m : MethodId} {args : Array Value} {meth : Method} {c : Code} (C : zCx y cc nL rt hh d p l R s m args meth c) : l.stackTraces = false := C.2.2.2.2.2.2.2.2.2.2.1
theorem zCx.nm {p : Program} {l : Launch} {R : Room} {s : State} {m : MethodId} {args : Array Value} {meth : Method} {c : Code} (C : zCx y cc nL rt hh d p l R s m args meth c) : meth.name = y.name := C.2.2.2.2.2.2.2.2.2.2.2.1
theorem zrecv {s : State} {H : Heap} {a : Nat} {e : zEnt} {q : vw_C} (K : zK D (zG h) s) (P : zHp D z h s H) (hm : zm h a = some e) (hq : zcl[e.1]? = some q) : ∃ cell : Cell, H[a]? = some cell ∧ cell.vm.isStatics = false ∧ s.vm.findClass q.1 = some cell.cls := by
  obtain ⟨cell, hc, hu, hs, hfr, hkind⟩ := P.2.2.1 a e hm
  rcases hkind with ⟨q2, hq2, hcls, -⟩ | ⟨ty, hty, -⟩ | ⟨hla, -⟩
  · cases hq.symm.trans hq2
    exact ⟨cell, hc, hs, by rw [hcls]; exact (K.1 e.1 _ hq).2.1⟩
  · exact absurd (zcl_ta hq) (by rw [hty]; exact fun e => nomatch e)
  · exact absurd (zcl_la hq) (by rw [hla]; exact fun e => nomatch e)
theorem s_iconst {v : Int32} {n : Int} (hd : decode cc pc = .ok (.iconst n, 1)) (hv : Int32.ofInt n = v)
    (k : zS D z y cc nL rt hh d h (pc + 1) L (.int v :: st) o) : zS D z y cc nL rt hh d h pc L st o :=
  zS_go (fun _ _ _ _ _ _ _ _ _ _ _ _ _ _ _ ls C K P S hl k => lv_iconst C.hx C.hb hd hv (k ls hl)) k
theorem s_bipush {v : Int32} {n : Int} (hd : decode cc pc = .ok (.bipush n, 2)) (hv : (Int8.ofInt n).toInt32 = v)
    (k : zS D z y cc nL rt hh d h (pc + 2) L (.int v :: st) o) : zS D z y cc nL rt hh d h pc L st o :=
  zS_go (fun _ _ _ _ _ _ _ _ _ _ _ _ _ _ _ ls C K P S hl k => lv_bipush C.hx C.hb hd hv (k ls hl)) k
theorem s_sipush {v : Int32} {n : Int} (hd : decode cc pc = .ok (.sipush n, 3)) (hv : (Int16.ofInt n).toInt32 = v)
    (k : zS D z y cc nL rt hh d h (pc + 3) L (.int v :: st) o) : zS D z y cc nL rt hh d h pc L st o :=
  zS_go (fun _ _ _ _ _ _ _ _ _ _ _ _ _ _ _ ls C K P S hl k => lv_sipush C.hx C.hb hd hv (k ls hl)) k
theorem s_lconst {v : Int64} {n : Fin 2} (hd : decode cc pc = .ok (.lconst n, 1)) (hv : Int64.ofNat (n : Nat) = v)
    (k : zS D z y cc nL rt hh d h (pc + 1) L (.long v :: st) o) : zS D z y cc nL rt hh d h pc L st o :=
  zS_go (fun _ _ _ _ _ _ _ _ _ _ _ _ _ _ _ ls C K P S hl k => lv_lconst C.hx C.hb hd hv (k ls hl)) k
theorem s_dconst0  (hd : decode cc pc = .ok (.dconst 0, 1))
    (k : zS D z y cc nL rt hh d h (pc + 1) L (.double FP.dconst0 :: st) o) : zS D z y cc nL rt hh d h pc L st o :=
  zS_go (fun _ _ _ _ _ _ _ _ _ _ _ _ _ _ _ ls C K P S hl k => lv_dconst0 C.hx C.hb hd (k ls hl)) k
theorem s_null  (hd : decode cc pc = .ok (.aconst_null, 1))
    (k : zS D z y cc nL rt hh d h (pc + 1) L (va_rf none :: st) o) : zS D z y cc nL rt hh d h pc L st o :=
  zS_go (fun _ _ _ _ _ _ _ _ _ _ _ _ _ _ _ ls C K P S hl k => lv_null C.hx C.hb hd (k ls hl)) k
theorem s_ldc {ix : Nat} {v : Int32} (hd : decode cc pc = .ok (.ldc ix, 2)) (hw : Jvm.Cond.constant y.cls ix v ∈ lw_all)
    (k : zS D z y cc nL rt hh d h (pc + 2) L (.int v :: st) o) : zS D z y cc nL rt hh d h pc L st o :=
  zS_go (fun _ _ _ _ _ _ _ _ _ _ _ _ _ _ _ ls C K P S hl k => lv_ldc C.hx C.hb C.own (C.ts _ hw) hd (k ls hl)) k
theorem s_ldcw {ix : Nat} {v : Int32} (hd : decode cc pc = .ok (.ldc_w ix, 3)) (hw : Jvm.Cond.constant y.cls ix v ∈ lw_all)
    (k : zS D z y cc nL rt hh d h (pc + 3) L (.int v :: st) o) : zS D z y cc nL rt hh d h pc L st o :=
  zS_go (fun _ _ _ _ _ _ _ _ _ _ _ _ _ _ _ ls C K P S hl k => lv_ldcw C.hx C.hb C.own (C.ts _ hw) hd (k ls hl)) k
theorem s_ldc2 {ix : Nat} {v : Int64} (hd : decode cc pc = .ok (.ldc2_w ix, 3)) (hw : Jvm.Cond.constantLong y.cls ix v ∈ lw_all)
    (k : zS D z y cc nL rt hh d h (pc + 3) L (.long v :: st) o) : zS D z y cc nL rt hh d h pc L st o :=
  zS_go (fun _ _ _ _ _ _ _ _ _ _ _ _ _ _ _ ls C K P S hl k => lv_ldc2 C.hx C.hb C.own (C.ts _ hw) hd (k ls hl)) k
theorem s_ldcf {ix : Nat} {v : UInt32} (hd : decode cc pc = .ok (.ldc ix, 2)) (hw : Jvm.Cond.constantFloat y.cls ix v ∈ lw_all)
    (k : zS D z y cc nL rt hh d h (pc + 2) L (.float v :: st) o) : zS D z y cc nL rt hh d h pc L st o :=
  zS_go (fun _ _ _ _ _ _ _ _ _ _ _ _ _ _ _ ls C K P S hl k => lv_ldcf C.hx C.hb C.own (C.ts _ hw) hd (k ls hl)) k
theorem s_iload_n {kk : Fin 4} {i : Nat} {x : Int32} (j : Nat) (hd : decode cc pc = .ok (.iload_n kk, 1)) (hi : (kk : Nat) = i) (hj : L[j]? = some (i, .int x))
    (k : zS D z y cc nL rt hh d h (pc + 1) L (.int x :: st) o) : zS D z y cc nL rt hh d h pc L st o :=
  zS_go (fun _ _ _ _ _ _ _ _ _ _ _ _ _ _ _ ls C K P S hl k => lv_iload_n C.hx C.hb hd hi (lv_at hl j hj) (k ls hl)) k
theorem s_iload {i : Nat} {x : Int32} (j : Nat) (hd : decode cc pc = .ok (.iload i, 2)) (hj : L[j]? = some (i, .int x))
    (k : zS D z y cc nL rt hh d h (pc + 2) L (.int x :: st) o) : zS D z y cc nL rt hh d h pc L st o :=
  zS_go (fun _ _ _ _ _ _ _ _ _ _ _ _ _ _ _ ls C K P S hl k => lv_iload C.hx C.hb hd (lv_at hl j hj) (k ls hl)) k
theorem s_istore_n {kk : Fin 4} {i : Nat} {x : Int32} {L1 L2 : List (Nat × Value)} (ps : List Nat) (hd : decode cc pc = .ok (.istore_n kk, 1)) (hi : (kk : Nat) = i) (hn : i < nL) (hL : (i, Value.int x) :: L.filter (fun q => !(q.1 == i) && !(q.1 + 1 == i && q.2.category == 2)) = L1) (h2 : lv_pick L1 ps = L2)
    (k : zS D z y cc nL rt hh d h (pc + 1) L2 st o) : zS D z y cc nL rt hh d h pc L (.int x :: st) o :=
  zS_go (fun _ _ _ _ _ _ _ _ _ _ _ _ _ _ _ ls C K P S hl k => lv_istore_n C.hx C.hb hd hi hl hn hL fun ls' hl' => k ls' (lv_sub hl' ps h2)) k
theorem s_istore {i : Nat} {x : Int32} {L1 L2 : List (Nat × Value)} (ps : List Nat) (hd : decode cc pc = .ok (.istore i, 2)) (hn : i < nL) (hL : (i, Value.int x) :: L.filter (fun q => !(q.1 == i) && !(q.1 + 1 == i && q.2.category == 2)) = L1) (h2 : lv_pick L1 ps = L2)
    (k : zS D z y cc nL rt hh d h (pc + 2) L2 st o) : zS D z y cc nL rt hh d h pc L (.int x :: st) o :=
  zS_go (fun _ _ _ _ _ _ _ _ _ _ _ _ _ _ _ ls C K P S hl k => lv_istore C.hx C.hb hd hl hn hL fun ls' hl' => k ls' (lv_sub hl' ps h2)) k
theorem s_lload_n {kk : Fin 4} {i : Nat} {x : Int64} (j : Nat) (hd : decode cc pc = .ok (.lload_n kk, 1)) (hi : (kk : Nat) = i) (hj : L[j]? = some (i, .long x))
    (k : zS D z y cc nL rt hh d h (pc + 1) L (.long x :: st) o) : zS D z y cc nL rt hh d h pc L st o :=
  zS_go (fun _ _ _ _ _ _ _ _ _ _ _ _ _ _ _ ls C K P S hl k => lv_lload_n C.hx C.hb hd hi (lv_at hl j hj) (k ls hl)) k
theorem s_lload {i : Nat} {x : Int64} (j : Nat) (hd : decode cc pc = .ok (.lload i, 2)) (hj : L[j]? = some (i, .long x))
    (k : zS D z y cc nL rt hh d h (pc + 2) L (.long x :: st) o) : zS D z y cc nL rt hh d h pc L st o :=
  zS_go (fun _ _ _ _ _ _ _ _ _ _ _ _ _ _ _ ls C K P S hl k => lv_lload C.hx C.hb hd (lv_at hl j hj) (k ls hl)) k
theorem s_lstore_n {kk : Fin 4} {i : Nat} {x : Int64} {L1 L2 : List (Nat × Value)} (ps : List Nat) (hd : decode cc pc = .ok (.lstore_n kk, 1)) (hi : (kk : Nat) = i) (hn : i + 1 < nL) (hL : (i, Value.long x) :: L.filter (fun q => !(q.1 == i) && (!(q.1 == i + 1) && !(q.1 + 1 == i && q.2.category == 2))) = L1) (h2 : lv_pick L1 ps = L2)
    (k : zS D z y cc nL rt hh d h (pc + 1) L2 st o) : zS D z y cc nL rt hh d h pc L (.long x :: st) o :=
  zS_go (fun _ _ _ _ _ _ _ _ _ _ _ _ _ _ _ ls C K P S hl k => lv_lstore_n C.hx C.hb hd hi hl hn hL fun ls' hl' => k ls' (lv_sub hl' ps h2)) k
theorem s_lstore {i : Nat} {x : Int64} {L1 L2 : List (Nat × Value)} (ps : List Nat) (hd : decode cc pc = .ok (.lstore i, 2)) (hn : i + 1 < nL) (hL : (i, Value.long x) :: L.filter (fun q => !(q.1 == i) && (!(q.1 == i + 1) && !(q.1 + 1 == i && q.2.category == 2))) = L1) (h2 : lv_pick L1 ps = L2)
    (k : zS D z y cc nL rt hh d h (pc + 2) L2 st o) : zS D z y cc nL rt hh d h pc L (.long x :: st) o :=
  zS_go (fun _ _ _ _ _ _ _ _ _ _ _ _ _ _ _ ls C K P S hl k => lv_lstore C.hx C.hb hd hl hn hL fun ls' hl' => k ls' (lv_sub hl' ps h2)) k
theorem s_fload_n {kk : Fin 4} {i : Nat} {x : UInt32} (j : Nat) (hd : decode cc pc = .ok (.fload_n kk, 1)) (hi : (kk : Nat) = i) (hj : L[j]? = some (i, .float x))
    (k : zS D z y cc nL rt hh d h (pc + 1) L (.float x :: st) o) : zS D z y cc nL rt hh d h pc L st o :=
  zS_go (fun _ _ _ _ _ _ _ _ _ _ _ _ _ _ _ ls C K P S hl k => lv_fload_n C.hx C.hb hd hi (lv_at hl j hj) (k ls hl)) k
theorem s_fload {i : Nat} {x : UInt32} (j : Nat) (hd : decode cc pc = .ok (.fload i, 2)) (hj : L[j]? = some (i, .float x))
    (k : zS D z y cc nL rt hh d h (pc + 2) L (.float x :: st) o) : zS D z y cc nL rt hh d h pc L st o :=
  zS_go (fun _ _ _ _ _ _ _ _ _ _ _ _ _ _ _ ls C K P S hl k => lv_fload C.hx C.hb hd (lv_at hl j hj) (k ls hl)) k
theorem s_fstore_n {kk : Fin 4} {i : Nat} {x : UInt32} {L1 L2 : List (Nat × Value)} (ps : List Nat) (hd : decode cc pc = .ok (.fstore_n kk, 1)) (hi : (kk : Nat) = i) (hn : i < nL) (hL : (i, Value.float x) :: L.filter (fun q => !(q.1 == i) && !(q.1 + 1 == i && q.2.category == 2)) = L1) (h2 : lv_pick L1 ps = L2)
    (k : zS D z y cc nL rt hh d h (pc + 1) L2 st o) : zS D z y cc nL rt hh d h pc L (.float x :: st) o :=
  zS_go (fun _ _ _ _ _ _ _ _ _ _ _ _ _ _ _ ls C K P S hl k => lv_fstore_n C.hx C.hb hd hi hl hn hL fun ls' hl' => k ls' (lv_sub hl' ps h2)) k
theorem s_fstore {i : Nat} {x : UInt32} {L1 L2 : List (Nat × Value)} (ps : List Nat) (hd : decode cc pc = .ok (.fstore i, 2)) (hn : i < nL) (hL : (i, Value.float x) :: L.filter (fun q => !(q.1 == i) && !(q.1 + 1 == i && q.2.category == 2)) = L1) (h2 : lv_pick L1 ps = L2)
    (k : zS D z y cc nL rt hh d h (pc + 2) L2 st o) : zS D z y cc nL rt hh d h pc L (.float x :: st) o :=
  zS_go (fun _ _ _ _ _ _ _ _ _ _ _ _ _ _ _ ls C K P S hl k => lv_fstore C.hx C.hb hd hl hn hL fun ls' hl' => k ls' (lv_sub hl' ps h2)) k
theorem s_dload_n {kk : Fin 4} {i : Nat} {x : UInt64} (j : Nat) (hd : decode cc pc = .ok (.dload_n kk, 1)) (hi : (kk : Nat) = i) (hj : L[j]? = some (i, .double x))
    (k : zS D z y cc nL rt hh d h (pc + 1) L (.double x :: st) o) : zS D z y cc nL rt hh d h pc L st o :=
  zS_go (fun _ _ _ _ _ _ _ _ _ _ _ _ _ _ _ ls C K P S hl k => lv_dload_n C.hx C.hb hd hi (lv_at hl j hj) (k ls hl)) k
theorem s_dload {i : Nat} {x : UInt64} (j : Nat) (hd : decode cc pc = .ok (.dload i, 2)) (hj : L[j]? = some (i, .double x))
    (k : zS D z y cc nL rt hh d h (pc + 2) L (.double x :: st) o) : zS D z y cc nL rt hh d h pc L st o :=
  zS_go (fun _ _ _ _ _ _ _ _ _ _ _ _ _ _ _ ls C K P S hl k => lv_dload C.hx C.hb hd (lv_at hl j hj) (k ls hl)) k
theorem s_dstore_n {kk : Fin 4} {i : Nat} {x : UInt64} {L1 L2 : List (Nat × Value)} (ps : List Nat) (hd : decode cc pc = .ok (.dstore_n kk, 1)) (hi : (kk : Nat) = i) (hn : i + 1 < nL) (hL : (i, Value.double x) :: L.filter (fun q => !(q.1 == i) && (!(q.1 == i + 1) && !(q.1 + 1 == i && q.2.category == 2))) = L1) (h2 : lv_pick L1 ps = L2)
    (k : zS D z y cc nL rt hh d h (pc + 1) L2 st o) : zS D z y cc nL rt hh d h pc L (.double x :: st) o :=
  zS_go (fun _ _ _ _ _ _ _ _ _ _ _ _ _ _ _ ls C K P S hl k => lv_dstore_n C.hx C.hb hd hi hl hn hL fun ls' hl' => k ls' (lv_sub hl' ps h2)) k
theorem s_dstore {i : Nat} {x : UInt64} {L1 L2 : List (Nat × Value)} (ps : List Nat) (hd : decode cc pc = .ok (.dstore i, 2)) (hn : i + 1 < nL) (hL : (i, Value.double x) :: L.filter (fun q => !(q.1 == i) && (!(q.1 == i + 1) && !(q.1 + 1 == i && q.2.category == 2))) = L1) (h2 : lv_pick L1 ps = L2)
    (k : zS D z y cc nL rt hh d h (pc + 2) L2 st o) : zS D z y cc nL rt hh d h pc L (.double x :: st) o :=
  zS_go (fun _ _ _ _ _ _ _ _ _ _ _ _ _ _ _ ls C K P S hl k => lv_dstore C.hx C.hb hd hl hn hL fun ls' hl' => k ls' (lv_sub hl' ps h2)) k
theorem s_aload_n {kk : Fin 4} {i : Nat} {x : Option Nat} (j : Nat) (hd : decode cc pc = .ok (.aload_n kk, 1)) (hi : (kk : Nat) = i) (hj : L[j]? = some (i, va_rf x))
    (k : zS D z y cc nL rt hh d h (pc + 1) L (va_rf x :: st) o) : zS D z y cc nL rt hh d h pc L st o :=
  by
  cases x with
  | none => exact zS_go (fun _ _ _ _ _ _ _ _ _ _ _ _ _ _ _ ls C K P S hl k => lv_aload_nN C.hx C.hb hd hi (lv_at hl j hj) (k ls hl)) k
  | some a => exact zS_go (fun _ _ _ _ _ _ _ _ _ _ _ _ _ _ _ ls C K P S hl k => lv_aload_n C.hx C.hb hd hi (lv_at hl j hj) (k ls hl)) k
theorem s_aload {i : Nat} {x : Option Nat} (j : Nat) (hd : decode cc pc = .ok (.aload i, 2)) (hj : L[j]? = some (i, va_rf x))
    (k : zS D z y cc nL rt hh d h (pc + 2) L (va_rf x :: st) o) : zS D z y cc nL rt hh d h pc L st o :=
  by
  cases x with
  | none => exact zS_go (fun _ _ _ _ _ _ _ _ _ _ _ _ _ _ _ ls C K P S hl k => lv_aloadN C.hx C.hb hd (lv_at hl j hj) (k ls hl)) k
  | some a => exact zS_go (fun _ _ _ _ _ _ _ _ _ _ _ _ _ _ _ ls C K P S hl k => lv_aload C.hx C.hb hd (lv_at hl j hj) (k ls hl)) k
theorem s_astore_n {kk : Fin 4} {i : Nat} {x : Option Nat} {L1 L2 : List (Nat × Value)} (ps : List Nat) (hd : decode cc pc = .ok (.astore_n kk, 1)) (hi : (kk : Nat) = i) (hn : i < nL) (hL : (i, va_rf x) :: L.filter (fun q => !(q.1 == i) && !(q.1 + 1 == i && q.2.category == 2)) = L1) (h2 : lv_pick L1 ps = L2)
    (k : zS D z y cc nL rt hh d h (pc + 1) L2 st o) : zS D z y cc nL rt hh d h pc L (va_rf x :: st) o :=
  by
  cases x with
  | none => exact zS_go (fun _ _ _ _ _ _ _ _ _ _ _ _ _ _ _ ls C K P S hl k => lv_astore_nN C.hx C.hb hd hi hl hn hL fun ls' hl' => k ls' (lv_sub hl' ps h2)) k
  | some a => exact zS_go (fun _ _ _ _ _ _ _ _ _ _ _ _ _ _ _ ls C K P S hl k => lv_astore_n C.hx C.hb hd hi hl hn hL fun ls' hl' => k ls' (lv_sub hl' ps h2)) k
theorem s_astore {i : Nat} {x : Option Nat} {L1 L2 : List (Nat × Value)} (ps : List Nat) (hd : decode cc pc = .ok (.astore i, 2)) (hn : i < nL) (hL : (i, va_rf x) :: L.filter (fun q => !(q.1 == i) && !(q.1 + 1 == i && q.2.category == 2)) = L1) (h2 : lv_pick L1 ps = L2)
    (k : zS D z y cc nL rt hh d h (pc + 2) L2 st o) : zS D z y cc nL rt hh d h pc L (va_rf x :: st) o :=
  by
  cases x with
  | none => exact zS_go (fun _ _ _ _ _ _ _ _ _ _ _ _ _ _ _ ls C K P S hl k => lv_astoreN C.hx C.hb hd hl hn hL fun ls' hl' => k ls' (lv_sub hl' ps h2)) k
  | some a => exact zS_go (fun _ _ _ _ _ _ _ _ _ _ _ _ _ _ _ ls C K P S hl k => lv_astore C.hx C.hb hd hl hn hL fun ls' hl' => k ls' (lv_sub hl' ps h2)) k
theorem s_iinc {i : Nat} {n : Int} {x v : Int32} {L1 L2 : List (Nat × Value)} (j : Nat) (ps : List Nat) (hd : decode cc pc = .ok (.iinc i n, 3)) (hj : L[j]? = some (i, .int x)) (hv : x + Int32.ofInt n = v) (hn : i < nL) (hL : (i, Value.int v) :: L.filter (fun q => !(q.1 == i) && !(q.1 + 1 == i && q.2.category == 2)) = L1) (h2 : lv_pick L1 ps = L2)
    (k : zS D z y cc nL rt hh d h (pc + 3) L2 st o) : zS D z y cc nL rt hh d h pc L st o :=
  zS_go (fun _ _ _ _ _ _ _ _ _ _ _ _ _ _ _ ls C K P S hl k => lv_iinc C.hx C.hb hd hl hj hv hn hL fun ls' hl' => k ls' (lv_sub hl' ps h2)) k
theorem s_iadd {x y2 : Int32} (hd : decode cc pc = .ok (.iadd, 1))
    (k : zS D z y cc nL rt hh d h (pc + 1) L (.int (x + y2) :: st) o) : zS D z y cc nL rt hh d h pc L (.int y2 :: .int x :: st) o :=
  zS_go (fun _ _ _ _ _ _ _ _ _ _ _ _ _ _ _ ls C K P S hl k => lv_iadd C.hx C.hb hd (k ls hl)) k
theorem s_isub {x y2 : Int32} (hd : decode cc pc = .ok (.isub, 1))
    (k : zS D z y cc nL rt hh d h (pc + 1) L (.int (x - y2) :: st) o) : zS D z y cc nL rt hh d h pc L (.int y2 :: .int x :: st) o :=
  zS_go (fun _ _ _ _ _ _ _ _ _ _ _ _ _ _ _ ls C K P S hl k => lv_isub C.hx C.hb hd (k ls hl)) k
theorem s_imul {x y2 : Int32} (hd : decode cc pc = .ok (.imul, 1))
    (k : zS D z y cc nL rt hh d h (pc + 1) L (.int (x * y2) :: st) o) : zS D z y cc nL rt hh d h pc L (.int y2 :: .int x :: st) o :=
  zS_go (fun _ _ _ _ _ _ _ _ _ _ _ _ _ _ _ ls C K P S hl k => lv_imul C.hx C.hb hd (k ls hl)) k
theorem s_iand {x y2 : Int32} (hd : decode cc pc = .ok (.iand, 1))
    (k : zS D z y cc nL rt hh d h (pc + 1) L (.int (x &&& y2) :: st) o) : zS D z y cc nL rt hh d h pc L (.int y2 :: .int x :: st) o :=
  zS_go (fun _ _ _ _ _ _ _ _ _ _ _ _ _ _ _ ls C K P S hl k => lv_iand C.hx C.hb hd (k ls hl)) k
theorem s_ior {x y2 : Int32} (hd : decode cc pc = .ok (.ior, 1))
    (k : zS D z y cc nL rt hh d h (pc + 1) L (.int (x ||| y2) :: st) o) : zS D z y cc nL rt hh d h pc L (.int y2 :: .int x :: st) o :=
  zS_go (fun _ _ _ _ _ _ _ _ _ _ _ _ _ _ _ ls C K P S hl k => lv_ior C.hx C.hb hd (k ls hl)) k
theorem s_ixor {x y2 : Int32} (hd : decode cc pc = .ok (.ixor, 1))
    (k : zS D z y cc nL rt hh d h (pc + 1) L (.int (x ^^^ y2) :: st) o) : zS D z y cc nL rt hh d h pc L (.int y2 :: .int x :: st) o :=
  zS_go (fun _ _ _ _ _ _ _ _ _ _ _ _ _ _ _ ls C K P S hl k => lv_ixor C.hx C.hb hd (k ls hl)) k
theorem s_ishl {x y2 : Int32} (hd : decode cc pc = .ok (.ishl, 1))
    (k : zS D z y cc nL rt hh d h (pc + 1) L (.int (x <<< (y2 &&& 31)) :: st) o) : zS D z y cc nL rt hh d h pc L (.int y2 :: .int x :: st) o :=
  zS_go (fun _ _ _ _ _ _ _ _ _ _ _ _ _ _ _ ls C K P S hl k => lv_ishl C.hx C.hb hd (k ls hl)) k
theorem s_ishr {x y2 : Int32} (hd : decode cc pc = .ok (.ishr, 1))
    (k : zS D z y cc nL rt hh d h (pc + 1) L (.int (x >>> (y2 &&& 31)) :: st) o) : zS D z y cc nL rt hh d h pc L (.int y2 :: .int x :: st) o :=
  zS_go (fun _ _ _ _ _ _ _ _ _ _ _ _ _ _ _ ls C K P S hl k => lv_ishr C.hx C.hb hd (k ls hl)) k
theorem s_ladd {x y2 : Int64} (hd : decode cc pc = .ok (.ladd, 1))
    (k : zS D z y cc nL rt hh d h (pc + 1) L (.long (x + y2) :: st) o) : zS D z y cc nL rt hh d h pc L (.long y2 :: .long x :: st) o :=
  zS_go (fun _ _ _ _ _ _ _ _ _ _ _ _ _ _ _ ls C K P S hl k => lv_ladd C.hx C.hb hd (k ls hl)) k
theorem s_lsub {x y2 : Int64} (hd : decode cc pc = .ok (.lsub, 1))
    (k : zS D z y cc nL rt hh d h (pc + 1) L (.long (x - y2) :: st) o) : zS D z y cc nL rt hh d h pc L (.long y2 :: .long x :: st) o :=
  zS_go (fun _ _ _ _ _ _ _ _ _ _ _ _ _ _ _ ls C K P S hl k => lv_lsub C.hx C.hb hd (k ls hl)) k
theorem s_lmul {x y2 : Int64} (hd : decode cc pc = .ok (.lmul, 1))
    (k : zS D z y cc nL rt hh d h (pc + 1) L (.long (x * y2) :: st) o) : zS D z y cc nL rt hh d h pc L (.long y2 :: .long x :: st) o :=
  zS_go (fun _ _ _ _ _ _ _ _ _ _ _ _ _ _ _ ls C K P S hl k => lv_lmul C.hx C.hb hd (k ls hl)) k
theorem s_land {x y2 : Int64} (hd : decode cc pc = .ok (.land, 1))
    (k : zS D z y cc nL rt hh d h (pc + 1) L (.long (x &&& y2) :: st) o) : zS D z y cc nL rt hh d h pc L (.long y2 :: .long x :: st) o :=
  zS_go (fun _ _ _ _ _ _ _ _ _ _ _ _ _ _ _ ls C K P S hl k => lv_land C.hx C.hb hd (k ls hl)) k
theorem s_lor {x y2 : Int64} (hd : decode cc pc = .ok (.lor, 1))
    (k : zS D z y cc nL rt hh d h (pc + 1) L (.long (x ||| y2) :: st) o) : zS D z y cc nL rt hh d h pc L (.long y2 :: .long x :: st) o :=
  zS_go (fun _ _ _ _ _ _ _ _ _ _ _ _ _ _ _ ls C K P S hl k => lv_lor C.hx C.hb hd (k ls hl)) k
theorem s_lxor {x y2 : Int64} (hd : decode cc pc = .ok (.lxor, 1))
    (k : zS D z y cc nL rt hh d h (pc + 1) L (.long (x ^^^ y2) :: st) o) : zS D z y cc nL rt hh d h pc L (.long y2 :: .long x :: st) o :=
  zS_go (fun _ _ _ _ _ _ _ _ _ _ _ _ _ _ _ ls C K P S hl k => lv_lxor C.hx C.hb hd (k ls hl)) k
theorem s_ineg {x : Int32} (hd : decode cc pc = .ok (.ineg, 1))
    (k : zS D z y cc nL rt hh d h (pc + 1) L (.int (-x) :: st) o) : zS D z y cc nL rt hh d h pc L (.int x :: st) o :=
  zS_go (fun _ _ _ _ _ _ _ _ _ _ _ _ _ _ _ ls C K P S hl k => lv_ineg C.hx C.hb hd (k ls hl)) k
theorem s_lneg {x : Int64} (hd : decode cc pc = .ok (.lneg, 1))
    (k : zS D z y cc nL rt hh d h (pc + 1) L (.long (-x) :: st) o) : zS D z y cc nL rt hh d h pc L (.long x :: st) o :=
  zS_go (fun _ _ _ _ _ _ _ _ _ _ _ _ _ _ _ ls C K P S hl k => lv_lneg C.hx C.hb hd (k ls hl)) k
theorem s_iushr {x y2 : Int32} (hd : decode cc pc = .ok (.iushr, 1))
    (k : zS D z y cc nL rt hh d h (pc + 1) L (.int (x.toUInt32 >>> (y2.toUInt32 &&& Int32.toUInt32 31)).toInt32 :: st) o) : zS D z y cc nL rt hh d h pc L (.int y2 :: .int x :: st) o :=
  zS_go (fun _ _ _ _ _ _ _ _ _ _ _ _ _ _ _ ls C K P S hl k => lv_iushr C.hx C.hb hd rfl (k ls hl)) k
theorem s_lushr {x : Int64} {y2 : Int32} (hd : decode cc pc = .ok (.lushr, 1))
    (k : zS D z y cc nL rt hh d h (pc + 1) L (.long (x.toUInt64 >>> (y2.toInt64.toUInt64 &&& Int64.toUInt64 63)).toInt64 :: st) o) : zS D z y cc nL rt hh d h pc L (.int y2 :: .long x :: st) o :=
  zS_go (fun _ _ _ _ _ _ _ _ _ _ _ _ _ _ _ ls C K P S hl k => lv_lushr C.hx C.hb hd rfl (k ls hl)) k
theorem s_lshl {x : Int64} {y2 : Int32} (hd : decode cc pc = .ok (.lshl, 1))
    (k : zS D z y cc nL rt hh d h (pc + 1) L (.long (x <<< (y2.toInt64 &&& 63)) :: st) o) : zS D z y cc nL rt hh d h pc L (.int y2 :: .long x :: st) o :=
  zS_go (fun _ _ _ _ _ _ _ _ _ _ _ _ _ _ _ ls C K P S hl k => lv_lshl C.hx C.hb hd rfl (k ls hl)) k
theorem s_lshr {x : Int64} {y2 : Int32} (hd : decode cc pc = .ok (.lshr, 1))
    (k : zS D z y cc nL rt hh d h (pc + 1) L (.long (x >>> (y2.toInt64 &&& 63)) :: st) o) : zS D z y cc nL rt hh d h pc L (.int y2 :: .long x :: st) o :=
  zS_go (fun _ _ _ _ _ _ _ _ _ _ _ _ _ _ _ ls C K P S hl k => lv_lshr C.hx C.hb hd rfl (k ls hl)) k
theorem s_i2l {x : Int32} (hd : decode cc pc = .ok (.i2l, 1))
    (k : zS D z y cc nL rt hh d h (pc + 1) L (.long x.toInt64 :: st) o) : zS D z y cc nL rt hh d h pc L (.int x :: st) o :=
  zS_go (fun _ _ _ _ _ _ _ _ _ _ _ _ _ _ _ ls C K P S hl k => lv_i2l C.hx C.hb hd rfl (k ls hl)) k
theorem s_l2i {x : Int64} (hd : decode cc pc = .ok (.l2i, 1))
    (k : zS D z y cc nL rt hh d h (pc + 1) L (.int x.toInt32 :: st) o) : zS D z y cc nL rt hh d h pc L (.long x :: st) o :=
  zS_go (fun _ _ _ _ _ _ _ _ _ _ _ _ _ _ _ ls C K P S hl k => lv_l2i C.hx C.hb hd rfl (k ls hl)) k
theorem s_i2b {x : Int32} (hd : decode cc pc = .ok (.i2b, 1))
    (k : zS D z y cc nL rt hh d h (pc + 1) L (.int x.toInt8.toInt32 :: st) o) : zS D z y cc nL rt hh d h pc L (.int x :: st) o :=
  zS_go (fun _ _ _ _ _ _ _ _ _ _ _ _ _ _ _ ls C K P S hl k => lv_i2b C.hx C.hb hd rfl (k ls hl)) k
theorem s_i2s {x : Int32} (hd : decode cc pc = .ok (.i2s, 1))
    (k : zS D z y cc nL rt hh d h (pc + 1) L (.int x.toInt16.toInt32 :: st) o) : zS D z y cc nL rt hh d h pc L (.int x :: st) o :=
  zS_go (fun _ _ _ _ _ _ _ _ _ _ _ _ _ _ _ ls C K P S hl k => lv_i2s C.hx C.hb hd rfl (k ls hl)) k
theorem s_i2c {x : Int32} (hd : decode cc pc = .ok (.i2c, 1))
    (k : zS D z y cc nL rt hh d h (pc + 1) L (.int (x.toUInt32 % 65536).toInt32 :: st) o) : zS D z y cc nL rt hh d h pc L (.int x :: st) o :=
  zS_go (fun _ _ _ _ _ _ _ _ _ _ _ _ _ _ _ ls C K P S hl k => lv_i2c C.hx C.hb hd rfl (k ls hl)) k
theorem s_i2f {x : Int32} (hd : decode cc pc = .ok (.i2f, 1))
    (k : zS D z y cc nL rt hh d h (pc + 1) L (.float (FP.i2f x) :: st) o) : zS D z y cc nL rt hh d h pc L (.int x :: st) o :=
  zS_go (fun _ _ _ _ _ _ _ _ _ _ _ _ _ _ _ ls C K P S hl k => lv_i2f C.hx C.hb hd (k ls hl)) k
theorem s_i2d {x : Int32} (hd : decode cc pc = .ok (.i2d, 1))
    (k : zS D z y cc nL rt hh d h (pc + 1) L (.double (FP.i2d x) :: st) o) : zS D z y cc nL rt hh d h pc L (.int x :: st) o :=
  zS_go (fun _ _ _ _ _ _ _ _ _ _ _ _ _ _ _ ls C K P S hl k => lv_i2d C.hx C.hb hd (k ls hl)) k
theorem s_f2i {x : UInt32} (hd : decode cc pc = .ok (.f2i, 1))
    (k : zS D z y cc nL rt hh d h (pc + 1) L (.int (FP.f2i x) :: st) o) : zS D z y cc nL rt hh d h pc L (.float x :: st) o :=
  zS_go (fun _ _ _ _ _ _ _ _ _ _ _ _ _ _ _ ls C K P S hl k => lv_f2i C.hx C.hb hd (k ls hl)) k
theorem s_fcmp {x y2 : UInt32} {op : CmpOp} (hd : decode cc pc = .ok (.fcmp op, 1))
    (k : zS D z y cc nL rt hh d h (pc + 1) L (.int (Op.cmpValue (FP.fcmp x y2) op) :: st) o) : zS D z y cc nL rt hh d h pc L (.float y2 :: .float x :: st) o :=
  zS_go (fun _ _ _ _ _ _ _ _ _ _ _ _ _ _ _ ls C K P S hl k => lv_fcmp C.hx C.hb hd (k ls hl)) k
theorem s_dcmp {x y2 : UInt64} {op : CmpOp} (hd : decode cc pc = .ok (.dcmp op, 1))
    (k : zS D z y cc nL rt hh d h (pc + 1) L (.int (Op.cmpValue (FP.dcmp x y2) op) :: st) o) : zS D z y cc nL rt hh d h pc L (.double y2 :: .double x :: st) o :=
  zS_go (fun _ _ _ _ _ _ _ _ _ _ _ _ _ _ _ ls C K P S hl k => lv_dcmp C.hx C.hb hd (k ls hl)) k
theorem s_lcmp {x y2 : Int64} (hd : decode cc pc = .ok (.lcmp, 1))
    (k : zS D z y cc nL rt hh d h (pc + 1) L (.int (lg_cmp x y2) :: st) o) : zS D z y cc nL rt hh d h pc L (.long y2 :: .long x :: st) o :=
  zS_go (fun _ _ _ _ _ _ _ _ _ _ _ _ _ _ _ ls C K P S hl k => W.lcmp C.hx C.hb hd (k ls hl)) k
theorem s_idiv {x y2 : Int32} (hd : decode cc pc = .ok (.idiv, 1)) (k : (¬ y2 = 0) → zS D z y cc nL rt hh d h (pc + 1) L (.int (x / y2) :: st) o) : zS D z y cc nL rt hh d h pc L (.int y2 :: .int x :: st) (if ¬ y2 = 0 then o else none) :=
  zS_ite (fun hc => zS_go (fun _ _ _ _ _ _ _ _ _ _ _ _ _ _ _ ls C K P S hl k => lv_idiv C.hx C.hb hd hc (k ls hl)) (k hc)) (fun _ => zS_none)
theorem s_irem {x y2 : Int32} (hd : decode cc pc = .ok (.irem, 1)) (k : (¬ y2 = 0) → zS D z y cc nL rt hh d h (pc + 1) L (.int (x - x / y2 * y2) :: st) o) : zS D z y cc nL rt hh d h pc L (.int y2 :: .int x :: st) (if ¬ y2 = 0 then o else none) :=
  zS_ite (fun hc => zS_go (fun _ _ _ _ _ _ _ _ _ _ _ _ _ _ _ ls C K P S hl k => lv_irem C.hx C.hb hd hc (k ls hl)) (k hc)) (fun _ => zS_none)
theorem s_fdiv {x y2 : UInt32} (hd : decode cc pc = .ok (.fdiv, 1)) (k : ((FP.fdiv x y2) &&& 0x7fffffff ≤ 0x7f800000) → zS D z y cc nL rt hh d h (pc + 1) L (.float (FP.fdiv x y2) :: st) o) : zS D z y cc nL rt hh d h pc L (.float y2 :: .float x :: st) (if (FP.fdiv x y2) &&& 0x7fffffff ≤ 0x7f800000 then o else none) :=
  zS_ite (fun hc => zS_go (fun _ _ _ _ _ _ _ _ _ _ _ _ _ _ _ ls C K P S hl k => lv_fdiv C.hx C.hb hd hc (k ls hl)) (k hc)) (fun _ => zS_none)
theorem s_fmul {x y2 : UInt32} (hd : decode cc pc = .ok (.fmul, 1)) (k : ((FP.fmul x y2) &&& 0x7fffffff ≤ 0x7f800000) → zS D z y cc nL rt hh d h (pc + 1) L (.float (FP.fmul x y2) :: st) o) : zS D z y cc nL rt hh d h pc L (.float y2 :: .float x :: st) (if (FP.fmul x y2) &&& 0x7fffffff ≤ 0x7f800000 then o else none) :=
  zS_ite (fun hc => zS_go (fun _ _ _ _ _ _ _ _ _ _ _ _ _ _ _ ls C K P S hl k => lv_fmul C.hx C.hb hd hc (k ls hl)) (k hc)) (fun _ => zS_none)
theorem s_ddiv {x y2 : UInt64} (hd : decode cc pc = .ok (.ddiv, 1)) (k : ((FP.ddiv x y2) &&& 0x7fffffffffffffff ≤ 0x7ff0000000000000) → zS D z y cc nL rt hh d h (pc + 1) L (.double (FP.ddiv x y2) :: st) o) : zS D z y cc nL rt hh d h pc L (.double y2 :: .double x :: st) (if (FP.ddiv x y2) &&& 0x7fffffffffffffff ≤ 0x7ff0000000000000 then o else none) :=
  zS_ite (fun hc => zS_go (fun _ _ _ _ _ _ _ _ _ _ _ _ _ _ _ ls C K P S hl k => lv_ddiv C.hx C.hb hd hc (k ls hl)) (k hc)) (fun _ => zS_none)
theorem s_f2d {x : UInt32} (hd : decode cc pc = .ok (.f2d, 1)) (k : ((FP.f2d x) &&& 0x7fffffffffffffff ≤ 0x7ff0000000000000) → zS D z y cc nL rt hh d h (pc + 1) L (.double (FP.f2d x) :: st) o) : zS D z y cc nL rt hh d h pc L (.float x :: st) (if (FP.f2d x) &&& 0x7fffffffffffffff ≤ 0x7ff0000000000000 then o else none) :=
  zS_ite (fun hc => zS_go (fun _ _ _ _ _ _ _ _ _ _ _ _ _ _ _ ls C K P S hl k => lv_f2d C.hx C.hb hd hc (k ls hl)) (k hc)) (fun _ => zS_none)
theorem s_dup {va : Value} (hd : decode cc pc = .ok (.dup, 1)) (hva : va.category = 1)
    (k : zS D z y cc nL rt hh d h (pc + 1) L (va :: va :: st) o) : zS D z y cc nL rt hh d h pc L (va :: st) o :=
  zS_go (fun _ _ _ _ _ _ _ _ _ _ _ _ _ _ _ ls C K P S hl k => lv_dup C.hx C.hb hd hva (k ls hl)) k
theorem s_pop {va : Value} (hd : decode cc pc = .ok (.pop, 1)) (hva : va.category = 1)
    (k : zS D z y cc nL rt hh d h (pc + 1) L st o) : zS D z y cc nL rt hh d h pc L (va :: st) o :=
  zS_go (fun _ _ _ _ _ _ _ _ _ _ _ _ _ _ _ ls C K P S hl k => lv_pop C.hx C.hb hd hva (k ls hl)) k
theorem s_dup_x1 {va vb : Value} (hd : decode cc pc = .ok (.dup_x1, 1)) (hva : va.category = 1) (hvb : vb.category = 1)
    (k : zS D z y cc nL rt hh d h (pc + 1) L (va :: vb :: va :: st) o) : zS D z y cc nL rt hh d h pc L (va :: vb :: st) o :=
  zS_go (fun _ _ _ _ _ _ _ _ _ _ _ _ _ _ _ ls C K P S hl k => lv_dup_x1 C.hx C.hb hd hva hvb (k ls hl)) k
theorem s_dup_x2 {va vb vd : Value} (hd : decode cc pc = .ok (.dup_x2, 1)) (hva : va.category = 1) (hvb : vb.category = 1) (hvd : vd.category = 1)
    (k : zS D z y cc nL rt hh d h (pc + 1) L (va :: vb :: vd :: va :: st) o) : zS D z y cc nL rt hh d h pc L (va :: vb :: vd :: st) o :=
  zS_go (fun _ _ _ _ _ _ _ _ _ _ _ _ _ _ _ ls C K P S hl k => lv_dup_x2 C.hx C.hb hd hva hvb hvd (k ls hl)) k
theorem s_dup2_11 {va vb : Value} (hd : decode cc pc = .ok (.dup2, 1)) (hva : va.category = 1) (hvb : vb.category = 1)
    (k : zS D z y cc nL rt hh d h (pc + 1) L (va :: vb :: va :: vb :: st) o) : zS D z y cc nL rt hh d h pc L (va :: vb :: st) o :=
  zS_go (fun _ _ _ _ _ _ _ _ _ _ _ _ _ _ _ ls C K P S hl k => lv_dup2_11 C.hx C.hb hd hva hvb (k ls hl)) k
theorem s_dup2_2 {va : Value} (hd : decode cc pc = .ok (.dup2, 1)) (hva : va.category = 2)
    (k : zS D z y cc nL rt hh d h (pc + 1) L (va :: va :: st) o) : zS D z y cc nL rt hh d h pc L (va :: st) o :=
  zS_go (fun _ _ _ _ _ _ _ _ _ _ _ _ _ _ _ ls C K P S hl k => lv_dup2_2 C.hx C.hb hd hva (k ls hl)) k
theorem s_pop2_2 {va : Value} (hd : decode cc pc = .ok (.pop2, 1)) (hva : va.category = 2)
    (k : zS D z y cc nL rt hh d h (pc + 1) L st o) : zS D z y cc nL rt hh d h pc L (va :: st) o :=
  zS_go (fun _ _ _ _ _ _ _ _ _ _ _ _ _ _ _ ls C K P S hl k => lv_pop2_2 C.hx C.hb hd hva (k ls hl)) k
theorem s_dup2_x1_2 {va vb : Value} (hd : decode cc pc = .ok (.dup2_x1, 1)) (hva : va.category = 2) (hvb : vb.category = 1)
    (k : zS D z y cc nL rt hh d h (pc + 1) L (va :: vb :: va :: st) o) : zS D z y cc nL rt hh d h pc L (va :: vb :: st) o :=
  zS_go (fun _ _ _ _ _ _ _ _ _ _ _ _ _ _ _ ls C K P S hl k => lv_dup2_x1_2 C.hx C.hb hd hva hvb (k ls hl)) k
theorem zcat_rf (r : Option Nat) : (va_rf r).category = 1 := by cases r <;> rfl
theorem s_if_eq {x : Int32} {off : Int} {tgt : Nat} {o1 o2 : zO} (hd : decode cc pc = .ok (.ifCond .eq off, 3)) (ht : (pc : Int) + off = (tgt : Int))
    (k1 : x = 0 → zS D z y cc nL rt hh d h tgt L st o1) (k2 : ¬ (x = 0) → zS D z y cc nL rt hh d h (pc + 3) L st o2) : zS D z y cc nL rt hh d h pc L (.int x :: st) (if x = 0 then o1 else o2) :=
  zS_ite (fun hc => zS_go (fun _ _ _ _ _ _ _ _ _ _ _ _ _ _ _ ls C K P S hl k => lv_if_eq C.hx C.hb hd ht (fun _ => k ls hl) (fun hn => (hn hc).elim)) (k1 hc)) (fun hc => zS_go (fun _ _ _ _ _ _ _ _ _ _ _ _ _ _ _ ls C K P S hl k => lv_if_eq C.hx C.hb hd ht (fun hp => absurd hp hc) (fun _ => k ls hl)) (k2 hc))
theorem s_if_ne {x : Int32} {off : Int} {tgt : Nat} {o1 o2 : zO} (hd : decode cc pc = .ok (.ifCond .ne off, 3)) (ht : (pc : Int) + off = (tgt : Int))
    (k1 : ¬ x = 0 → zS D z y cc nL rt hh d h tgt L st o1) (k2 : ¬ (¬ x = 0) → zS D z y cc nL rt hh d h (pc + 3) L st o2) : zS D z y cc nL rt hh d h pc L (.int x :: st) (if ¬ x = 0 then o1 else o2) :=
  zS_ite (fun hc => zS_go (fun _ _ _ _ _ _ _ _ _ _ _ _ _ _ _ ls C K P S hl k => lv_if_ne C.hx C.hb hd ht (fun _ => k ls hl) (fun hn => absurd hn hc)) (k1 hc)) (fun hc => zS_go (fun _ _ _ _ _ _ _ _ _ _ _ _ _ _ _ ls C K P S hl k => lv_if_ne C.hx C.hb hd ht (fun hp => absurd hp hc) (fun _ => k ls hl)) (k2 hc))
theorem s_if_lt {x : Int32} {off : Int} {tgt : Nat} {o1 o2 : zO} (hd : decode cc pc = .ok (.ifCond .lt off, 3)) (ht : (pc : Int) + off = (tgt : Int))
    (k1 : x < 0 → zS D z y cc nL rt hh d h tgt L st o1) (k2 : ¬ (x < 0) → zS D z y cc nL rt hh d h (pc + 3) L st o2) : zS D z y cc nL rt hh d h pc L (.int x :: st) (if x < 0 then o1 else o2) :=
  zS_ite (fun hc => zS_go (fun _ _ _ _ _ _ _ _ _ _ _ _ _ _ _ ls C K P S hl k => lv_if_lt C.hx C.hb hd ht (fun _ => k ls hl) (fun hn => (hn hc).elim)) (k1 hc)) (fun hc => zS_go (fun _ _ _ _ _ _ _ _ _ _ _ _ _ _ _ ls C K P S hl k => lv_if_lt C.hx C.hb hd ht (fun hp => absurd hp hc) (fun _ => k ls hl)) (k2 hc))
theorem s_if_ge {x : Int32} {off : Int} {tgt : Nat} {o1 o2 : zO} (hd : decode cc pc = .ok (.ifCond .ge off, 3)) (ht : (pc : Int) + off = (tgt : Int))
    (k1 : 0 ≤ x → zS D z y cc nL rt hh d h tgt L st o1) (k2 : ¬ (0 ≤ x) → zS D z y cc nL rt hh d h (pc + 3) L st o2) : zS D z y cc nL rt hh d h pc L (.int x :: st) (if 0 ≤ x then o1 else o2) :=
  zS_ite (fun hc => zS_go (fun _ _ _ _ _ _ _ _ _ _ _ _ _ _ _ ls C K P S hl k => lv_if_ge C.hx C.hb hd ht (fun _ => k ls hl) (fun hn => (hn hc).elim)) (k1 hc)) (fun hc => zS_go (fun _ _ _ _ _ _ _ _ _ _ _ _ _ _ _ ls C K P S hl k => lv_if_ge C.hx C.hb hd ht (fun hp => absurd hp hc) (fun _ => k ls hl)) (k2 hc))
theorem s_if_gt {x : Int32} {off : Int} {tgt : Nat} {o1 o2 : zO} (hd : decode cc pc = .ok (.ifCond .gt off, 3)) (ht : (pc : Int) + off = (tgt : Int))
    (k1 : 0 < x → zS D z y cc nL rt hh d h tgt L st o1) (k2 : ¬ (0 < x) → zS D z y cc nL rt hh d h (pc + 3) L st o2) : zS D z y cc nL rt hh d h pc L (.int x :: st) (if 0 < x then o1 else o2) :=
  zS_ite (fun hc => zS_go (fun _ _ _ _ _ _ _ _ _ _ _ _ _ _ _ ls C K P S hl k => lv_if_gt C.hx C.hb hd ht (fun _ => k ls hl) (fun hn => (hn hc).elim)) (k1 hc)) (fun hc => zS_go (fun _ _ _ _ _ _ _ _ _ _ _ _ _ _ _ ls C K P S hl k => lv_if_gt C.hx C.hb hd ht (fun hp => absurd hp hc) (fun _ => k ls hl)) (k2 hc))
theorem s_if_le {x : Int32} {off : Int} {tgt : Nat} {o1 o2 : zO} (hd : decode cc pc = .ok (.ifCond .le off, 3)) (ht : (pc : Int) + off = (tgt : Int))
    (k1 : x ≤ 0 → zS D z y cc nL rt hh d h tgt L st o1) (k2 : ¬ (x ≤ 0) → zS D z y cc nL rt hh d h (pc + 3) L st o2) : zS D z y cc nL rt hh d h pc L (.int x :: st) (if x ≤ 0 then o1 else o2) :=
  zS_ite (fun hc => zS_go (fun _ _ _ _ _ _ _ _ _ _ _ _ _ _ _ ls C K P S hl k => lv_if_le C.hx C.hb hd ht (fun _ => k ls hl) (fun hn => (hn hc).elim)) (k1 hc)) (fun hc => zS_go (fun _ _ _ _ _ _ _ _ _ _ _ _ _ _ _ ls C K P S hl k => lv_if_le C.hx C.hb hd ht (fun hp => absurd hp hc) (fun _ => k ls hl)) (k2 hc))
theorem s_icmp_eq {x y2 : Int32} {off : Int} {tgt : Nat} {o1 o2 : zO} (hd : decode cc pc = .ok (.if_icmp .eq off, 3)) (ht : (pc : Int) + off = (tgt : Int))
    (k1 : x = y2 → zS D z y cc nL rt hh d h tgt L st o1) (k2 : ¬ (x = y2) → zS D z y cc nL rt hh d h (pc + 3) L st o2) : zS D z y cc nL rt hh d h pc L (.int y2 :: .int x :: st) (if x = y2 then o1 else o2) :=
  zS_ite (fun hc => zS_go (fun _ _ _ _ _ _ _ _ _ _ _ _ _ _ _ ls C K P S hl k => lv_icmp_eq C.hx C.hb hd ht (fun _ => k ls hl) (fun hn => (hn hc).elim)) (k1 hc)) (fun hc => zS_go (fun _ _ _ _ _ _ _ _ _ _ _ _ _ _ _ ls C K P S hl k => lv_icmp_eq C.hx C.hb hd ht (fun hp => absurd hp hc) (fun _ => k ls hl)) (k2 hc))
theorem s_icmp_ne {x y2 : Int32} {off : Int} {tgt : Nat} {o1 o2 : zO} (hd : decode cc pc = .ok (.if_icmp .ne off, 3)) (ht : (pc : Int) + off = (tgt : Int))
    (k1 : ¬ x = y2 → zS D z y cc nL rt hh d h tgt L st o1) (k2 : ¬ (¬ x = y2) → zS D z y cc nL rt hh d h (pc + 3) L st o2) : zS D z y cc nL rt hh d h pc L (.int y2 :: .int x :: st) (if ¬ x = y2 then o1 else o2) :=
  zS_ite (fun hc => zS_go (fun _ _ _ _ _ _ _ _ _ _ _ _ _ _ _ ls C K P S hl k => lv_icmp_ne C.hx C.hb hd ht (fun _ => k ls hl) (fun hn => absurd hn hc)) (k1 hc)) (fun hc => zS_go (fun _ _ _ _ _ _ _ _ _ _ _ _ _ _ _ ls C K P S hl k => lv_icmp_ne C.hx C.hb hd ht (fun hp => absurd hp hc) (fun _ => k ls hl)) (k2 hc))
theorem s_icmp_lt {x y2 : Int32} {off : Int} {tgt : Nat} {o1 o2 : zO} (hd : decode cc pc = .ok (.if_icmp .lt off, 3)) (ht : (pc : Int) + off = (tgt : Int))
    (k1 : x < y2 → zS D z y cc nL rt hh d h tgt L st o1) (k2 : ¬ (x < y2) → zS D z y cc nL rt hh d h (pc + 3) L st o2) : zS D z y cc nL rt hh d h pc L (.int y2 :: .int x :: st) (if x < y2 then o1 else o2) :=
  zS_ite (fun hc => zS_go (fun _ _ _ _ _ _ _ _ _ _ _ _ _ _ _ ls C K P S hl k => lv_icmp_lt C.hx C.hb hd ht (fun _ => k ls hl) (fun hn => (hn hc).elim)) (k1 hc)) (fun hc => zS_go (fun _ _ _ _ _ _ _ _ _ _ _ _ _ _ _ ls C K P S hl k => lv_icmp_lt C.hx C.hb hd ht (fun hp => absurd hp hc) (fun _ => k ls hl)) (k2 hc))
theorem s_icmp_ge {x y2 : Int32} {off : Int} {tgt : Nat} {o1 o2 : zO} (hd : decode cc pc = .ok (.if_icmp .ge off, 3)) (ht : (pc : Int) + off = (tgt : Int))
    (k1 : y2 ≤ x → zS D z y cc nL rt hh d h tgt L st o1) (k2 : ¬ (y2 ≤ x) → zS D z y cc nL rt hh d h (pc + 3) L st o2) : zS D z y cc nL rt hh d h pc L (.int y2 :: .int x :: st) (if y2 ≤ x then o1 else o2) :=
  zS_ite (fun hc => zS_go (fun _ _ _ _ _ _ _ _ _ _ _ _ _ _ _ ls C K P S hl k => lv_icmp_ge C.hx C.hb hd ht (fun _ => k ls hl) (fun hn => (hn hc).elim)) (k1 hc)) (fun hc => zS_go (fun _ _ _ _ _ _ _ _ _ _ _ _ _ _ _ ls C K P S hl k => lv_icmp_ge C.hx C.hb hd ht (fun hp => absurd hp hc) (fun _ => k ls hl)) (k2 hc))
theorem s_icmp_gt {x y2 : Int32} {off : Int} {tgt : Nat} {o1 o2 : zO} (hd : decode cc pc = .ok (.if_icmp .gt off, 3)) (ht : (pc : Int) + off = (tgt : Int))
    (k1 : y2 < x → zS D z y cc nL rt hh d h tgt L st o1) (k2 : ¬ (y2 < x) → zS D z y cc nL rt hh d h (pc + 3) L st o2) : zS D z y cc nL rt hh d h pc L (.int y2 :: .int x :: st) (if y2 < x then o1 else o2) :=
  zS_ite (fun hc => zS_go (fun _ _ _ _ _ _ _ _ _ _ _ _ _ _ _ ls C K P S hl k => lv_icmp_gt C.hx C.hb hd ht (fun _ => k ls hl) (fun hn => (hn hc).elim)) (k1 hc)) (fun hc => zS_go (fun _ _ _ _ _ _ _ _ _ _ _ _ _ _ _ ls C K P S hl k => lv_icmp_gt C.hx C.hb hd ht (fun hp => absurd hp hc) (fun _ => k ls hl)) (k2 hc))
theorem s_icmp_le {x y2 : Int32} {off : Int} {tgt : Nat} {o1 o2 : zO} (hd : decode cc pc = .ok (.if_icmp .le off, 3)) (ht : (pc : Int) + off = (tgt : Int))
    (k1 : x ≤ y2 → zS D z y cc nL rt hh d h tgt L st o1) (k2 : ¬ (x ≤ y2) → zS D z y cc nL rt hh d h (pc + 3) L st o2) : zS D z y cc nL rt hh d h pc L (.int y2 :: .int x :: st) (if x ≤ y2 then o1 else o2) :=
  zS_ite (fun hc => zS_go (fun _ _ _ _ _ _ _ _ _ _ _ _ _ _ _ ls C K P S hl k => lv_icmp_le C.hx C.hb hd ht (fun _ => k ls hl) (fun hn => (hn hc).elim)) (k1 hc)) (fun hc => zS_go (fun _ _ _ _ _ _ _ _ _ _ _ _ _ _ _ ls C K P S hl k => lv_icmp_le C.hx C.hb hd ht (fun hp => absurd hp hc) (fun _ => k ls hl)) (k2 hc))
theorem s_acmp_eq {rx ry : Option Nat} {off : Int} {tgt : Nat} {o1 o2 : zO} (hd : decode cc pc = .ok (.if_acmp .eq off, 3)) (ht : (pc : Int) + off = (tgt : Int))
    (k1 : rx = ry → zS D z y cc nL rt hh d h tgt L st o1) (k2 : ¬ (rx = ry) → zS D z y cc nL rt hh d h (pc + 3) L st o2) : zS D z y cc nL rt hh d h pc L (va_rf ry :: va_rf rx :: st) (if rx = ry then o1 else o2) :=
  zS_ite (fun hc => zS_go (fun _ _ _ _ _ _ _ _ _ _ _ _ _ _ _ ls C K P S hl k => lv_acmp_eq C.hx C.hb hd ht (fun _ => k ls hl) (fun hn => (hn hc).elim)) (k1 hc)) (fun hc => zS_go (fun _ _ _ _ _ _ _ _ _ _ _ _ _ _ _ ls C K P S hl k => lv_acmp_eq C.hx C.hb hd ht (fun hp => absurd hp hc) (fun _ => k ls hl)) (k2 hc))
theorem s_acmp_ne {rx ry : Option Nat} {off : Int} {tgt : Nat} {o1 o2 : zO} (hd : decode cc pc = .ok (.if_acmp .ne off, 3)) (ht : (pc : Int) + off = (tgt : Int))
    (k1 : ¬ rx = ry → zS D z y cc nL rt hh d h tgt L st o1) (k2 : ¬ (¬ rx = ry) → zS D z y cc nL rt hh d h (pc + 3) L st o2) : zS D z y cc nL rt hh d h pc L (va_rf ry :: va_rf rx :: st) (if ¬ rx = ry then o1 else o2) :=
  zS_ite (fun hc => zS_go (fun _ _ _ _ _ _ _ _ _ _ _ _ _ _ _ ls C K P S hl k => lv_acmp_ne C.hx C.hb hd ht (fun _ => k ls hl) (fun hn => absurd hn hc)) (k1 hc)) (fun hc => zS_go (fun _ _ _ _ _ _ _ _ _ _ _ _ _ _ _ ls C K P S hl k => lv_acmp_ne C.hx C.hb hd ht (fun hp => absurd hp hc) (fun _ => k ls hl)) (k2 hc))
theorem s_ifnull {x : Option Nat} {off : Int} {tgt : Nat} {o1 o2 : zO} (hd : decode cc pc = .ok (.ifnull off, 3)) (ht : (pc : Int) + off = (tgt : Int))
    (k1 : x = none → zS D z y cc nL rt hh d h tgt L st o1) (k2 : ¬ x = none → zS D z y cc nL rt hh d h (pc + 3) L st o2) : zS D z y cc nL rt hh d h pc L (va_rf x :: st) (if x = none then o1 else o2) := by
  cases x with
  | none => rw [if_pos rfl]; exact zS_go (fun _ _ _ _ _ _ _ _ _ _ _ _ _ _ _ ls C K P S hl k => lv_ifnullN C.hx C.hb hd ht (k ls hl)) (k1 rfl)
  | some a => rw [if_neg (fun q => nomatch q)]; exact zS_go (fun _ _ _ _ _ _ _ _ _ _ _ _ _ _ _ ls C K P S hl k => lv_ifnull C.hx C.hb hd (k ls hl)) (k2 (fun q => nomatch q))
theorem s_ifnonnull {x : Option Nat} {off : Int} {tgt : Nat} {o1 o2 : zO} (hd : decode cc pc = .ok (.ifnonnull off, 3)) (ht : (pc : Int) + off = (tgt : Int))
    (k1 : ¬ x = none → zS D z y cc nL rt hh d h tgt L st o1) (k2 : x = none → zS D z y cc nL rt hh d h (pc + 3) L st o2) : zS D z y cc nL rt hh d h pc L (va_rf x :: st) (if ¬ x = none then o1 else o2) := by
  cases x with
  | none => rw [if_neg (fun q => q rfl)]; exact zS_go (fun _ _ _ _ _ _ _ _ _ _ _ _ _ _ _ ls C K P S hl k => lv_ifnonnullN C.hx C.hb hd (k ls hl)) (k2 rfl)
  | some a => rw [if_pos (fun q => nomatch q)]; exact zS_go (fun _ _ _ _ _ _ _ _ _ _ _ _ _ _ _ ls C K P S hl k => lv_ifnonnull C.hx C.hb hd ht (k ls hl)) (k1 (fun q => nomatch q))
theorem s_goto {off : Int} {tgt : Nat} (hd : decode cc pc = .ok (.goto off, 3)) (ht : (pc : Int) + off = (tgt : Int))
    (k : zS D z y cc nL rt hh d h tgt L st o) : zS D z y cc nL rt hh d h pc L st o :=
  zS_go (fun _ _ _ _ _ _ _ _ _ _ _ _ _ _ _ ls C K P S hl k => lv_goto C.hx C.hb hd ht (k ls hl)) k
theorem s_tabIn {dflt lo hi : Int} {offs : Array Int} {len : Nat} {x : Int32} {off : Int} {tgt : Nat} {v : Int32} (hd : decode cc pc = .ok (.tableswitch dflt lo hi offs, len)) (hx : x = v) (h1 : ¬ v.toInt < lo) (h2 : ¬ hi < v.toInt) (ho : offs[(v.toInt - lo).toNat]? = some off) (ht : (pc : Int) + off = (tgt : Int))
    (k : zS D z y cc nL rt hh d h tgt L st o) : zS D z y cc nL rt hh d h pc L (.int x :: st) o :=
  by
  subst hx
  exact zS_go (fun _ _ _ _ _ _ _ _ _ _ _ _ _ _ _ ls C K P S hl k => lv_tableIn C.hx C.hb hd h1 h2 ho ht (k ls hl)) k
theorem s_tabOut {dflt lo hi : Int} {offs : Array Int} {len : Nat} {x : Int32} {tgt : Nat} (hd : decode cc pc = .ok (.tableswitch dflt lo hi offs, len)) (hx : x.toInt < lo ∨ hi < x.toInt) (ht : (pc : Int) + dflt = (tgt : Int))
    (k : zS D z y cc nL rt hh d h tgt L st o) : zS D z y cc nL rt hh d h pc L (.int x :: st) o :=
  zS_go (fun _ _ _ _ _ _ _ _ _ _ _ _ _ _ _ ls C K P S hl k => lv_tableOut C.hx C.hb hd hx ht (k ls hl)) k
theorem s_look {dflt : Int} {ps : Array (Int × Int)} {len : Nat} {x : Int32} {off : Int} {tgt : Nat} (hd : decode cc pc = .ok (.lookupswitch dflt ps, len)) (hp : (ps.toList.zip (ps.toList.drop 1)).all (fun (a, next) => a.1 < next.1) = true) (ho : Op.lookupswitch.offset ps.toList dflt x.toInt = off) (ht : (pc : Int) + off = (tgt : Int))
    (k : zS D z y cc nL rt hh d h tgt L st o) : zS D z y cc nL rt hh d h pc L (.int x :: st) o :=
  zS_go (fun _ _ _ _ _ _ _ _ _ _ _ _ _ _ _ ls C K P S hl k => lv_lookup C.hx C.hb hd hp ho ht (k ls hl)) k
theorem s_sub {L2 : List (Nat × Value)} (ps : List Nat) (h2 : lv_pick L ps = L2) (k : zS D z y cc nL rt hh d h pc L2 st o) : zS D z y cc nL rt hh d h pc L st o := zS_go (fun _ _ _ _ _ _ _ _ _ _ _ _ _ _ _ ls C K P S hl k => k ls (lv_sub hl ps h2)) k
theorem s_nm {α : Type} {x : α} {K : α → zO} (f : α → Value) (k : ∀ v : α, zS D z y cc nL rt hh d h pc L (f v :: st) (K v)) : zS D z y cc nL rt hh d h pc L (f x :: st) (znm x K) := k x

theorem zCx.words {p : Program} {l : Launch} {R : Room} {s : State} {m : MethodId} {args : Array Value} {meth : Method} {c : Code} (C : zCx y cc nL rt hh d p l R s m args meth c) {w : Cond} (hw : w ∈ lw_all) : w.before args s = true := C.ts w hw
/-- a step that writes one known cell -/
theorem zS_goP {a : Nat} {e1 : zEnt} {pc' : Nat} {st' : List Value} (hfr : e1.2.1 = true → True)
    (go : ∀ (p : Program) (l : Launch) (e : Env) (R : Room) (s : State) (m : MethodId) (args : Array Value) (below : List Frame) (meth : Method) (c : Code) (H : Heap) (locs : List Loc) (cells slots : Nat) (Q : State → Prop) (ls : Array Slot),
      zCx y cc nL rt hh d p l R s m args meth c → zK D (zG h) s → zHp D z h s H → va_S (fun q => z ≤ q) s.heap H locs → lv_has ls nL L →
      (∀ (H1 : Heap) (i : Nat), H1.size = H.size → (∀ q : Nat, q ≠ a → H1[q]? = H[q]?) → z ≤ a → zat D z s a e1 H1 → W p l e R s m args below meth c H1 (locs ++ [⟨a, i⟩]) cells slots Q (F0 m pc' ls st')) → W p l e R s m args below meth c H locs cells slots Q (F0 m pc ls st))
    (k : zS D z y cc nL rt hh d (zput h a e1) pc' L st' o) : zS D z y cc nL rt hh d h pc L st o := by
  intro r h' e
  obtain ⟨k1, k2⟩ := k r h' e
  refine ⟨zle_trans (zle_put h a e1) k1, fun p l e R s m args below meth c H locs u0 ls C K P S hl h1 h2 h3 => go p l e R s m args below meth c H locs _ _ _ ls C K P S hl fun H1 i z1 oq za hat => ?_⟩
  refine k2 p l e R s m args below meth c H1 _ u0 ls C K ⟨P.1.trans z1.symm, by rw [z1]; exact P.2.1, fun b e2 hb => ?_, (P.2.2.2.kept fun q hq hz => oq q fun e => hz (by rw [e]; exact za)).G rfl⟩ (va_S.put S z1 oq za) hl h1 h2 h3
  by_cases hba : b = a
  · subst hba
    rw [zm_put_same] at hb
    cases hb
    exact hat
  · rw [zm_put_ne h e1 hba] at hb
    exact (P.2.2.1 b e2 hb).kept (oq b hba)
/-- a step that makes one cell of n slots -/
theorem zS_goN {e1 : zEnt} {n : Nat} {pc' : Nat} {st' : List Value}
    (go : ∀ (p : Program) (l : Launch) (e : Env) (R : Room) (s : State) (m : MethodId) (args : Array Value) (below : List Frame) (meth : Method) (c : Code) (H : Heap) (locs : List Loc) (cells slots : Nat) (Q : State → Prop) (ls : Array Slot),
      zCx y cc nL rt hh d p l R s m args meth c → zK D (zG h) s → zHp D z h s H → va_S (fun q => z ≤ q) s.heap H locs → lv_has ls nL L → cells + 1 ≤ R.cells → slots + n ≤ R.slots →
      (∀ (H1 : Heap), H1.size = H.size + 1 → (∀ q : Nat, q < H.size → H1[q]? = H[q]?) → zat D z s H.size e1 H1 → W p l e R s m args below meth c H1 locs (cells + 1) (slots + n) Q (F0 m pc' ls st')) → W p l e R s m args below meth c H locs cells slots Q (F0 m pc ls st))
    (k : zS D z y cc nL rt hh d (znew h e1 n) pc' L st' o) : zS D z y cc nL rt hh d h pc L st o := by
  intro r h' e
  obtain ⟨k1, k2⟩ := k r h' e
  refine ⟨zle_trans (zle_new h e1 n) k1, fun p l e R s m args below meth c H locs u0 ls C K P S hl h1 h2 h3 => ?_⟩
  have a1 : s.heap.size ≤ zsz h := by rw [P.1]; exact S.1
  have b1 : zsz h + 1 ≤ zsz h' := k1.1
  have b2 : zus h + n ≤ zus h' := k1.2.1
  refine go p l e R s m args below meth c H locs _ _ _ ls C K P S hl (by omega) (by omega) fun H1 z1 oq hat => ?_
  have k3 := k2 p l e R s m args below meth c H1 locs u0 ls C K ⟨by rw [zsz_new, P.1, z1], by rw [z1]; exact Nat.le_succ_of_le P.2.1, fun b e2 hb => ?_, (P.2.2.2.kept fun q hq _ => oq q hq).G rfl⟩ ⟨by rw [z1]; exact Nat.le_succ_of_le S.1, fun q q1 q2 => (oq q (Nat.lt_of_lt_of_le q1 S.1)).trans (S.2.1 q q1 q2), S.2.2⟩ hl (Nat.le_trans h1 (Nat.le_add_right _ _)) h2 h3
  · rw [zsz_new, zus_new] at k3
    rw [show zsz h + 1 - s.heap.size = zsz h - s.heap.size + 1 by omega, show zus h + n - u0 = zus h - u0 + n by omega] at k3
    exact k3
  · by_cases hba : b = zsz h
    · subst hba
      rw [zm_new_same] at hb
      cases hb
      rw [P.1]
      exact hat
    · rw [zm_new_ne h e1 n hba] at hb
      have h9 := P.2.2.1 b e2 hb
      exact h9.kept (oq b h9.lt)
/-- the words of a field, by the tags of the things that have it -/
def zFg (own : String) (ix : Nat) (ts : List Nat) (k : Nat) : Prop :=
  ∃ ref name desc : String, (Cond.fieldLink own ix ref name desc ∈ lw_all ∨ ∃ host, Cond.fieldLinkNest own ix ref name desc host ∈ lw_tbl) ∧
    ∀ t ∈ ts, ∃ q, zcl[t]? = some q ∧ k < q.2.2 ∧ (q.2.1 k).2.1 = name ∧ (q.2.1 k).2.2.1 = desc ∧ ((q.2.1 k).1 = ref ∨ Cond.sameField ref (q.2.1 k).1 name desc ∈ lw_all) ∧ (∀ w ∈ u_ws q.1 q.2.1 q.2.2, w ∈ lw_all)
theorem zt0 {P : Nat → Prop} : ∀ t ∈ ([] : List Nat), P t := fun _ h => nomatch h
theorem ztc {P : Nat → Prop} {t : Nat} {ts : List Nat} (h : P t) (k : ∀ t ∈ ts, P t) : ∀ u ∈ t :: ts, P u := List.forall_mem_cons.mpr ⟨h, k⟩
theorem zfound {s : State} {args : Array Value} {q : vw_C} {k : Nat} {ref name desc : String} {x : ClassId × Class × Nat × Field} (hn : (q.2.1 k).2.1 = name) (hds : (q.2.1 k).2.2.1 = desc) (hsame : (q.2.1 k).1 = ref ∨ Cond.sameField ref (q.2.1 k).1 name desc ∈ lw_all) (hts : ∀ w ∈ lw_all, w.before args s = true)
    (hi : s.fieldFound? (q.2.1 k).1 (q.2.1 k).2.1 (q.2.1 k).2.2.1 = some x) : s.fieldFound? ref name desc = some x := by
  rw [hn, hds] at hi
  rcases hsame with h9 | h9
  · rw [← h9]; exact hi
  · exact u_same (hts _ h9) x hi
theorem s_getV {ix k : Nat} {ts : List Nat} {r : Option Nat} {e : zEnt} {v : Value} (hd : decode cc pc = .ok (.getfield ix, 3)) (hF : zFg y.cls ix ts k) (he : zob h ts r = some e) (hv : e.2.2[k]? = some v)
    (k9 : zS D z y cc nL rt hh d h (pc + 3) L (v :: st) o) : zS D z y cc nL rt hh d h pc L (va_rf r :: st) o := by
  obtain ⟨a, rfl, hm, ht⟩ := zob_some he
  obtain ⟨ref, name, desc, hlink, hF⟩ := hF
  obtain ⟨q, hq, hk, hn, hds, hsame, hin⟩ := hF e.1 ht
  refine zS_go (fun p l e0 R s m args below meth c H locs cells slots Q ls C K P S hl k => ?_) k9
  obtain ⟨cell, hc, hu, hs, hfr, hkind⟩ := P.2.2.1 a e hm
  rcases hkind with ⟨q2, hq2, hcls, hlen, hsl⟩ | ⟨ty, hty, -⟩ | ⟨hla, -⟩
  · cases hq.symm.trans hq2
    obtain ⟨hS, hfc, kC, hkC, hkd⟩ := K.1 e.1 _ hq
    obtain ⟨cf, kf, fi, f, hi, hsl2⟩ := hS _ hk
    have hst := (u_facts hfc hkC (u_lays C.ts hin hk) hi).1
    have hslot : cell.slots[f.slot]? = some v := by rw [hsl2, hsl _ hk, hv]
    have hi' := zfound hn hds hsame C.ts hi
    rcases hlink with hl1 | ⟨host, hl1⟩
    · exact W.getf C.hx C.hb C.own (C.ts _ hl1) hi' hst hc hu hslot rfl rfl hd (k ls hl)
    · exact va_Wgetf C.hx C.hb C.own (va_Nw.use rfl (K.2.2.1 _ hl1 rfl)) hi' hst hc hu hslot rfl rfl hd (k ls hl)
  · exact absurd (zcl_ta hq) (by rw [hty]; exact fun e => nomatch e)
  · exact absurd (zcl_la hq) (by rw [hla]; exact fun e => nomatch e)
theorem s_gI {ix k : Nat} {ts : List Nat} {r : Option Nat} {K : Int32 → zO} (hd : decode cc pc = .ok (.getfield ix, 3)) (hF : zFg y.cls ix ts k) (k9 : ∀ x, zS D z y cc nL rt hh d h (pc + 3) L (.int x :: st) (K x)) : zS D z y cc nL rt hh d h pc L (va_rf r :: st) (zgI h ts k r K) := by
  unfold zgI
  cases hz : zvI (zgV h ts k r) with
  | none => exact zS_none
  | some x =>
    have hv := zvI_some hz
    unfold zgV at hv
    cases he : zob h ts r with
    | none => rw [he] at hv; cases hv
    | some e => rw [he] at hv; exact s_getV hd hF he hv (k9 x)
theorem s_gL {ix k : Nat} {ts : List Nat} {r : Option Nat} {K : Int64 → zO} (hd : decode cc pc = .ok (.getfield ix, 3)) (hF : zFg y.cls ix ts k) (k9 : ∀ x, zS D z y cc nL rt hh d h (pc + 3) L (.long x :: st) (K x)) : zS D z y cc nL rt hh d h pc L (va_rf r :: st) (zgL h ts k r K) := by
  unfold zgL
  cases hz : zvL (zgV h ts k r) with
  | none => exact zS_none
  | some x =>
    have hv := zvL_some hz
    unfold zgV at hv
    cases he : zob h ts r with
    | none => rw [he] at hv; cases hv
    | some e => rw [he] at hv; exact s_getV hd hF he hv (k9 x)
theorem s_gF {ix k : Nat} {ts : List Nat} {r : Option Nat} {K : UInt32 → zO} (hd : decode cc pc = .ok (.getfield ix, 3)) (hF : zFg y.cls ix ts k) (k9 : ∀ x, zS D z y cc nL rt hh d h (pc + 3) L (.float x :: st) (K x)) : zS D z y cc nL rt hh d h pc L (va_rf r :: st) (zgF h ts k r K) := by
  unfold zgF
  cases hz : zvF (zgV h ts k r) with
  | none => exact zS_none
  | some x =>
    have hv := zvF_some hz
    unfold zgV at hv
    cases he : zob h ts r with
    | none => rw [he] at hv; cases hv
    | some e => rw [he] at hv; exact s_getV hd hF he hv (k9 x)
theorem s_gD {ix k : Nat} {ts : List Nat} {r : Option Nat} {K : UInt64 → zO} (hd : decode cc pc = .ok (.getfield ix, 3)) (hF : zFg y.cls ix ts k) (k9 : ∀ x, zS D z y cc nL rt hh d h (pc + 3) L (.double x :: st) (K x)) : zS D z y cc nL rt hh d h pc L (va_rf r :: st) (zgD h ts k r K) := by
  unfold zgD
  cases hz : zvD (zgV h ts k r) with
  | none => exact zS_none
  | some x =>
    have hv := zvD_some hz
    unfold zgV at hv
    cases he : zob h ts r with
    | none => rw [he] at hv; cases hv
    | some e => rw [he] at hv; exact s_getV hd hF he hv (k9 x)
theorem s_gR {ix k : Nat} {ts : List Nat} {r : Option Nat} {K : Option Nat → zO} (hd : decode cc pc = .ok (.getfield ix, 3)) (hF : zFg y.cls ix ts k) (k9 : ∀ x, zS D z y cc nL rt hh d h (pc + 3) L (va_rf x :: st) (K x)) : zS D z y cc nL rt hh d h pc L (va_rf r :: st) (zgR h ts k r K) := by
  unfold zgR
  cases hz : zvR (zgV h ts k r) with
  | none => exact zS_none
  | some x =>
    have hv := zvR_some hz
    unfold zgV at hv
    cases he : zob h ts r with
    | none => rw [he] at hv; cases hv
    | some e => rw [he] at hv; exact s_getV hd hF he hv (k9 x)

def zFp (own : String) (ix : Nat) (ts : List Nat) (k : Nat) (nm : String) (ty : FieldType) : Prop :=
  ∃ ref name desc : String, (Cond.fieldLink own ix ref name desc ∈ lw_all ∨ ∃ host, Cond.fieldLinkNest own ix ref name desc host ∈ lw_tbl) ∧ parseFieldDescriptor desc = some ty ∧
    ∀ t ∈ ts, ∃ (q : vw_C) (tyf : Nat → FieldType), zcl[t]? = some q ∧ k < q.2.2 ∧ (q.2.1 k).2.1 = name ∧ (q.2.1 k).2.2.1 = desc ∧ ((q.2.1 k).1 = ref ∨ Cond.sameField ref (q.2.1 k).1 name desc ∈ lw_all) ∧ (∀ w ∈ u_ws q.1 q.2.1 q.2.2, w ∈ lw_all) ∧
      (∀ j, j < q.2.2 → parseFieldDescriptor (q.2.1 j).2.2.1 = some (tyf j)) ∧ (∀ a, a < q.2.2 → ∀ b, b < q.2.2 → a ≠ b → (q.2.1 a).2.1 ≠ (q.2.1 b).2.1) ∧
      ((q.2.1 k).2.2.2 = false ∨ ((q.2.1 k).2.2.2 = true ∧ nm = "<init>" ∧ (q.2.1 k).1 = own ∧ Cond.fieldLink own ix ref name desc ∈ lw_all))
theorem s_put {ix k : Nat} {ts : List Nat} {r : Option Nat} {v : Value} {ty : FieldType} {K : zH → zO} (hd : decode cc pc = .ok (.putfield ix, 3)) (hF : zFp y.cls ix ts k y.name ty) (hn0 : narrow ty v = v) (hf0 : fits ty v = true)
    (k9 : ∀ h1, zS D z y cc nL rt hh d h1 (pc + 3) L st (K h1)) : zS D z y cc nL rt hh d h pc L (v :: va_rf r :: st) (zpF h ts k r v K) := by
  unfold zpF
  cases he : zob h ts r with
  | none => cases r <;> exact zS_none
  | some e =>
    obtain ⟨a, rfl, hm, ht⟩ := zob_some he
    dsimp only
    refine zS_ite (fun hc0 => ?_) (fun _ => zS_none)
    obtain ⟨hfr0, hklen⟩ := hc0
    obtain ⟨ref, name, desc, hlink, hpd, hF⟩ := hF
    obtain ⟨q, tyf, hq, hk, hn, hds, hsame, hin, hty, hnm, hfin⟩ := hF e.1 ht
    refine zS_goP (fun _ => trivial) (fun p l e0 R s m args below meth c H locs cells slots Q ls C K P S hl kk => ?_) (k9 _)
    obtain ⟨cell, hc, hu, hs, hfr, hkind⟩ := P.2.2.1 a e hm
    obtain ⟨hvm, hza⟩ := hfr hfr0
    rcases hkind with ⟨q2, hq2, hcls, hlen, hsl⟩ | ⟨ty2, hty2, -⟩ | ⟨hla, -⟩
    · cases hq.symm.trans hq2
      have hap := va_apart (own := y.cls) C.ts hin tyf hty hnm (tys := []) (cl := zcl) ⟨K.1, fun _ _ h9 => nomatch h9⟩ hq
      obtain ⟨hS, hfc, kC, hkC, hkd⟩ := K.1 e.1 _ hq
      obtain ⟨cf, kf, fi, f, hi, hsl2⟩ := hS _ hk
      have hlays := u_lays C.ts hin hk
      have hst := (u_facts hfc hkC hlays hi).1
      have hpd' : parseFieldDescriptor (q.2.1 k).2.2.1 = some ty := by rw [hds]; exact hpd
      have hlt : f.slot < cell.slots.size := by
        have h9 : cell.slots[D.2 e.1 k]? = e.2.2[k]? := hsl _ hk
        rw [List.getElem?_eq_getElem hklen] at h9
        rw [hsl2]
        exact k2_hasslot h9
      have hi' := zfound hn hds hsame C.ts hi
      have fin : ∀ H1 : Heap, H1[a]? = some (cell.setSlot f.slot v) → zat D z s a (e.1, true, e.2.2.set k v) H1 := by
        intro H1 e1
        refine ⟨_, e1, hu, hs, fun _ => ⟨hvm, hza⟩, Or.inl ⟨q, hq, hcls, by rw [← hlen]; exact List.length_set, fun j hj => ?_⟩⟩
        show (cell.setSlot f.slot v).slots[D.2 e.1 j]? = (e.2.2.set k v)[j]?
        by_cases hjk : j = k
        · subst hjk
          rw [← hsl2, Cell.slots_setSlot_self _ hlt, List.getElem?_set_self hklen]
        · rw [Cell.slots_setSlot_ne _ (by rw [hsl2]; exact hap k j hk hj (fun q => hjk q.symm)), List.getElem?_set_ne (fun q => hjk q.symm)]
          exact hsl j hj
      rcases hfin with hfin | ⟨hfin, hnmi, hown2, hlk⟩
      · have hlay := C.ts _ (hin _ (u_in_lay hk))
        unfold u_lay at hlay
        rw [if_neg (by rw [hfin]; decide)] at hlay
        have h6 := u_store hfc hkC hkd hlay hi hpd' hn0 hf0
        rcases hlink with hl1 | ⟨host, hl1⟩
        · exact W.putK C.hx C.hb (f := f) ⟨C.own, C.ts _ hl1, ⟨_, _, _, hi'⟩, hst⟩ (by rw [hcls]; exact h6) hc hvm hlt rfl rfl hd fun H1 e1 e2 e3 => kk H1 _ e2 e3 hza (fin H1 e1)
        · exact va_WputK C.hx C.hb (f := f) C.own (va_Nw.use rfl (K.2.2.1 _ hl1 rfl)) hi' hst (by rw [hcls]; exact h6) hc hvm hlt rfl rfl hd fun H1 e1 e2 e3 => kk H1 _ e2 e3 hza (fin H1 e1)
      · have hlay := C.ts _ (hin _ (u_in_lay hk))
        unfold u_lay at hlay
        rw [if_pos hfin] at hlay
        have hcf : m.cls = cf := by
          obtain ⟨_, _, c', _, _, _, -, -, hf', -, -, -, hown3, -⟩ := Cond.laysFinal_spec hlay
          have e1 : c' = cf := by have := hi.symm.trans hf'; simp at this; exact this.1.symm
          rw [hown2] at hown3
          rw [← e1]; exact Option.some.inj (C.own.symm.trans hown3)
        have h6 := u_fits hfc hkC hkd (Or.inr hlay) hi hpd' hn0 hf0
        exact W.putFinK C.hx C.hb C.own (C.ts _ hlk) hi' hst hcf (by rw [C.nm]; exact hnmi) (by rw [hcls]; exact h6) hc hvm hlt rfl rfl hd fun H1 e1 e2 e3 => kk H1 _ e2 e3 hza (fin H1 e1)
    · exact absurd (zcl_ta hq) (by rw [hty2]; exact fun e => nomatch e)
    · exact absurd (zcl_la hq) (by rw [hla]; exact fun e => nomatch e)
theorem s_putI {ix k : Nat} {ts : List Nat} {r : Option Nat} {x : Int32} {K : zH → zO} (hd : decode cc pc = .ok (.putfield ix, 3)) (hF : zFp y.cls ix ts k y.name .int) (k9 : ∀ h1, zS D z y cc nL rt hh d h1 (pc + 3) L st (K h1)) : zS D z y cc nL rt hh d h pc L (.int x :: va_rf r :: st) (zpF h ts k r (.int x) K) := s_put hd hF rfl rfl k9
theorem s_putL {ix k : Nat} {ts : List Nat} {r : Option Nat} {x : Int64} {K : zH → zO} (hd : decode cc pc = .ok (.putfield ix, 3)) (hF : zFp y.cls ix ts k y.name .long) (k9 : ∀ h1, zS D z y cc nL rt hh d h1 (pc + 3) L st (K h1)) : zS D z y cc nL rt hh d h pc L (.long x :: va_rf r :: st) (zpF h ts k r (.long x) K) := s_put hd hF rfl rfl k9
theorem s_putF {ix k : Nat} {ts : List Nat} {r : Option Nat} {x : UInt32} {K : zH → zO} (hd : decode cc pc = .ok (.putfield ix, 3)) (hF : zFp y.cls ix ts k y.name .float) (k9 : ∀ h1, zS D z y cc nL rt hh d h1 (pc + 3) L st (K h1)) : zS D z y cc nL rt hh d h pc L (.float x :: va_rf r :: st) (zpF h ts k r (.float x) K) := s_put hd hF rfl rfl k9
theorem s_putR {ix k : Nat} {ts : List Nat} {r x : Option Nat} {C : String} {K : zH → zO} (hd : decode cc pc = .ok (.putfield ix, 3)) (hF : zFp y.cls ix ts k y.name (.object C)) (k9 : ∀ h1, zS D z y cc nL rt hh d h1 (pc + 3) L st (K h1)) : zS D z y cc nL rt hh d h pc L (va_rf x :: va_rf r :: st) (zpF h ts k r (va_rf x) K) := s_put hd hF (by cases x <;> rfl) (by cases x <;> rfl) k9
theorem s_putA {ix k : Nat} {ts : List Nat} {r x : Option Nat} {C : FieldType} {K : zH → zO} (hd : decode cc pc = .ok (.putfield ix, 3)) (hF : zFp y.cls ix ts k y.name (.array C)) (k9 : ∀ h1, zS D z y cc nL rt hh d h1 (pc + 3) L st (K h1)) : zS D z y cc nL rt hh d h pc L (va_rf x :: va_rf r :: st) (zpF h ts k r (va_rf x) K) := s_put hd hF (by cases x <;> rfl) (by cases x <;> rfl) k9
theorem s_putN {ix k : Nat} {ts : List Nat} {r : Option Nat} {v : Value} {ty : FieldType} {K : zH → zO} (hd : decode cc pc = .ok (.putfield ix, 3)) (hF : zFp y.cls ix ts k y.name ty) (k9 : ∀ h1, zS D z y cc nL rt hh d h1 (pc + 3) L st (K h1)) : zS D z y cc nL rt hh d h pc L (v :: va_rf r :: st) (zpN h ts k r ty v K) := by
  unfold zpN
  refine zS_ite (fun hc => ?_) (fun _ => zS_none)
  unfold zok at hc
  simp only [Bool.and_eq_true, decide_eq_true_eq] at hc
  exact s_put hd hF hc.1 hc.2 k9
/-! arrays -/
theorem zslot {cell : Cell} {vs : List Value} {j : Nat} {v : Value} (h : cell.slots.toList = vs) (hv : vs[j]? = some v) : cell.slots[j]? = some v := by
  rw [← Array.getElem?_toList, h]; exact hv
theorem zsize {cell : Cell} {vs : List Value} (h : cell.slots.toList = vs) : cell.slots.size = vs.length := by rw [← h, Array.length_toList]
theorem zsetl {cell : Cell} {vs : List Value} (h : cell.slots.toList = vs) (j : Nat) (v : Value) : (cell.setSlot j v).slots.toList = vs.set j v := by
  show (cell.slots.setIfInBounds j v).toList = _
  rw [Array.toList_setIfInBounds, h]
/-- an array of the world -/
theorem zarr {s : State} {H : Heap} {a : Nat} {e : zEnt} {ty : FieldType} (P : zHp D z h s H) (hm : zm h a = some e) (hT : zta e.1 = some ty) : ∃ cell : Cell, H[a]? = some cell ∧ cell.vm ≠ .unknown ∧ cell.vm.isStatics = false ∧ (e.2.1 = true → cell.vm = .none ∧ z ≤ a) ∧ s.isArrayOf cell ty ∧ cell.slots.toList = e.2.2 ∧ (e.2.1 = true → cell.cls = D.1 e.1) := by
  obtain ⟨cell, hc, hu, hs, hfr, hkind⟩ := P.2.2.1 a e hm
  rcases hkind with ⟨q2, hq2, -⟩ | ⟨ty2, hty2, h3, h4, h5⟩ | ⟨hla, -⟩
  · exact absurd (zcl_ta hq2) (by rw [hT]; exact fun e => nomatch e)
  · cases hT.symm.trans hty2
    exact ⟨cell, hc, hu, hs, hfr, h3, h4, h5⟩
  · exact absurd (zla_ta hla) (by rw [hT]; exact fun e => nomatch e)
theorem zstored {s : State} {H1 : Heap} {a : Nat} {e : zEnt} {ty : FieldType} {cell : Cell} {j : Nat} {v : Value} (hT : zta e.1 = some ty) (hu : cell.vm ≠ .unknown) (hs : cell.vm.isStatics = false) (hfr : cell.vm = .none ∧ z ≤ a) (h3 : s.isArrayOf cell ty) (h4 : cell.slots.toList = e.2.2) (h5 : cell.cls = D.1 e.1) (e1 : H1[a]? = some (cell.setSlot j v)) : zat D z s a (e.1, true, e.2.2.set j v) H1 :=
  ⟨_, e1, hu, hs, fun _ => hfr, Or.inr (Or.inl ⟨ty, hT, h3, zsetl h4 j v, fun _ => h5⟩)⟩
theorem s_alen {ts : List Nat} {r : Option Nat} {K : Int32 → zO} (hd : decode cc pc = .ok (.arraylength, 1)) (hT : ∀ t ∈ ts, ∃ ty, zta t = some ty) (k9 : ∀ x, zS D z y cc nL rt hh d h (pc + 1) L (.int x :: st) (K x)) : zS D z y cc nL rt hh d h pc L (va_rf r :: st) (zaN h ts r K) := by
  unfold zaN
  cases he : zob h ts r with
  | none => exact zS_none
  | some e =>
    obtain ⟨a, rfl, hm, ht⟩ := zob_some he
    obtain ⟨ty, hty⟩ := hT e.1 ht
    refine zS_go (fun p l e0 R s m args below meth c H locs cells slots Q ls C K P S hl k => ?_) (k9 _)
    obtain ⟨cell, hc, hu, hs, hfr, h3, h4, h5⟩ := zarr P hm hty
    exact W.alen C.hx C.hb hc h3 (by rw [zsize h4]) rfl rfl hd (k ls hl)
theorem s_iald {ts : List Nat} {r : Option Nat} {i : Int32} {K : Int32 → zO} (hd : decode cc pc = .ok (.iaload, 1)) (hT : ∀ t ∈ ts, zta t = some .int) (k9 : ∀ x, zS D z y cc nL rt hh d h (pc + 1) L (.int x :: st) (K x)) : zS D z y cc nL rt hh d h pc L (.int i :: va_rf r :: st) (zaI h ts r i K) := by
  unfold zaI
  cases hz : zvI (zaV h ts r i) with
  | none => exact zS_none
  | some x =>
    have hv := zvI_some hz
    unfold zaV at hv
    cases he : zob h ts r with
    | none => rw [he] at hv; cases hv
    | some e =>
      rw [he] at hv
      obtain ⟨a, rfl, hm, ht⟩ := zob_some he
      replace hv : (zix i e.2.2.length).bind (fun j => e.2.2[j]?) = some (.int x) := hv
      cases hj : zix i e.2.2.length with
      | none => rw [hj] at hv; cases hv
      | some j =>
        rw [hj] at hv
        obtain ⟨hin, rfl⟩ := zix_some hj
        refine zS_go (fun p l e0 R s m args below meth c H locs cells slots Q ls C K P S hl k => ?_) (k9 x)
        obtain ⟨cell, hc, hu, hs, hfr, h3, h4, h5⟩ := zarr P hm (hT e.1 ht)
        exact W.iald C.hx C.hb hc h3 hu (by rw [zsize h4]; exact hin) (zslot h4 hv) rfl rfl hd (k ls hl)
theorem s_lald {ts : List Nat} {r : Option Nat} {i : Int32} {K : Int64 → zO} (hd : decode cc pc = .ok (.laload, 1)) (hT : ∀ t ∈ ts, zta t = some .long) (k9 : ∀ x, zS D z y cc nL rt hh d h (pc + 1) L (.long x :: st) (K x)) : zS D z y cc nL rt hh d h pc L (.int i :: va_rf r :: st) (zaL h ts r i K) := by
  unfold zaL
  cases hz : zvL (zaV h ts r i) with
  | none => exact zS_none
  | some x =>
    have hv := zvL_some hz
    unfold zaV at hv
    cases he : zob h ts r with
    | none => rw [he] at hv; cases hv
    | some e =>
      rw [he] at hv
      obtain ⟨a, rfl, hm, ht⟩ := zob_some he
      replace hv : (zix i e.2.2.length).bind (fun j => e.2.2[j]?) = some (.long x) := hv
      cases hj : zix i e.2.2.length with
      | none => rw [hj] at hv; cases hv
      | some j =>
        rw [hj] at hv
        obtain ⟨hin, rfl⟩ := zix_some hj
        refine zS_go (fun p l e0 R s m args below meth c H locs cells slots Q ls C K P S hl k => ?_) (k9 x)
        obtain ⟨cell, hc, hu, hs, hfr, h3, h4, h5⟩ := zarr P hm (hT e.1 ht)
        exact W.lald C.hx C.hb hc h3 hu (by rw [zsize h4]; exact hin) (zslot h4 hv) rfl rfl hd (k ls hl)
theorem s_dald {ts : List Nat} {r : Option Nat} {i : Int32} {K : UInt64 → zO} (hd : decode cc pc = .ok (.daload, 1)) (hT : ∀ t ∈ ts, zta t = some .double) (k9 : ∀ x, zS D z y cc nL rt hh d h (pc + 1) L (.double x :: st) (K x)) : zS D z y cc nL rt hh d h pc L (.int i :: va_rf r :: st) (zaD h ts r i K) := by
  unfold zaD
  cases hz : zvD (zaV h ts r i) with
  | none => exact zS_none
  | some x =>
    have hv := zvD_some hz
    unfold zaV at hv
    cases he : zob h ts r with
    | none => rw [he] at hv; cases hv
    | some e =>
      rw [he] at hv
      obtain ⟨a, rfl, hm, ht⟩ := zob_some he
      replace hv : (zix i e.2.2.length).bind (fun j => e.2.2[j]?) = some (.double x) := hv
      cases hj : zix i e.2.2.length with
      | none => rw [hj] at hv; cases hv
      | some j =>
        rw [hj] at hv
        obtain ⟨hin, rfl⟩ := zix_some hj
        refine zS_go (fun p l e0 R s m args below meth c H locs cells slots Q ls C K P S hl k => ?_) (k9 x)
        obtain ⟨cell, hc, hu, hs, hfr, h3, h4, h5⟩ := zarr P hm (hT e.1 ht)
        exact W.dald C.hx C.hb hc h3 hu (by rw [zsize h4]; exact hin) (zslot h4 hv) rfl rfl hd (k ls hl)
theorem s_bald {ts : List Nat} {r : Option Nat} {i : Int32} {K : Int32 → zO} (hd : decode cc pc = .ok (.baload, 1)) (hT : ∀ t ∈ ts, zta t = some .byte) (k9 : ∀ x, zS D z y cc nL rt hh d h (pc + 1) L (.int x :: st) (K x)) : zS D z y cc nL rt hh d h pc L (.int i :: va_rf r :: st) (zaI h ts r i K) := by
  unfold zaI
  cases hz : zvI (zaV h ts r i) with
  | none => exact zS_none
  | some x =>
    have hv := zvI_some hz
    unfold zaV at hv
    cases he : zob h ts r with
    | none => rw [he] at hv; cases hv
    | some e =>
      rw [he] at hv
      obtain ⟨a, rfl, hm, ht⟩ := zob_some he
      replace hv : (zix i e.2.2.length).bind (fun j => e.2.2[j]?) = some (.int x) := hv
      cases hj : zix i e.2.2.length with
      | none => rw [hj] at hv; cases hv
      | some j =>
        rw [hj] at hv
        obtain ⟨hin, rfl⟩ := zix_some hj
        refine zS_go (fun p l e0 R s m args below meth c H locs cells slots Q ls C K P S hl k => ?_) (k9 x)
        obtain ⟨cell, hc, hu, hs, hfr, h3, h4, h5⟩ := zarr P hm (hT e.1 ht)
        exact W.bald C.hx C.hb hc h3 hu (by rw [zsize h4]; exact hin) (zslot h4 hv) rfl rfl hd (k ls hl)
theorem s_zald {ts : List Nat} {r : Option Nat} {i : Int32} {K : Int32 → zO} (hd : decode cc pc = .ok (.baload, 1)) (hT : ∀ t ∈ ts, zta t = some .boolean) (k9 : ∀ x, zS D z y cc nL rt hh d h (pc + 1) L (.int x :: st) (K x)) : zS D z y cc nL rt hh d h pc L (.int i :: va_rf r :: st) (zaI h ts r i K) := by
  unfold zaI
  cases hz : zvI (zaV h ts r i) with
  | none => exact zS_none
  | some x =>
    have hv := zvI_some hz
    unfold zaV at hv
    cases he : zob h ts r with
    | none => rw [he] at hv; cases hv
    | some e =>
      rw [he] at hv
      obtain ⟨a, rfl, hm, ht⟩ := zob_some he
      replace hv : (zix i e.2.2.length).bind (fun j => e.2.2[j]?) = some (.int x) := hv
      cases hj : zix i e.2.2.length with
      | none => rw [hj] at hv; cases hv
      | some j =>
        rw [hj] at hv
        obtain ⟨hin, rfl⟩ := zix_some hj
        refine zS_go (fun p l e0 R s m args below meth c H locs cells slots Q ls C K P S hl k => ?_) (k9 x)
        obtain ⟨cell, hc, hu, hs, hfr, h3, h4, h5⟩ := zarr P hm (hT e.1 ht)
        exact W.zald C.hx C.hb hc h3 hu (by rw [zsize h4]; exact hin) (zslot h4 hv) rfl rfl hd (k ls hl)
theorem s_cald {ts : List Nat} {r : Option Nat} {i : Int32} {K : Int32 → zO} (hd : decode cc pc = .ok (.caload, 1)) (hT : ∀ t ∈ ts, zta t = some .char) (k9 : ∀ x, zS D z y cc nL rt hh d h (pc + 1) L (.int x :: st) (K x)) : zS D z y cc nL rt hh d h pc L (.int i :: va_rf r :: st) (zaI h ts r i K) := by
  unfold zaI
  cases hz : zvI (zaV h ts r i) with
  | none => exact zS_none
  | some x =>
    have hv := zvI_some hz
    unfold zaV at hv
    cases he : zob h ts r with
    | none => rw [he] at hv; cases hv
    | some e =>
      rw [he] at hv
      obtain ⟨a, rfl, hm, ht⟩ := zob_some he
      replace hv : (zix i e.2.2.length).bind (fun j => e.2.2[j]?) = some (.int x) := hv
      cases hj : zix i e.2.2.length with
      | none => rw [hj] at hv; cases hv
      | some j =>
        rw [hj] at hv
        obtain ⟨hin, rfl⟩ := zix_some hj
        refine zS_go (fun p l e0 R s m args below meth c H locs cells slots Q ls C K P S hl k => ?_) (k9 x)
        obtain ⟨cell, hc, hu, hs, hfr, h3, h4, h5⟩ := zarr P hm (hT e.1 ht)
        exact W.cald C.hx C.hb hc h3 hu (by rw [zsize h4]; exact hin) (zslot h4 hv) rfl rfl hd (k ls hl)
theorem s_aald {ts : List Nat} {r : Option Nat} {i : Int32} {K : Option Nat → zO} (hd : decode cc pc = .ok (.aaload, 1)) (hT : ∀ t ∈ ts, ∃ ty : FieldType, zta t = some ty ∧ ty.isReference = true) (k9 : ∀ x, zS D z y cc nL rt hh d h (pc + 1) L (va_rf x :: st) (K x)) : zS D z y cc nL rt hh d h pc L (.int i :: va_rf r :: st) (zaR h ts r i K) := by
  unfold zaR
  cases hz : zvR (zaV h ts r i) with
  | none => exact zS_none
  | some x =>
    have hv := zvR_some hz
    unfold zaV at hv
    cases he : zob h ts r with
    | none => rw [he] at hv; cases hv
    | some e =>
      rw [he] at hv
      obtain ⟨a, rfl, hm, ht⟩ := zob_some he
      replace hv : (zix i e.2.2.length).bind (fun j => e.2.2[j]?) = some (va_rf x) := hv
      cases hj : zix i e.2.2.length with
      | none => rw [hj] at hv; cases hv
      | some j =>
        rw [hj] at hv
        obtain ⟨hin, rfl⟩ := zix_some hj
        obtain ⟨ty, hty, href⟩ := hT e.1 ht
        refine zS_go (fun p l e0 R s m args below meth c H locs cells slots Q ls C K P S hl k => ?_) (k9 x)
        obtain ⟨cell, hc, hu, hs, hfr, h3, h4, h5⟩ := zarr P hm hty
        exact W.aald C.hx C.hb hc h3 href hu (by rw [zsize h4]; exact hin) (zslot h4 hv) rfl rfl hd (k ls hl)
theorem s_iast {ts : List Nat} {r : Option Nat} {i : Int32} {x : Int32} {K : zH → zO} (hd : decode cc pc = .ok (.iastore, 1)) (hT : ∀ t ∈ ts, zta t = some .int) (k9 : ∀ h1, zS D z y cc nL rt hh d h1 (pc + 1) L st (K h1)) : zS D z y cc nL rt hh d h pc L (.int x :: .int i :: va_rf r :: st) (zaS h ts r i (.int x) K) := by
  unfold zaS
  cases he : zob h ts r with
  | none => cases r <;> exact zS_none
  | some e =>
    obtain ⟨a, rfl, hm, ht⟩ := zob_some he
    dsimp only
    cases hj : zix i e.2.2.length with
    | none => exact zS_none
    | some j =>
      dsimp only
      obtain ⟨hin, rfl⟩ := zix_some hj
      refine zS_ite (fun hfr0 => ?_) (fun _ => zS_none)
      refine zS_goP (fun _ => trivial) (fun p l e0 R s m args below meth c H locs cells slots Q ls C K P S hl kk => ?_) (k9 _)
      obtain ⟨cell, hc, hu, hs, hfr, h3, h4, h5⟩ := zarr P hm (hT e.1 ht)
      exact W.iast C.hx C.hb hc h3 hu (by rw [zsize h4]; exact hin) rfl rfl hd fun H1 e1 e2 e3 => kk H1 _ e2 e3 (hfr hfr0).2 (zstored (hT e.1 ht) hu hs (hfr hfr0) h3 h4 (h5 hfr0) e1)
theorem s_last {ts : List Nat} {r : Option Nat} {i : Int32} {x : Int64} {K : zH → zO} (hd : decode cc pc = .ok (.lastore, 1)) (hT : ∀ t ∈ ts, zta t = some .long) (k9 : ∀ h1, zS D z y cc nL rt hh d h1 (pc + 1) L st (K h1)) : zS D z y cc nL rt hh d h pc L (.long x :: .int i :: va_rf r :: st) (zaS h ts r i (.long x) K) := by
  unfold zaS
  cases he : zob h ts r with
  | none => cases r <;> exact zS_none
  | some e =>
    obtain ⟨a, rfl, hm, ht⟩ := zob_some he
    dsimp only
    cases hj : zix i e.2.2.length with
    | none => exact zS_none
    | some j =>
      dsimp only
      obtain ⟨hin, rfl⟩ := zix_some hj
      refine zS_ite (fun hfr0 => ?_) (fun _ => zS_none)
      refine zS_goP (fun _ => trivial) (fun p l e0 R s m args below meth c H locs cells slots Q ls C K P S hl kk => ?_) (k9 _)
      obtain ⟨cell, hc, hu, hs, hfr, h3, h4, h5⟩ := zarr P hm (hT e.1 ht)
      exact W.last C.hx C.hb hc h3 hu (by rw [zsize h4]; exact hin) rfl rfl hd fun H1 e1 e2 e3 => kk H1 _ e2 e3 (hfr hfr0).2 (zstored (hT e.1 ht) hu hs (hfr hfr0) h3 h4 (h5 hfr0) e1)
theorem s_dast {ts : List Nat} {r : Option Nat} {i : Int32} {x : UInt64} {K : zH → zO} (hd : decode cc pc = .ok (.dastore, 1)) (hT : ∀ t ∈ ts, zta t = some .double) (k9 : ∀ h1, zS D z y cc nL rt hh d h1 (pc + 1) L st (K h1)) : zS D z y cc nL rt hh d h pc L (.double x :: .int i :: va_rf r :: st) (zaS h ts r i (.double x) K) := by
  unfold zaS
  cases he : zob h ts r with
  | none => cases r <;> exact zS_none
  | some e =>
    obtain ⟨a, rfl, hm, ht⟩ := zob_some he
    dsimp only
    cases hj : zix i e.2.2.length with
    | none => exact zS_none
    | some j =>
      dsimp only
      obtain ⟨hin, rfl⟩ := zix_some hj
      refine zS_ite (fun hfr0 => ?_) (fun _ => zS_none)
      refine zS_goP (fun _ => trivial) (fun p l e0 R s m args below meth c H locs cells slots Q ls C K P S hl kk => ?_) (k9 _)
      obtain ⟨cell, hc, hu, hs, hfr, h3, h4, h5⟩ := zarr P hm (hT e.1 ht)
      exact W.dast C.hx C.hb hc h3 hu (by rw [zsize h4]; exact hin) rfl rfl hd fun H1 e1 e2 e3 => kk H1 _ e2 e3 (hfr hfr0).2 (zstored (hT e.1 ht) hu hs (hfr hfr0) h3 h4 (h5 hfr0) e1)
theorem s_bast {ts : List Nat} {r : Option Nat} {i : Int32} {x : Int32} {K : zH → zO} (hd : decode cc pc = .ok (.bastore, 1)) (hT : ∀ t ∈ ts, zta t = some .byte) (k9 : ∀ h1, zS D z y cc nL rt hh d h1 (pc + 1) L st (K h1)) : zS D z y cc nL rt hh d h pc L (.int x :: .int i :: va_rf r :: st) (zaS h ts r i (.int x.toInt8.toInt32) K) := by
  unfold zaS
  cases he : zob h ts r with
  | none => cases r <;> exact zS_none
  | some e =>
    obtain ⟨a, rfl, hm, ht⟩ := zob_some he
    dsimp only
    cases hj : zix i e.2.2.length with
    | none => exact zS_none
    | some j =>
      dsimp only
      obtain ⟨hin, rfl⟩ := zix_some hj
      refine zS_ite (fun hfr0 => ?_) (fun _ => zS_none)
      refine zS_goP (fun _ => trivial) (fun p l e0 R s m args below meth c H locs cells slots Q ls C K P S hl kk => ?_) (k9 _)
      obtain ⟨cell, hc, hu, hs, hfr, h3, h4, h5⟩ := zarr P hm (hT e.1 ht)
      exact W.bast C.hx C.hb hc h3 hu (by rw [zsize h4]; exact hin) rfl rfl hd fun H1 e1 e2 e3 => kk H1 _ e2 e3 (hfr hfr0).2 (zstored (hT e.1 ht) hu hs (hfr hfr0) h3 h4 (h5 hfr0) e1)
theorem s_zast {ts : List Nat} {r : Option Nat} {i : Int32} {x : Int32} {K : zH → zO} (hd : decode cc pc = .ok (.bastore, 1)) (hT : ∀ t ∈ ts, zta t = some .boolean) (k9 : ∀ h1, zS D z y cc nL rt hh d h1 (pc + 1) L st (K h1)) : zS D z y cc nL rt hh d h pc L (.int x :: .int i :: va_rf r :: st) (zaS h ts r i (.int (x &&& 1)) K) := by
  unfold zaS
  cases he : zob h ts r with
  | none => cases r <;> exact zS_none
  | some e =>
    obtain ⟨a, rfl, hm, ht⟩ := zob_some he
    dsimp only
    cases hj : zix i e.2.2.length with
    | none => exact zS_none
    | some j =>
      dsimp only
      obtain ⟨hin, rfl⟩ := zix_some hj
      refine zS_ite (fun hfr0 => ?_) (fun _ => zS_none)
      refine zS_goP (fun _ => trivial) (fun p l e0 R s m args below meth c H locs cells slots Q ls C K P S hl kk => ?_) (k9 _)
      obtain ⟨cell, hc, hu, hs, hfr, h3, h4, h5⟩ := zarr P hm (hT e.1 ht)
      exact W.zast C.hx C.hb hc h3 hu (by rw [zsize h4]; exact hin) rfl rfl hd fun H1 e1 e2 e3 => kk H1 _ e2 e3 (hfr hfr0).2 (zstored (hT e.1 ht) hu hs (hfr hfr0) h3 h4 (h5 hfr0) e1)

/-- things of these tags may stand where the class C is asked -/
def zcs (C : String) (us : List Nat) : Prop := ∀ u ∈ us, (∃ q, zcl[u]? = some q ∧ (q.1 = C ∨ Cond.castable q.1 C ∈ lw_tbl)) ∨ (zla u = true ∧ zlf u = C)
theorem zcs_asg {s : State} {H : Heap} {C : String} {us : List Nat} {a : Nat} {e : zEnt} {comp : ClassId} (hU : zcs C us) (K : zK D (zG h) s) (P : zHp D z h s H) (hm : zm h a = some e) (hu : e.1 ∈ us) (hC : s.vm.findClass C = some comp) :
    ∃ (cv : Cell) (kv : Class), H[a]? = some cv ∧ cv.vm.isStatics = false ∧ s.vm.classes[cv.cls]? = some kv ∧ s.vm.assignable cv.cls comp = true := by
  obtain ⟨cell, hc, hk, hs, hfr, hkind⟩ := P.2.2.1 a e hm
  rcases hU e.1 hu with ⟨q, hq, hcase⟩ | ⟨hla, hlf⟩
  · rcases hkind with ⟨q2, hq2, hcls, hlen, hsl⟩ | ⟨ty, hty, -⟩ | ⟨hla, -⟩
    · cases hq.symm.trans hq2
      obtain ⟨hS, hfc, kC, hkC, hkd⟩ := K.1 e.1 _ hq
      refine ⟨cell, kC, hc, hs, by rw [hcls]; exact hkC, ?_⟩
      rw [hcls]
      rcases hcase with h9 | h9
      · subst h9
        cases hC.symm.trans hfc
        exact va_assign ⟨hfc, kC, hkC, hkd⟩
      · obtain ⟨c0, t0, f1, f2, f3⟩ := Cond.castable_spec (va_Nw.use (A := #[]) rfl (K.2.2.1 _ h9 rfl))
        cases hfc.symm.trans f1
        cases hC.symm.trans f2
        exact f3
    · exact absurd (zcl_ta hq) (by rw [hty]; exact fun e => nomatch e)
    · exact absurd (zcl_la hq) (by rw [hla]; exact fun e => nomatch e)
  · rcases hkind with ⟨q2, hq2, -⟩ | ⟨ty, hty, -⟩ | ⟨-, hcls, -⟩
    · exact absurd (zcl_la hq2) (by rw [hla]; exact fun e => nomatch e)
    · exact absurd (zla_ta hla) (by rw [hty]; exact fun e => nomatch e)
    · obtain ⟨kv, h1, comp2, h2, h3⟩ := K.asg e.1 hla
      rw [hlf] at h2
      cases hC.symm.trans h2
      exact ⟨cell, kv, hc, hs, by rw [hcls]; exact h1, by rw [hcls]; exact h3⟩
theorem s_aast {ts us : List Nat} {r v : Option Nat} {i : Int32} {E : String} {K : zH → zO} (hd : decode cc pc = .ok (.aastore, 1)) (hT : ∀ t ∈ ts, zta t = some (.object E) ∧ t < 212) (hU : zcs E us) (k9 : ∀ h1, zS D z y cc nL rt hh d h1 (pc + 1) L st (K h1)) : zS D z y cc nL rt hh d h pc L (va_rf v :: .int i :: va_rf r :: st) (zaQ h ts us r i v K) := by
  unfold zaQ
  refine zS_ite (fun hfit => ?_) (fun _ => zS_none)
  unfold zaS
  cases he : zob h ts r with
  | none => cases r <;> exact zS_none
  | some e =>
    obtain ⟨a, rfl, hm, ht⟩ := zob_some he
    dsimp only
    cases hj : zix i e.2.2.length with
    | none => exact zS_none
    | some j =>
      dsimp only
      obtain ⟨hin, rfl⟩ := zix_some hj
      refine zS_ite (fun hfr0 => ?_) (fun _ => zS_none)
      refine zS_goP (fun _ => trivial) (fun p l e0 R s m args below meth c H locs cells slots Q ls C K P S hl kk => ?_) (k9 _)
      obtain ⟨hty, hlt⟩ := hT e.1 ht
      obtain ⟨cell, hc, hu, hs, hfr, h3, h4, h5⟩ := zarr P hm hty
      cases v with
      | none => exact va_WaastN C.hx C.hb hc h3 hu (by rw [zsize h4]; exact hin) rfl rfl hd fun H1 e1 e2 e3 => kk H1 _ e2 e3 (hfr hfr0).2 (zstored hty hu hs (hfr hfr0) h3 h4 (h5 hfr0) e1)
      | some b =>
        unfold zfit at hfit
        replace hfit : (match zm h b with
          | some e => us.contains e.1
          | none => false) = true := hfit
        cases hb : zm h b with
        | none => rw [hb] at hfit; cases hfit
        | some eb =>
          rw [hb] at hfit
          have hbu : eb.1 ∈ us := by simpa using hfit
          obtain ⟨kA, comp, k1, k2, k3, -⟩ := (K.2.1 e.1 _ hty hlt).2
          obtain ⟨kE, hkE, -⟩ := Vm.findClass_spec k3
          obtain ⟨cv, kv, v1, v2, v3, v4⟩ := zcs_asg hU K P hb hbu k3
          have hnst : ∀ q, cell.vm ≠ .statics q := fun q h9 => by rw [h9] at hs; cases hs
          refine W.aast C.hx C.hb hc hnst hu (by rw [h5 hfr0]; exact k1) k2 rfl hkE ⟨fun q => hin (Or.inl q), ?_⟩ v1 (fun q h9 => by rw [h9] at v2; cases v2) v3 v4 rfl rfl hd fun H1 e1 e2 e3 => kk H1 _ e2 e3 (hfr hfr0).2 (zstored hty hu hs (hfr hfr0) h3 h4 (h5 hfr0) e1)
          rw [zsize h4]
          exact Nat.not_le.mp fun q => hin (Or.inr q)
/-! new things -/
def zFn (own : String) (ix t : Nat) (vs : List Value) : Prop := ∃ (q : vw_C) (tyf : Nat → FieldType), zcl[t]? = some q ∧ Cond.classLink own ix q.1 ∈ lw_all ∧ Cond.instantiable q.1 q.2.2 ∈ lw_all ∧ Cond.initialized q.1 ∈ lw_all ∧ (∀ w ∈ u_ws q.1 q.2.1 q.2.2, w ∈ lw_all) ∧ (∀ j, j < q.2.2 → parseFieldDescriptor (q.2.1 j).2.2.1 = some (tyf j)) ∧ vs = (List.range q.2.2).map (fun j => defaultValue (tyf j))
theorem s_new {ix t : Nat} {vs : List Value} {K : Option Nat → zH → zO} (hd : decode cc pc = .ok (.new ix, 3)) (hF : zFn y.cls ix t vs) (k9 : ∀ r h1, zS D z y cc nL rt hh d h1 (pc + 3) L (va_rf r :: st) (K r h1)) : zS D z y cc nL rt hh d h pc L st (znO h t vs K) := by
  unfold znO
  obtain ⟨q, tyf, hq, hlk, hins, hini, hin, hty, rfl⟩ := hF
  have hlen : ((List.range q.2.2).map (fun j => defaultValue (tyf j))).length = q.2.2 := by rw [List.length_map, List.length_range]
  refine zS_goN (fun p l e0 R s m args below meth c H locs cells slots Q ls C K P S hl hc1 hs1 kk => ?_) (k9 _ _)
  have hKn := K.1 t _ hq
  rw [hlen] at hs1 kk
  refine W.newcK C.hx C.hb C.own (C.ts _ hlk) (C.ts _ hins) (C.ts _ hini) rfl hd hc1 hs1 hKn.2.1 rfl fun H1 kC hkC e1 z1 o1 => ?_
  have hb := u_born tyf C.ts hin hKn hkC e1 hty
  rw [P.1] at kk
  refine kk H1 z1 o1 ?_
  obtain ⟨cell, g1, g2, g3, g4⟩ := hb
  refine ⟨cell, g1, by rw [g3]; exact fun q => (by cases q), by rw [g3]; rfl, fun _ => ⟨g3, P.2.1⟩, Or.inl ⟨q, hq, g2, hlen, fun j hj => ?_⟩⟩
  rw [g4 j hj]
  simp [hj]
theorem s_newa {t b : Nat} {n : Int32} {atype : ArrayType} {ty : FieldType} {dv : Value} {K : Option Nat → zH → zO} (hd : decode cc pc = .ok (.newarray atype, 2)) (hty : newarray.typeOf atype = ty) (hT : zta t = some ty ∧ t < 212) (hw : Cond.arrayClass ty ∈ lw_all) (hb : componentBytes ty = b) (hdv : defaultValue ty = dv)
    (k9 : ∀ r h1, zS D z y cc nL rt hh d h1 (pc + 2) L (va_rf r :: st) (K r h1)) : zS D z y cc nL rt hh d h pc L (.int n :: st) (znA h t b dv n K) := by
  unfold znA
  subst hty
  refine zS_ite (fun _ => zS_none) (fun hn => ?_)
  have hn1 : ¬ n < 0 := fun q => hn (Or.inl q)
  have hn2 : n.toNatClampNeg * b ≤ 536870912 := Nat.not_lt.mp fun q => hn (Or.inr q)
  refine zS_goN (fun p l e0 R s m args below meth c H locs cells slots Q ls C K P S hl hc1 hs1 kk => ?_) (k9 _ _)
  refine va_newaK C.hx C.hb (C.ts _ hw) rfl hd rfl hn1 rfl (by rw [hb]; exact hn2) hc1 hs1 rfl fun H1 cA e1 z1 o1 hAr hNm => ?_
  rw [P.1] at kk
  refine kk H1 z1 o1 ⟨_, e1, fun q => (by cases q), rfl, fun _ => ⟨rfl, P.2.1⟩, Or.inr (Or.inl ⟨_, hT.1, hAr _ _, ?_, fun _ => ?_⟩)⟩
  · rw [← arrV_new, hdv]
    simp
  · show cA = D.1 t
    have h9 := (K.2.1 t _ hT.1 hT.2).2
    have h8 : s.vm.findClass ("[" ++ (newarray.typeOf atype).toString) = some (D.1 t) := by
      cases atype <;> exact h9
    exact Option.some.inj (hNm.symm.trans h8)
theorem s_newq {t ix : Nat} {n : Int32} {E : String} {K : Option Nat → zH → zO} (hd : decode cc pc = .ok (.anewarray ix, 3)) (hT : zta t = some (.object E) ∧ t < 212) (hlk : Cond.classLink y.cls ix E ∈ lw_all) (hov : Cond.arrayOver (.object E) ∈ lw_tbl)
    (k9 : ∀ r h1, zS D z y cc nL rt hh d h1 (pc + 3) L (va_rf r :: st) (K r h1)) : zS D z y cc nL rt hh d h pc L (.int n :: st) (znA h t 4 .null n K) := by
  unfold znA
  refine zS_ite (fun _ => zS_none) (fun hn => ?_)
  have hn1 : ¬ n < 0 := fun q => hn (Or.inl q)
  have hn2 : n.toNatClampNeg * 4 ≤ 536870912 := Nat.not_lt.mp fun q => hn (Or.inr q)
  refine zS_goN (fun p l e0 R s m args below meth c H locs cells slots Q ls C K P S hl hc1 hs1 kk => ?_) (k9 _ _)
  refine W.anew C.hx C.hb C.own (C.ts _ hlk) (va_AO.use (K.2.2.1 _ hov rfl)) rfl hd rfl hn1 hn2 hc1 hs1 fun cA kA comp f1 f2 f3 f4 => ?_
  rw [P.1] at kk
  refine kk _ (by rw [Array.size_push]) (fun q hq => by rw [Array.getElem?_push, if_neg (Nat.ne_of_lt hq)]) ⟨_, by rw [Array.getElem?_push_size], fun q => (by cases q), rfl, fun _ => ⟨rfl, P.2.1⟩, Or.inr (Or.inl ⟨_, hT.1, ⟨fun k h9 => (by cases h9), kA, f2, comp, f3⟩, by simp, fun _ => ?_⟩)⟩
  show cA = D.1 t
  obtain ⟨kA2, comp2, -, -, -, h9⟩ := (K.2.1 t _ hT.1 hT.2).2
  exact Option.some.inj (f1.symm.trans h9)
/-! casts -/
theorem zcs_found {s : State} {C : String} {us : List Nat} {u : Nat} (hU : zcs C us) (hu : u ∈ us) (K : zK D (zG h) s) : ∃ comp, s.vm.findClass C = some comp := by
  rcases hU u hu with ⟨q, hq, h9 | h9⟩ | ⟨hla, hlf⟩
  · exact ⟨_, by rw [← h9]; exact (K.1 u _ hq).2.1⟩
  · obtain ⟨c0, t0, f1, f2, f3⟩ := Cond.castable_spec (va_Nw.use (A := #[]) rfl (K.2.2.1 _ h9 rfl))
    exact ⟨_, f2⟩
  · obtain ⟨kv, h1, comp2, h2, h3⟩ := K.asg u hla
    exact ⟨_, by rw [← hlf]; exact h2⟩
theorem s_cast {ix : Nat} {ts : List Nat} {r : Option Nat} {nm : String} (hd : decode cc pc = .ok (.checkcast ix, 3)) (hlk : Cond.classLink y.cls ix nm ∈ lw_all) (hT : zcs nm ts) (k9 : zS D z y cc nL rt hh d h (pc + 3) L (va_rf r :: st) o) : zS D z y cc nL rt hh d h pc L (va_rf r :: st) (zcast h ts r o) := by
  unfold zcast
  cases r with
  | none => exact zS_go (fun _ _ _ _ _ _ _ _ _ _ _ _ _ _ _ ls C K P S hl k => lv_castN C.hx C.hb hd (k ls hl)) k9
  | some a =>
    dsimp only
    cases he : zob h ts (some a) with
    | none => exact zS_none
    | some e =>
      obtain ⟨a', ha, hm, ht⟩ := zob_some he
      cases ha
      refine zS_go (fun p l e0 R s m args below meth c H locs cells slots Q ls C K P S hl k => ?_) k9
      have hpl : ∃ comp, s.vm.findClass nm = some comp := zcs_found hT ht K
      obtain ⟨comp, hcomp⟩ := hpl
      obtain ⟨cv, kv, v1, v2, v3, v4⟩ := zcs_asg hT K P hm ht hcomp
      intro T hT9 X
      obtain ⟨vm', X', st9⟩ := X.checkcastYes C.hx C.own (C.ts _ hlk) (by rw [hT9]; exact v1) v2 hcomp v4 (g := F0 m pc ls (.ref a :: st)) rfl rfl (by rw [C.hb]; exact hd)
      obtain ⟨t, a1, b1⟩ := k ls hl (T.setVm vm') hT9 X'
      exact ⟨t, st9 t a1, b1⟩
theorem s_castA {ix : Nat} {ts : List Nat} {r : Option Nat} {nm : String} (hd : decode cc pc = .ok (.checkcast ix, 3)) (hlk : Cond.classLink y.cls ix nm ∈ lw_all) (hT : ∀ t ∈ ts, t < 212 ∧ ∃ E, zta t = some (.object E) ∧ "[" ++ (FieldType.object E).toString = nm) (k9 : zS D z y cc nL rt hh d h (pc + 3) L (va_rf r :: st) o) : zS D z y cc nL rt hh d h pc L (va_rf r :: st) (zcastF h ts r o) := by
  unfold zcastF
  cases r with
  | none => exact zS_go (fun _ _ _ _ _ _ _ _ _ _ _ _ _ _ _ ls C K P S hl k => lv_castN C.hx C.hb hd (k ls hl)) k9
  | some a =>
    dsimp only
    cases he : zob h ts (some a) with
    | none => exact zS_none
    | some e =>
      obtain ⟨a', ha, hm, ht⟩ := zob_some he
      cases ha
      dsimp only
      refine zS_ite (fun hfr0 => ?_) (fun _ => zS_none)
      obtain ⟨hlt, E, hty, hnm⟩ := hT e.1 ht
      refine zS_go (fun p l e0 R s m args below meth c H locs cells slots Q ls C K P S hl k => ?_) k9
      obtain ⟨cell, hc, hu, hs, hfr, h3, h4, h5⟩ := zarr P hm hty
      obtain ⟨kA, comp, k1, k2, k3, k4⟩ := (K.2.1 e.1 _ hty hlt).2
      rw [hnm] at k4
      intro T hT9 X
      obtain ⟨vm', X', st9⟩ := X.checkcastYes C.hx C.own (C.ts _ hlk) (by rw [hT9]; exact hc) hs k4 (by rw [h5 hfr0]; exact va_asg _ _) (g := F0 m pc ls (.ref a :: st)) rfl rfl (by rw [C.hb]; exact hd)
      obtain ⟨t, a1, b1⟩ := k ls hl (T.setVm vm') hT9 X'
      exact ⟨t, st9 t a1, b1⟩
theorem s_inst {ix : Nat} {ts ns : List Nat} {r : Option Nat} {nm : String} {K : Int32 → zO} (hd : decode cc pc = .ok (.instanceof ix, 3)) (hlk : Cond.classLink y.cls ix nm ∈ lw_all) (hT : ∀ t ∈ ts, ∃ q, zcl[t]? = some q ∧ (q.1 = nm ∨ Cond.castable q.1 nm ∈ lw_tbl)) (hN : ∀ t ∈ ns, ∃ q, zcl[t]? = some q ∧ (q.1, nm) ∈ znc)
    (k9 : ∀ x, zS D z y cc nL rt hh d h (pc + 3) L (.int x :: st) (K x)) : zS D z y cc nL rt hh d h pc L (va_rf r :: st) (zinst h ts ns r K) := by
  unfold zinst
  cases r with
  | none => exact zS_go (fun _ _ _ _ _ _ _ _ _ _ _ _ _ _ _ ls C K P S hl k => lv_instN C.hx C.hb hd (k ls hl)) (k9 0)
  | some a =>
    dsimp only
    cases hm : zm h a with
    | none => exact zS_none
    | some e =>
      dsimp only
      refine zS_ite (fun hy => ?_) (fun _ => zS_ite (fun hy => ?_) (fun _ => zS_none))
      · obtain ⟨q, hq, hc⟩ := hT e.1 (by simpa using hy)
        refine zS_go (fun p l e0 R s m args below meth c H locs cells slots Q ls C K P S hl k => ?_) (k9 1)
        obtain ⟨cell, g1, g2, g3⟩ := zrecv K P hm hq
        rcases hc with hc | hc
        · exact va_instS C.hx C.hb C.own (C.ts _ hlk) (nm := nm) (by rw [← hc]; exact (K.1 e.1 _ hq).2) ⟨cell, g1, g2, by rw [← hc]; exact g3⟩ hd (k ls hl)
        · exact va_instY C.hx C.hb C.own (C.ts _ hlk) (K.2.2.1 _ hc rfl) ⟨cell, g1, g2, g3⟩ hd (k ls hl)
      · obtain ⟨q, hq, hc⟩ := hN e.1 (by simpa using hy)
        refine zS_go (fun p l e0 R s m args below meth c H locs cells slots Q ls C K P S hl k => ?_) (k9 0)
        exact va_instNo C.hx C.hb C.own (C.ts _ hlk) (K.2.2.2.2.1 _ hc) (zrecv K P hm hq) hd (k ls hl)
/-! statics and text -/
theorem s_gets {ix : Nat} {q : String × String × String × (Int32 ⊕ Nat ⊕ Nat)} (hd : decode cc pc = .ok (.getstatic ix, 3)) (hq : q ∈ zstat) (hlk : Cond.fieldLink y.cls ix q.1 q.2.1 q.2.2.1 ∈ lw_all) (k9 : zS D z y cc nL rt hh d h (pc + 3) L (zsv h q.2.2.2 :: st) o) : zS D z y cc nL rt hh d h pc L st o :=
  zS_go (fun p l e0 R s m args below meth c H locs cells slots Q ls C K P S hl k => by
    obtain ⟨cf, kf, fi, f, a, cell, w1, w2, w3, w4, w5, w6, w7, w8⟩ := P.2.2.2.1 q hq
    exact W.gets C.hx C.hb C.own (C.ts _ hlk) w1 w2 w3 w4 w5 (fun e => by rw [e] at w6; cases w6) w7 rfl hd (k ls hl)) k9
theorem s_ldcS {ix i : Nat} {tx : String} (hd : decode cc pc = .ok (.ldc ix, 2)) (hq : (y.cls, ix, tx, i) ∈ zstr) (k9 : zS D z y cc nL rt hh d h (pc + 2) L (va_rf (some (zG h i)) :: st) o) : zS D z y cc nL rt hh d h pc L st o :=
  zS_go (fun _ _ _ _ s _ _ _ _ _ H _ _ _ _ ls C K P S hl k => va_ldcS C.hx C.hb C.own (K.2.2.2.1 _ hq) hd (k ls hl)) k9
/-! ends -/
theorem zW_mono {p : Program} {l : Launch} {e : Env} {R : Room} {s : State} {m : MethodId} {args : Array Value} {below : List Frame} {meth : Method} {c : Code} {H : Heap} {locs : List Loc} {cells slots : Nat} {Q Q' : State → Prop} {g : JFrame} (hq : ∀ t, Q t → Q' t) (k : W p l e R s m args below meth c H locs cells slots Q g) : W p l e R s m args below meth c H locs cells slots Q' g := by
  intro T hT X
  obtain ⟨t, a, b⟩ := k T hT X
  exact ⟨t, a, hq t b⟩
theorem z_ret {v : Option Value}
    (go : ∀ (p : Program) (l : Launch) (e : Env) (R : Room) (s : State) (m : MethodId) (args : Array Value) (below : List Frame) (meth : Method) (c : Code) (H : Heap) (locs : List Loc) (cells slots : Nat) (ls : Array Slot) (Qc : Array Value → State → Outcome → State → Prop) (free : Addr → Prop),
      zCx y cc nL rt hh d p l R s m args meth c → (∀ t : State, t.heap = H → s.WarmedH t.vm → Qc args s (.returned v) t) → (∀ q ∈ locs, free q.base) → W p l e R s m args below meth c H locs cells slots (MQ below Qc args s cells slots free) (F0 m pc ls st)) :
    zS D z y cc nL rt hh d h pc L st (some (.inl v, h)) := by
  intro r h' e
  cases e
  refine ⟨zle_refl h, fun p l e R s m args below meth c H locs u0 ls C K P S hl h1 h2 h3 => ?_⟩
  refine zW_mono ?_ (go p l e R s m args below meth c H locs _ _ ls (fun _ _ o t => o = .returned v ∧ zHp D z h s t.heap) (fun q => z ≤ q) C (fun t ht hW => ⟨rfl, by rw [ht]; exact P⟩) S.2.2)
  intro t ⟨o, g1, g2, ⟨g3, g4⟩, L9, g5, g6⟩
  exact ⟨o, g1, g2, g4, Or.inl ⟨v, L9, rfl, g3, g5, g6⟩⟩
theorem s_iret {x : Int32} (hd : decode cc pc = .ok (.ireturn, 1)) (hr : rt = some .int) : zS D z y cc nL rt hh d h pc L [.int x] (zrI x h) :=
  z_ret fun _ _ _ _ _ _ _ _ _ _ _ _ _ _ _ _ _ C hq hf => W.iret C.hx C.hb (by rw [C.ret]; exact hr) hq hf hd C.lk
theorem s_nret {x : Int32} {ty : FieldType} (hd : decode cc pc = .ok (.ireturn, 1)) (hr : rt = some ty) : zS D z y cc nL rt hh d h pc L [.int x] (zrN ty x h) := by
  unfold zrN
  exact zS_ite (fun hn => z_ret fun _ _ _ _ _ _ _ _ _ _ _ _ _ _ _ _ _ C hq hf => W.zret C.hx C.hb (by rw [C.ret]; exact hr) hn hq hf hd C.lk) (fun _ => zS_none)
theorem s_vret (hd : decode cc pc = .ok (.return_, 1)) (hr : rt = none) : zS D z y cc nL rt hh d h pc L [] (zrV h) :=
  z_ret fun _ _ _ _ _ _ _ _ _ _ _ _ _ _ _ _ _ C hq hf => W.vret C.hx C.hb (by rw [C.ret]; exact hr) hq hf hd C.lk
theorem s_lret {x : Int64} (hd : decode cc pc = .ok (.lreturn, 1)) (hr : rt = some .long) : zS D z y cc nL rt hh d h pc L [.long x] (zrL x h) :=
  z_ret fun _ _ _ _ _ _ _ _ _ _ _ _ _ _ _ _ _ C hq hf => W.lret C.hx C.hb (by rw [C.ret]; exact hr) hq hf hd C.lk
theorem s_fret {x : UInt32} (hd : decode cc pc = .ok (.freturn, 1)) (hr : rt = some .float) : zS D z y cc nL rt hh d h pc L [.float x] (zrF x h) :=
  z_ret fun _ _ _ _ _ _ _ _ _ _ _ _ _ _ _ _ _ C hq hf => W.fret C.hx C.hb (by rw [C.ret]; exact hr) hq hf hd C.lk
theorem s_dret {x : UInt64} (hd : decode cc pc = .ok (.dreturn, 1)) (hr : rt = some .double) : zS D z y cc nL rt hh d h pc L [.double x] (zrD x h) :=
  z_ret fun _ _ _ _ _ _ _ _ _ _ _ _ _ _ _ _ _ C hq hf => W.dret C.hx C.hb (by rw [C.ret]; exact hr) hq hf hd C.lk
theorem s_aret {x : Option Nat} {ty : FieldType} (hd : decode cc pc = .ok (.areturn, 1)) (hr : rt = some ty) (hty : (∃ n, ty = .object n) ∨ ∃ t, ty = .array t) : zS D z y cc nL rt hh d h pc L [va_rf x] (zrR x h) :=
  z_ret fun _ _ _ _ _ _ _ _ _ _ _ _ _ _ _ _ _ C hq hf => W.aret C.hx C.hb (by rw [C.ret]; exact hr) hty (by cases x with | none => exact Or.inl rfl | some a => exact Or.inr ⟨a, rfl⟩) hq hf hd C.lk
/-! what is thrown -/
theorem s_athrow {r : Option Nat} {ts : List Nat} {X : Nat × Nat → zH → zO} (hd : decode cc pc = .ok (.athrow, 1)) (hT : (ts.all fun t => (zcl[t]?).isSome) = true) (k9 : ∀ x, zT D z y cc nL rt hh d h pc L x (X x h)) : zS D z y cc nL rt hh d h pc L (va_rf r :: st) (zth h ts r X) := by
  unfold zth
  cases r with
  | none => exact zS_none
  | some a =>
    dsimp only
    cases hm : zm h a with
    | none => exact zS_none
    | some e =>
      obtain ⟨t, fr, vs⟩ := e
      cases fr with
      | false => exact zS_none
      | true =>
        dsimp only
        refine zS_ite (fun htm => ?_) (fun _ => zS_none)
        obtain ⟨q, hq⟩ := Option.isSome_iff_exists.mp (List.all_eq_true.mp hT t (by simpa using htm))
        intro r h' e
        obtain ⟨k1, k2⟩ := k9 (t, a) r h' e
        exact ⟨k1, fun p l e R s m args below meth c H locs u0 ls C K P S hl h1 h2 h3 => vx_athrow C.hx C.hb hd (k2 p l e R s m args below meth c H locs u0 ls st vs q C K P S hl hm hq h1 h2 h3)⟩
/-- the rows of a table that don't take a thing of class E thrown at pc -/
def zpass (own : String) (E : String) (pc : Nat) (tb : List ExceptionTableEntry) : Prop := ∀ w ∈ tb, covers w pc = false ∨ (w.catchType ≠ 0 ∧ ∃ nm : String, Cond.classLink own w.catchType nm ∈ lw_all ∧ (E, nm) ∈ znc)
theorem zT_out {x : Nat × Nat} (hp : ∀ q, zcl[x.1]? = some q → zpass y.cls q.1 pc (tableOf hh)) : zT D z y cc nL rt hh d h pc L x (some (.inr x, h)) := by
  intro r h' e9
  cases e9
  refine ⟨zle_refl h, fun p l e R s m args below meth c H locs u0 ls st vs q C K P S hl hm hq h1 h2 h3 => ?_⟩
  intro T hT X
  obtain ⟨cell, g1, g2, g3⟩ := zrecv K P hm hq
  have hvm : cell.vm = .none := by
    obtain ⟨cell2, hc2, -, -, hfr, -⟩ := P.2.2.1 _ _ hm
    cases g1.symm.trans hc2
    exact (hfr rfl).1
  have hpl : e.platform.magicAccessors = ({} : Platform).magicAccessors := by rw [X.admits.platform]
  obtain ⟨vm', hW', X', st9⟩ := X.outThrough C.lk x.2 (g := F0 m pc ls st) rfl rfl rfl (cell := cell) (by rw [hT]; exact g1) (by rw [hvm]; rfl)
    (by obtain ⟨k9, h9, -⟩ := Vm.findClass_spec g3; exact ⟨k9, h9⟩) (fun w hw => by
      rw [C.tab] at hw
      rcases hp q hq w hw with h9 | ⟨hz0, nm, hl1, hn1⟩
      · exact Or.inl h9
      · obtain ⟨c6, hc6, hcl6⟩ := Cond.classLink_spec C.own (C.ts _ hl1) e.platform hpl
        obtain ⟨a8, b8, w1, w2, w3⟩ := K.2.2.2.2.1 _ hn1
        cases Option.some.inj (w1.symm.trans g3)
        cases Option.some.inj (w2.symm.trans hc6)
        exact Or.inr ⟨hz0, _, hcl6, w3⟩)
  obtain ⟨g₀, hfr⟩ := X'.frames_eq
  have hcell9 : ((T.setVm vm').setFrames (.throwing x.2 :: below)).heap[x.2]? = some cell := by
    show T.heap[x.2]? = some cell
    rw [hT]; exact g1
  have hend : Ended ((T.setVm vm').setFrames (.throwing x.2 :: below)) below (.threw x.2) := State.frames_setFrames _ (State.cur_lt_of_frames hfr)
  refine ⟨(T.setVm vm').setFrames (.throwing x.2 :: below), ?_, .threw x.2, X'.here.running, hend, ?_, Or.inr ⟨x, vs, cell, q, locs, rfl, rfl, hm, hq, g3, hcell9, hvm, (X'.ends _).1, (X'.ends _).2, S.2.2⟩⟩
  · rw [X.pushThrowing_eq]
    exact st9
  · show zHp D z h s T.heap
    rw [hT]
    exact P
theorem zT_catch {x : Nat × Nat} {q : vw_C} {nm : String} {hp : Nat} (pre : List (Nat × Nat × Nat × Nat)) (w : Nat × Nat × Nat × Nat) (suf : List (Nat × Nat × Nat × Nat)) (hsplit : hh = pre ++ w :: suf) (hq : zcl[x.1]? = some q)
    (hpass : zpass y.cls q.1 pc (tableOf pre)) (hx : covers ⟨w.1, w.2.1, w.2.2.1, w.2.2.2⟩ pc = true) (h0 : w.2.2.2 ≠ 0) (hlk : Cond.classLink y.cls w.2.2.2 nm ∈ lw_all) (hcast : q.1 = nm ∨ Cond.castable q.1 nm ∈ lw_tbl) (hpc : w.2.2.1 = hp)
    (k9 : zS D z y cc nL rt hh d h hp L [va_rf (some x.2)] o) : zT D z y cc nL rt hh d h pc L x o := by
  intro r h' e9
  obtain ⟨k1, k2⟩ := k9 r h' e9
  refine ⟨k1, fun p l e R s m args below meth c H locs u0 ls st vs q2 C K P S hl hm hq2 h1 h2 h3 => ?_⟩
  cases hq.symm.trans hq2
  intro T hT X
  obtain ⟨cell, g1, g2, g3⟩ := zrecv K P hm hq
  have hpl : e.platform.magicAccessors = ({} : Platform).magicAccessors := by rw [X.admits.platform]
  obtain ⟨c5, hc5, hcl5⟩ := Cond.classLink_spec C.own (C.ts _ hlk) e.platform hpl
  have hasg : s.vm.assignable cell.cls c5 = true := by
    rcases hcast with h9 | h9
    · rw [← h9] at hc5
      cases Option.some.inj (hc5.symm.trans g3)
      exact va_asg _ _
    · obtain ⟨c3, c4, hc3, hc4, hasg⟩ := Cond.castable_spec (va_Nw.use (A := #[]) rfl (K.2.2.1 _ h9 rfl))
      cases Option.some.inj (hc3.symm.trans g3)
      cases Option.some.inj (hc4.symm.trans hc5)
      exact hasg
  have hsp : c.exceptionTable.toList = tableOf pre ++ ⟨w.1, w.2.1, w.2.2.1, w.2.2.2⟩ :: tableOf suf := by
    rw [C.tab, hsplit]
    simp [tableOf]
  obtain ⟨vm', X', st9⟩ := X.thenCaughtThrough x.2 (g := F0 m pc ls st) rfl (Steps.refl _) (by rw [hT]; exact g1) g2 (by obtain ⟨k9, h9, -⟩ := Vm.findClass_spec g3; exact ⟨k9, h9⟩) (tableOf pre) ⟨w.1, w.2.1, w.2.2.1, w.2.2.2⟩ (tableOf suf) hsp
    (fun w hw => by
      rcases hpass w hw with h9 | ⟨hz0, nm, hl1, hn1⟩
      · exact Or.inl h9
      · obtain ⟨c6, hc6, hcl6⟩ := Cond.classLink_spec C.own (C.ts _ hl1) e.platform hpl
        obtain ⟨a8, b8, w1, w2, w3⟩ := K.2.2.2.2.1 _ hn1
        cases Option.some.inj (w1.symm.trans g3)
        cases Option.some.inj (w2.symm.trans hc6)
        exact Or.inr ⟨hz0, _, hcl6, w3⟩) hx (Or.inr ⟨h0, c5, hcl5, hasg⟩)
  subst hpc
  obtain ⟨t, a1, b1⟩ := k2 p l e R s m args below meth c H locs u0 ls C K P S hl h1 h2 h3 (T.setVm vm') hT X'
  exact ⟨t, st9.trans a1, b1⟩
/-- 'finally': any class is caught -/
theorem zT_any {x : Nat × Nat} {hp : Nat} (pre : List (Nat × Nat × Nat × Nat)) (w : Nat × Nat × Nat × Nat) (suf : List (Nat × Nat × Nat × Nat)) (hsplit : hh = pre ++ w :: suf)
    (hpass : ∀ q, zcl[x.1]? = some q → zpass y.cls q.1 pc (tableOf pre)) (hx : covers ⟨w.1, w.2.1, w.2.2.1, w.2.2.2⟩ pc = true) (h0 : w.2.2.2 = 0) (hpc : w.2.2.1 = hp)
    (k9 : zS D z y cc nL rt hh d h hp L [va_rf (some x.2)] o) : zT D z y cc nL rt hh d h pc L x o := by
  intro r h' e9
  obtain ⟨k1, k2⟩ := k9 r h' e9
  refine ⟨k1, fun p l e R s m args below meth c H locs u0 ls st vs q C K P S hl hm hq h1 h2 h3 => ?_⟩
  intro T hT X
  obtain ⟨cell, g1, g2, g3⟩ := zrecv K P hm hq
  have hpl : e.platform.magicAccessors = ({} : Platform).magicAccessors := by rw [X.admits.platform]
  have hsp : c.exceptionTable.toList = tableOf pre ++ ⟨w.1, w.2.1, w.2.2.1, w.2.2.2⟩ :: tableOf suf := by
    rw [C.tab, hsplit]
    simp [tableOf]
  obtain ⟨vm', X', st9⟩ := X.thenCaughtThrough x.2 (g := F0 m pc ls st) rfl (Steps.refl _) (by rw [hT]; exact g1) g2 (by obtain ⟨k9, h9, -⟩ := Vm.findClass_spec g3; exact ⟨k9, h9⟩) (tableOf pre) ⟨w.1, w.2.1, w.2.2.1, w.2.2.2⟩ (tableOf suf) hsp
    (fun w hw => by
      rcases hpass q hq w hw with h9 | ⟨hz0, nm, hl1, hn1⟩
      · exact Or.inl h9
      · obtain ⟨c6, hc6, hcl6⟩ := Cond.classLink_spec C.own (C.ts _ hl1) e.platform hpl
        obtain ⟨a8, b8, w1, w2, w3⟩ := K.2.2.2.2.1 _ hn1
        cases Option.some.inj (w1.symm.trans g3)
        cases Option.some.inj (w2.symm.trans hc6)
        exact Or.inr ⟨hz0, _, hcl6, w3⟩) hx (Or.inl h0)
  subst hpc
  obtain ⟨t, a1, b1⟩ := k2 p l e R s m args below meth c H locs u0 ls C K P S hl h1 h2 h3 (T.setVm vm') hT X'
  exact ⟨t, st9.trans a1, b1⟩
/-! calls -/
def zcw (y : MethodName) (cc : ByteArray) (nL : Nat) (rt : Option FieldType) : List (Nat × Nat × Nat × Nat) → Cond
  | [] => .code y cc nL rt
  | q :: t => .codeWith y cc nL rt (q :: t)
def zrm (d : Nat) (h h' : zH) : Room := { frames := d, cells := zsz h' - zsz h, slots := zus h' - zus h, locals := 64 * d }
theorem zcw_spec {y : MethodName} {cc : ByteArray} {nL : Nat} {rt : Option FieldType} {hh : List (Nat × Nat × Nat × Nat)} {args : Array Value} {s : State} {m : MethodId} (hn : s.methodNamed? y = some m) (h : (zcw y cc nL rt hh).before args s = true) :
    ∃ meth c, s.vm.method? m = some meth ∧ meth.code = some c ∧ c.code = cc ∧ c.maxLocals = nL ∧ meth.sig.returnType = rt ∧ meth.locks = false ∧ parseMethodDescriptor y.desc = some meth.sig ∧ c.exceptionTable.toList = tableOf hh := by
  cases hh with
  | nil =>
    obtain ⟨meth, c, h1, h2, h3, h4, h5, h6, h7, h8⟩ := Cond.code_spec hn h
    exact ⟨meth, c, h1, h2, h3, h4, h5, h6, h8, by rw [Array.isEmpty_iff.mp h7]; rfl⟩
  | cons q t =>
    obtain ⟨m9, meth, c, hn9, h1, h2, h3, h4, h5, h6, h7, h8⟩ := Cond.codeWith_spec h
    cases hn.symm.trans hn9
    exact ⟨meth, c, h1, h2, h3, h4, h6, h7, h8, by rw [← h5, table_eq]⟩
end ZROWS
