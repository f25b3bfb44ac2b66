/-! ===== the law over the machine, out of its pure program ===== -/
def R_law : String := "FloatingDockLaw"
def lw_P (b : Addr) (xs : List Int32) (args : Array Value) (s : State) : Prop := args = #[.ref b] ∧ s.IntsAt b xs ∧ xs.length ≤ 96 ∧ (Jvm.Cond.and given_1 narrow_1).before args s = true
def lw_Q (_ : Array Value) (s : State) (o : Outcome) (t : State) : Prop := o = .returned (some (.int 1)) ∧ Framed s o t [] 1200144 5496058
def lw_Z (below : List Frame) (a : Array Value) (s : State) : State → Prop := fun t => ∃ o, t.status = .running ∧ Ended t below o ∧ lw_Q a s o t
/-- what holds at the law's entry (as the skeleton has it, with the method's name and its empty table) -/
def lw_At (p : Program) (s : State) (m : MethodId) (meth : Method) (c : Code) (b L : Nat) (xs : Nat → Int32) : Prop :=
  p.tables.exec = Jvm.exec ∧ c.code = code ∧ meth.sig.returnType = ret ∧ c.maxLocals = 10 ∧ s.vm.findClass R_law = some m.cls ∧ (∀ w ∈ lw_tbl, w.before #[Value.ref b] s = true) ∧ va_X b L xs s s.heap ∧ b < s.heap.size ∧ meth.locks = false ∧ (Jvm.Cond.and given_1 narrow_1).before #[Value.ref b] s = true ∧
  s.methodNamed? x = some m ∧ meth.name = x.name ∧ c.exceptionTable.toList = []
/-- what is left: the law's pure program ends in true, within the room -/
def zLaw (o : zO) (h0 : zH) : Prop := ∃ h1 : zH, o = some (.inl (some (.int 1)), h1) ∧ zsz h1 ≤ zsz h0 + 1200144 ∧ zus h1 ≤ zus h0 + 5496058
theorem zwhole (HP : ∀ (b L : Nat) (xs : Nat → Int32) (h0 : zH), L ≤ 96 → zus h0 = 0 → zInit b L xs h0 → zLaw (f_L_law (some b) h0) h0)
    {p : Program} {e : Env} {s : State} {m : MethodId} {below : List Frame} {meth : Method} {c : Code} (l : Launch) (hflags : l.flags = flags0) {b L : Nat} {xs : Nat → Int32} (hL : L ≤ 96) (C0 : lw_At p s m meth c b L xs) : W p l e room_1 s m #[Value.ref b] below meth c s.heap [] 0 0 (lw_Z below #[Value.ref b] s) (entryFrame m ([Value.ref b] : List Value).toArray 10) := by
  obtain ⟨hx, hcode, hret, hml, hown, hts, hX, hb, hlk, hgv, hnm, hname, htab⟩ := C0
  obtain ⟨D, h0, K, P, hus, hI⟩ := zStart hts hX hgv
  obtain ⟨h1, ho, z1, z2⟩ := HP b L xs h0 hL hus hI
  obtain ⟨k1, k2⟩ := w_L_law (D := D) (z := s.heap.size) (some b) h0 _ _ ho
  have htr : l.stackTraces = false := by
    unfold Launch.stackTraces
    rw [hflags]
    decide +kernel
  have C : zCx yL_law cL_law 10 (some .boolean) [] 55 p l room_1 s m #[Value.ref b] meth c :=
    ⟨hx, hcode, hown, fun w hw => hts w (lw_all_tbl hw), hml, hlk, hret, htab, by decide +kernel, by decide +kernel, htr, hname, hnm⟩
  have hcat : (lg_sl ([Value.ref b] : List Value)).length ≤ 10 := by simp [lg_sl, Value.category]
  have k3 := k2 p l e room_1 s m #[Value.ref b] below meth c s.heap [] 0 _ C K P va_S.rf (lv_entry ([Value.ref b] : List Value) (n := 10) hcat) (Nat.zero_le _) (by
    have hp : zsz h0 = s.heap.size := P.1
    have hr : room_1.cells = 1200144 := rfl
    rw [hr]
    omega) (by
    have hr : room_1.slots = 5496058 := rfl
    rw [hr, hus] at *
    omega)
  rw [P.1, hus, Nat.sub_self, Nat.sub_self] at k3
  rw [lg_entry_eq]
  refine zW_mono ?_ k3
  intro t ⟨o, g1, g2, hH, hE⟩
  refine ⟨o, g1, g2, ?_⟩
  rcases hE with ⟨v, Lc, hv, ho2, hfe, hlc⟩ | ⟨x9, vs, ce, q, Lc, hv, -⟩
  · cases hv
    refine ⟨ho2, ⟨_, ho2⟩, ?_⟩
    obtain ⟨-, hW, hsm⟩ := hfe
    exact ⟨hW, hsm.weaken (fun w hw hlt => absurd hlt (Nat.not_lt.mpr (hlc w hw))) (by have hp : zsz h0 = s.heap.size := P.1; omega) (by omega)⟩
  · cases hv
