/-! THROWS: 'throw new X()' -/
section XD
variable {p : Program} {l : Launch} {e : Env} {R : Room} {s : State} {m : MethodId} {args : Array Value} {below : List Frame} {meth : Method} {c : Code} {T : State} {locs : List Loc} {cells slots : Nat}
theorem throw_at (X : Stand p l e R s m args below meth c T locs cells slots) (hexec : p.tables.exec = Jvm.exec) (hfl : l.flags = flags0) (hlk : meth.locks = false) {own cls : String} {names : List String} {ik ic : Nat}
    (hown : s.vm.findClass own = some m.cls) (hcls : Bundle.fit cls = true) (hnames : ∀ n ∈ names, Bundle.fit n = true)
    (hk : (Cond.classLink own ik cls).before args (T.setFrames (.invoking m args :: below)) = true) (hini : (Cond.initialized cls).before args (T.setFrames (.invoking m args :: below)) = true)
    (h : ∀ w ∈ Bundle.ownAtoms0 own ic cls names, w.before args (T.setFrames (.invoking m args :: below)) = true)
    {pc : Nat} {ls : Array Slot} {rest : List Value} (hsize : ls.size = c.maxLocals)
    (d0 : decode c.code pc = .ok (.new ik, 3)) (d3 : decode c.code (pc + 3) = .ok (.dup, 1)) (d4 : decode c.code (pc + 4) = .ok (.invokespecial ic, 3)) (d7 : decode c.code (pc + 7) = .ok (.athrow, 1))
    (hout : ∀ x ∈ c.exceptionTable.toList, covers x (pc + 7) = false)
    (hRf : names.length + 3 < R.frames) (hRl : (rest.map fun v => v.category).sum + (13 * (names.length + 1) + 42) ≤ R.locals) (hRc : cells + 1 ≤ R.cells) (hRs : slots + 6 ≤ R.slots) :
    ∃ (U : State) (a : Addr) (ce : Cell), Steps p.tables e below (T.setTop (F0 m pc ls rest)) U ∧ U.status = .running ∧ Ended U below (.threw a) ∧ FrX s U locs (cells + 1) (slots + 6) ∧ (∀ (q : Addr) (cell : Cell), T.heap[q]? = some cell → U.heap[q]? = some cell) ∧ U.heap[a]? = some ce ∧ T.vm.findClass cls = some ce.cls ∧ ce.vm = .none ∧ T.vm.Alike U.vm := by
  have htr : e.platform.stackTraces = false := Launch.traces_off hfl X.admits
  have X' := st_rebase X (R' := { frames := R.frames, locals := R.locals, cells := 1, slots := 6 }) (Nat.le_refl _) (Nat.le_refl _) hRc hRs
  have hown' : (T.setFrames (.invoking m args :: below)).vm.findClass own = some m.cls := by
    show T.vm.findClass own = some m.cls
    rw [X.warmed.alike.findClass]
    exact hown
  obtain ⟨vm₁, cX, kX, hfX, hkX, -, -, X₁, st1⟩ := X'.newCold hexec (own := own) (C := cls) (index := ik) (n := 6) hown' hk (h (.instantiable cls 6) (by simp [Bundle.ownAtoms0])) hini
    (g := F0 m pc ls rest) rfl d0 (Nat.le_refl _) (Nat.le_refl _)
  generalize hT : (T.setVm vm₁).pushCell { cls := cX, slots := kX.instanceTypes.map defaultValue, vm := .none } = V at X₁ st1
  have hcellA : V.heap[T.heap.size]? = some (freshCell cX kX) := by rw [← hT]; exact State.heap_pushCell_size _ _
  obtain ⟨U, hsteps, hrun, hend, hW, hsame, ce, hce, K⟩ := X₁.ctorThrow0 hexec htr (own := own) (cls := cls) (names := names) (ic := ic) hown' hcls hnames h (fun y hy => by cases hy) hfX hkX hcellA (Nat.le_refl _)
    (g := F0 m (pc + 4) ls (.ref T.heap.size :: .ref T.heap.size :: rest)) rfl hsize rfl rfl (rest := rest) rfl d4 d7 hout hRf (by
      have e0 : (F0 m (pc + 4) ls (.ref T.heap.size :: .ref T.heap.size :: rest)).monitorRoom = 0 := rfl
      have e1 : (Value.ref T.heap.size).category = 1 := rfl
      rw [e0, List.map_cons, List.sum_cons, e1]
      show 2 * 0 + (1 + (rest.map fun v => v.category).sum) + (13 * (names.length + 1) + 41) ≤ R.locals
      omega) hlk
  refine ⟨U, T.heap.size, ce, ?_, hrun, hend, ⟨State.WarmedH.trans (t := T.setFrames (.invoking m args :: below)) X.warmed hW, ?_⟩, fun q cell hq => ?_, hce, K.cls, K.vm, hW.alike⟩
  · refine st1 _ ?_
    show Steps p.tables e below (V.setTop (F0 m (pc + 3) ls (.ref T.heap.size :: rest))) _
    jvm_step X₁.here [X₁.here.top, hexec, d3, Value.category]
    exact hsteps
  · have h1 := State.sameButNew.trans X.same (u := ({ U with vm := s.vm } : State)) (l2 := []) (c2 := 1) (n2 := 6) ?_
    · rw [List.append_nil] at h1
      exact h1
    · obtain ⟨q1, q2⟩ := hsame
      refine ⟨?_, q2⟩
      have q3 := congrArg (fun x : State => x.setVm s.vm) q1
      rw [State.setFrames_setFrames] at q3
      exact q3
  · exact hsame.old_cell hq
end XD
