/-! THROWS: the rows of a catch -/
section XJ
variable {p : Program} {l : Launch} {e : Env} {R : Room} {s : State} {m : MethodId} {args : Array Value} {below : List Frame} {meth : Method} {c : Code} {H : Heap} {locs : List Loc} {cells slots : Nat} {Q : State → Prop}
theorem WT_catch {a : Addr} {g : JFrame} (hg : g.method = m) {pc : Nat} (hf : ∀ T : State, T.heap = H → Stand p l e R s m args below meth c T locs cells slots → ∃ vm', s.WarmedH vm' ∧ FindsTo e ((T.setTop g).pushFrame (.throwing a)) g a (.found pc) vm')
    (k : W p l e R s m args below meth c H locs cells slots Q { g with pc := pc, stack := [.ref a] }) : WT p l e R s m args below meth c H locs cells slots Q a g := by
  intro T hT Y
  obtain ⟨vm', hw, hfind⟩ := hf T hT Y
  obtain ⟨t, a1, b1⟩ := k (T.setVm vm') hT (Y.noted hw)
  have h : At T g.method c below := by rw [hg]; exact Y.here
  exact ⟨t, steps_caughtTo h hfind a1, b1⟩
/-- what one look at an entry gives -/
theorem look {T : State} {vm₀ : Vm} (hw : s.WarmedH vm₀) (hadm : l.admits e) {own C X : String} {idx : Nat} (hown : s.vm.findClass own = some m.cls) (hlink : (Cond.classLink own idx C).before args s = true) : ∃ cC : ClassId, s.vm.findClass C = some cC ∧ (resolveClass m.cls idx).Gives e.toSetting vm₀ (.ok cC) (vm₀.noted m.cls idx (.cls cC)) ∧ s.WarmedH (vm₀.noted m.cls idx (.cls cC)) := by
  have hpl : e.platform.magicAccessors = ({} : Platform).magicAccessors := by rw [hadm.platform]
  obtain ⟨cc, hfcc, hcl⟩ := Cond.classLink_spec hown hlink e.platform hpl
  obtain ⟨h1, h2, h3⟩ := State.classEntry (e := e) hw hcl
  exact ⟨cc, hfcc, h1, h2⟩
end XJ
