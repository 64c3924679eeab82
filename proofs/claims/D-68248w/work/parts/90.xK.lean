/-! THROWS: one entry, and two -/
section XK
variable {p : Program} {l : Launch} {e : Env} {R : Room} {s : State} {m : MethodId} {args : Array Value} {below : List Frame} {meth : Method} {c : Code} {H : Heap} {locs : List Loc} {cells slots : Nat} {Q : State → Prop}
theorem x_catch1 {own C : String} {a : Addr} {ce : Cell} {pc : Nat} {ls : Array Slot} {rest : List Value} (hown : s.vm.findClass own = some m.cls) {x : ExceptionTableEntry} {t : List ExceptionTableEntry} (hex : c.exceptionTable.toList = x :: t) (hcov : covers x pc = true) (h0 : x.catchType ≠ 0) (hlink : (Cond.classLink own x.catchType C).before args s = true)
    (ha : H[a]? = some ce) (hv : ce.vm = .none) (hk : ∃ k, s.vm.classes[ce.cls]? = some k) (hkc : ∀ cC, s.vm.findClass C = some cC → (∃ k, s.vm.classes[cC]? = some k) ∧ s.vm.assignable ce.cls cC = true)
    (k : W p l e R s m args below meth c H locs cells slots Q (F0 m x.handlerPc ls [.ref a])) : WT p l e R s m args below meth c H locs cells slots Q a (F0 m pc ls rest) := by
  refine WT_catch (g := F0 m pc ls rest) rfl (pc := x.handlerPc) (fun T hT Y => ?_) k
  obtain ⟨cC, hfC, hg, hw⟩ := look (X := C) (T := T) Y.warmed Y.admits hown hlink
  refine ⟨_, hw, fun Q' E d acts => ?_⟩
  obtain ⟨hc1, hc2⟩ := hkc cC hfC
  have al := hw.alike
  have kex : ∀ q : ClassId, (∃ k, s.vm.classes[q]? = some k) → ∃ k, (T.vm.noted m.cls x.catchType (.cls cC)).classes[q]? = some k := fun q ⟨k, hk'⟩ => by obtain ⟨k', h1, _⟩ := al.2.2 q k hk'; exact ⟨k', h1⟩
  have hm : ((T.setTop (F0 m pc ls rest)).pushFrame (.throwing a)).vm.method? (F0 m pc ls rest).method = some meth := by
    rw [Stand.throwing_vm]; exact Y.method'
  rw [Jvm.W.findHandler_eq hm Y.code, hex, find_cold (f := F0 m pc ls rest) (cell := ce) hcov h0 (by rw [Stand.throwing_vm]; exact hg) (by rw [Stand.throwing_vm, Vm.size_noted]; exact Nat.le_refl _) (by rw [Stand.throwing_heap, hT]; exact ha) (fun z h => by rw [hv] at h; cases h) (kex ce.cls hk) (kex cC hc1)]
  rw [if_pos (by rw [al.assignable]; exact hc2)]
end XK
