/-! THROWS: the second entry catches -/
section XL
variable {p : Program} {l : Launch} {e : Env} {R : Room} {s : State} {m : MethodId} {args : Array Value} {below : List Frame} {meth : Method} {c : Code} {H : Heap} {locs : List Loc} {cells slots : Nat} {Q : State → Prop}
theorem x_catch2 {own C1 C : String} {a : Addr} {ce : Cell} {pc : Nat} {ls : Array Slot} {rest : List Value} (hown : s.vm.findClass own = some m.cls) {x1 x : ExceptionTableEntry} {t : List ExceptionTableEntry} (hex : c.exceptionTable.toList = x1 :: x :: t) (hcov1 : covers x1 pc = true) (h01 : x1.catchType ≠ 0) (hcov : covers x pc = true) (h0 : x.catchType ≠ 0)
    (hlink1 : (Cond.classLink own x1.catchType C1).before args s = true) (hlink : (Cond.classLink own x.catchType C).before args s = true)
    (ha : H[a]? = some ce) (hv : ce.vm = .none) (hk : ∃ k, s.vm.classes[ce.cls]? = some k) (hkc1 : ∀ cC, s.vm.findClass C1 = some cC → (∃ k, s.vm.classes[cC]? = some k) ∧ s.vm.assignable ce.cls cC = false) (hkc : ∀ cC, s.vm.findClass C = some cC → (∃ k, s.vm.classes[cC]? = some k) ∧ s.vm.assignable ce.cls cC = true)
    (k : W p l e R s m args below meth c H locs cells slots Q (F0 m x.handlerPc ls [.ref a])) : WT p l e R s m args below meth c H locs cells slots Q a (F0 m pc ls rest) := by
  refine WT_catch (g := F0 m pc ls rest) rfl (pc := x.handlerPc) (fun T hT Y => ?_) k
  obtain ⟨c1, hf1, hg1, hw1⟩ := look (X := C1) (T := T) Y.warmed Y.admits hown hlink1
  obtain ⟨cC, hfC, hg, hw⟩ := look (X := C) (T := T) hw1 Y.admits hown hlink
  refine ⟨_, hw, fun Q' E d acts => ?_⟩
  obtain ⟨hd1, hd2⟩ := hkc1 c1 hf1
  obtain ⟨hc1, hc2⟩ := hkc cC hfC
  have kex : ∀ (vm' : Vm), s.vm.Alike vm' → ∀ q : ClassId, (∃ k, s.vm.classes[q]? = some k) → ∃ k, vm'.classes[q]? = some k := fun vm' al q ⟨k, hk'⟩ => by obtain ⟨k', h1, _⟩ := al.2.2 q k hk'; exact ⟨k', h1⟩
  have hm : ((T.setTop (F0 m pc ls rest)).pushFrame (.throwing a)).vm.method? (F0 m pc ls rest).method = some meth := by
    rw [Stand.throwing_vm]; exact Y.method'
  rw [Jvm.W.findHandler_eq hm Y.code, hex, find_cold (f := F0 m pc ls rest) (cell := ce) hcov1 h01 (by rw [Stand.throwing_vm]; exact hg1) (by rw [Stand.throwing_vm, Vm.size_noted]; exact Nat.le_refl _) (by rw [Stand.throwing_heap, hT]; exact ha) (fun z h => by rw [hv] at h; cases h) (kex _ hw1.alike ce.cls hk) (kex _ hw1.alike c1 hd1)]
  rw [if_neg (by rw [hw1.alike.assignable, hd2]; decide)]
  rw [find_cold (f := F0 m pc ls rest) (cell := ce) hcov h0 (s := ((T.setTop (F0 m pc ls rest)).pushFrame (.throwing a)).setVm (T.vm.noted m.cls x1.catchType (.cls c1))) hg (by show ((T.vm.noted m.cls x1.catchType (.cls c1)).noted m.cls x.catchType (.cls cC)).classes.size ≤ (T.vm.noted m.cls x1.catchType (.cls c1)).classes.size; rw [Vm.size_noted]; exact Nat.le_refl _) (by show ((T.setTop (F0 m pc ls rest)).pushFrame (.throwing a)).heap[a]? = some ce; rw [Stand.throwing_heap, hT]; exact ha) (fun z h => by rw [hv] at h; cases h) (kex _ hw.alike ce.cls hk) (kex _ hw.alike cC hc1)]
  rw [if_pos (by rw [hw.alike.assignable]; exact hc2)]
  exact Iff.rfl
end XL
