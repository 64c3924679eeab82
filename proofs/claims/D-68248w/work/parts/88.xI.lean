/-! THROWS: caught -/
section XI
def FindsTo (e : Env) (s : State) (f : JFrame) (a : Addr) (h : Handler) (vm' : Vm) : Prop := ∀ (Q : Handler → Pre) (E : CtlPost) (d : Bool) (acts : List Action), wp (findHandler f a) Q E e d acts s ↔ Q h d acts (s.setVm vm')
theorem step_catchTo {e : Env} {s : State} {a : Addr} {f : JFrame} {r : List Frame} {pc : Nat} {vm' : Vm} (hfind : FindsTo e s f a (.found pc) vm') : (stepThrowing e s a (.java f :: r)).1 = (s.setVm vm').setFrames (.java { f with pc := pc, stack := [.ref a] } :: r) := by
  simp only [stepThrowing, searchFrame, vmDo]
  generalize hr : Sem.go _ e false [] s = res
  obtain ⟨as, rfl, ha⟩ := Sem.eq_ok_of hr (a := Handler.found pc) (s' := s.setVm vm') (acts' := []) (by simp [hfind _ _ _ _])
  rfl
theorem steps_caughtTo {tb : Tables} {e : Env} {s target : State} {g : JFrame} {c : Code} {below : List Frame} {a : Addr} (h : At s g.method c below) {pc : Nat} {vm' : Vm} (hfind : FindsTo e ((s.setTop g).pushFrame (.throwing a)) g a (.found pc) vm')
    (hrest : Steps tb e below ((s.setVm vm').setTop { g with pc := pc, stack := [.ref a] }) target) : Steps tb e below ((s.setTop g).pushFrame (.throwing a)) target := by
  obtain ⟨hgo, hw⟩ := h.throwing a
  refine Steps.head hgo hw ?_
  rw [stepThread_throwing (frames_entered h.top _)]
  obtain ⟨g₀, hg⟩ := Option.isSome_iff_exists.mp h.top
  obtain ⟨r, hr⟩ := State.topJava?_eq_some.mp hg
  rw [step_catchTo hfind]
  have hr' : (s.setVm vm').frames = .java g₀ :: r := hr
  rw [State.setTop_of_frames _ hr'] at hrest
  have e1 : (((s.setTop g).pushFrame (.throwing a)).setVm vm').setFrames (.java { g with pc := pc, stack := [.ref a] } :: s.frames.tail) = (s.setVm vm').setFrames (.java { g with pc := pc, stack := [.ref a] } :: r) := by
    rw [hr, List.tail_cons, State.pushFrame, State.setTop_of_frames _ hr, ← State.setFrames_setVm, ← State.setFrames_setVm, State.setFrames_setFrames, State.setFrames_setFrames]
  rw [e1]; exact hrest
end XI
