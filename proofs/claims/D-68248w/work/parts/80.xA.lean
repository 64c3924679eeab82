/-! THROWS: a walk may take the state it stands at as its start -/
section XA
variable {p : Program} {l : Launch} {e : Env} {R : Room} {s : State} {m : MethodId} {args : Array Value} {below : List Frame} {meth : Method} {c : Code} {T : State} {locs : List Loc} {cells slots : Nat}
theorem same0 (T : State) (fs : List Frame) (h : T.cur < T.threads.size) : (T.setFrames fs).sameButNew (T.setVm (T.setFrames fs).vm) [] 0 0 := by
  have hh : ((T.setVm (T.setFrames fs).vm).heap.toList.drop (T.setFrames fs).heap.size) = [] := by
    apply List.drop_eq_nil_of_le
    show T.heap.toList.length ≤ T.heap.size
    rw [Array.length_toList]
    exact Nat.le_refl _
  refine ⟨?_, Nat.le_refl _, Nat.le_refl _, ?_, ?_, fun a cl hc => ⟨cl, hc, rfl, rfl, fun _ _ => rfl⟩⟩
  · have hT : (T.setFrames fs).setFrames T.frames = T := by
      rw [State.setFrames_setFrames]
      exact State.setFrames_self (Array.getElem?_eq_getElem h)
    show T.setVm T.vm = { (T.setFrames fs).setFrames T.frames with heap := T.heap, slotsUsed := T.slotsUsed }
    rw [hT]
    rfl
  · rw [hh]; rfl
  · rw [hh]; exact Nat.le_refl _
theorem st_rebase (X : Stand p l e R s m args below meth c T locs cells slots) {R' : Room} (h1 : R'.frames ≤ R.frames) (h2 : R'.locals ≤ R.locals) (h3 : cells + R'.cells ≤ R.cells) (h4 : slots + R'.slots ≤ R.slots) :
    Stand p l e R' (T.setFrames (.invoking m args :: below)) m args below meth c T [] 0 0 := by
  obtain ⟨g₀, hfr⟩ := X.frames_eq
  have hcur : T.cur < T.threads.size := State.cur_lt_of_frames hfr
  have hF : (T.setFrames (.invoking m args :: below)).frames = .invoking m args :: below := State.frames_setFrames _ hcur
  have hm : T.vm.method? m = some meth := X.method'
  have h := X.room
  have hL := State.localsInUse_invoking X.frames X.method X.code
  have hL' : (T.setFrames (.invoking m args :: below)).localsInUse = _ := State.localsInUse_invoking hF hm X.code
  have hh := X.heapSize
  have hu := X.used
  refine ⟨X.admits, X.cas, X.clock, hF, ?_, ?_, hm, X.code, X.here, X.tail, State.WarmedH.refl _, ?_, ?_, same0 T _ hcur⟩
  · simp only [State.hasRoom, Bool.and_eq_true, decide_eq_true_eq, X.frames, hL] at h
    simp only [State.hasRoom, Bool.and_eq_true, decide_eq_true_eq, hF, hL', State.stackLimits_setFrames, State.stackBytes_setFrames, X.limits, X.bytes]
    refine ⟨⟨⟨⟨by omega, by omega, by omega, by omega, by omega, h.1.1.1.2.2.2.2.2⟩, ?_⟩, ?_⟩, X.book⟩
    · have := h.1.1.2
      show T.heap.size + R'.cells ≤ _
      omega
    · have := h.1.2
      show T.slotsUsed + R'.slots ≤ _
      omega
  · have hx := X.hears
    have al := X.warmed.alike
    cases below with
    | nil =>
      simp only [State.hears] at hx ⊢
      show (T.vm.method? m).any _ = true
      rw [al.method? m]
      exact hx
    | cons b r =>
      cases b <;> simp only [State.hears] at hx ⊢
      all_goals first
        | (show (T.vm.method? m).any _ = true; rw [al.method? m]; exact hx)
        | rfl
        | (rename_i g'; rw [State.code?_eq] at hx ⊢; show (((T.vm.method? g'.method).bind _).bind _).isSome = true; rw [al.method? g'.method]; exact hx)
  · rw [State.stackLimits_setFrames]
  · rw [State.stackBytes_setFrames]
end XA
