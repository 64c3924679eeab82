/-! THROWS: an exception under way; calls that may throw -/
section XF
def WT (p : Program) (l : Launch) (e : Env) (R : Room) (s : State) (m : MethodId) (args : Array Value) (below : List Frame) (meth : Method) (c : Code) (H : Heap) (locs : List Loc) (cells slots : Nat) (Q : State → Prop) (x : Addr) (g : JFrame) : Prop :=
  ∀ T : State, T.heap = H → Stand p l e R s m args below meth c T locs cells slots → ∃ t, Steps p.tables e below ((T.setTop g).pushFrame (.throwing x)) t ∧ Q t
variable {p : Program} {l : Launch} {e : Env} {R : Room} {s : State} {m : MethodId} {args : Array Value} {below : List Frame} {meth : Method} {c : Code} {H : Heap} {locs : List Loc} {cells slots : Nat} {Q : State → Prop}
variable {cc : ByteArray} {pc nL : Nat} {ls : Array Slot} {rest : List Value} {own : String} {D : va_G} {ids : Ids} {ad : Lay} {cA : Nat → ClassId} {A : Nat → Prop} {σ : Tab}
/-- it leaves a method without handlers -/
theorem x_leave (X : Cx p m c meth cc nL s args own D cA A nwW) (w : ww D ids ad cA A σ s.heap H locs) {Qc : Array Value → State → Outcome → State → Prop} {E : String → Tab → Prop} {mc ms : Nat} (hQ : ∀ o t, QT D ids ad cA A E s o t → Qc args s o t) {cls : String} (hE : E cls σ) (hex : c.exceptionTable.toList = [])
    {x : Addr} {ce : Cell} (hx : H[x]? = some ce) (hc : s.vm.findClass cls = some ce.cls) (hv : ce.vm = .none) (h1 : cells ≤ mc) (h2 : slots ≤ ms) : WT p l e R s m args below meth c H locs cells slots (MQX below Qc args s mc ms A) x (F0 m pc ls rest) := by
  intro T hT Y
  obtain ⟨q1, q2, q3, q4, q5⟩ := Y.leaveThrown x (g := F0 m pc ls rest) rfl rfl rfl (fun y hy => by rw [hex] at hy; cases hy) X.lk
  refine ⟨_, q1, .threw x, q2, q3, hQ _ _ ⟨⟨x, ce, cls, σ, rfl, hE, ?_, ?_, ?_, hv⟩, w.2.2.F (t := T.setFrames (.throwing x :: below)) hT⟩, locs, ⟨q4, q5.mono h1 h2⟩, w.2.2.2.2⟩
  · show va_P D clW (wl ids ad cA σ) T.heap
    rw [hT]; exact w.1
  · show T.heap[x]? = some ce
    rw [hT]; exact hx
  · rw [q4.alike.findClass]; exact hc
/-- a static call that may throw -/
theorem x_callSX (X : Cx p m c meth cc nL s args own D cA A nwW) {y : MethodName} {bytes : ByteArray} {maxL index n mc ms : Nat} {ret : Option FieldType} {rm : Room} {As st0 : List Value} {Pc : Array Value → State → Prop} {Qc : Array Value → State → Outcome → State → Prop}
    (hM : MetX l y (ws_ y bytes maxL ret) rm Pc Qc mc ms A) (hPc : ∀ (U : State) (g : JFrame) (mk : MethodId), U.heap = H → s.WarmedH U.vm → Pc As.toArray (U.calling g mk As.toArray))
    (hlw : GoodIn lw_all (va_wsS own index y (ws_ y bytes maxL ret))) (hini : Cond.initialized y.cls ∈ lw_all) (hrm : rm.cells = mc ∧ rm.slots = ms) (hnm : y.cls ≠ "java/lang/invoke/MethodHandle" ∧ y.cls ≠ "java/lang/invoke/VarHandle" ∧ (parseMethodDescriptor y.desc).map (fun d => d.parameters.length) = some n)
    (hroom : rm.frames + 1 ≤ R.frames ∧ 8 + (maxL + 11) + rm.locals ≤ R.locals) (hcs : cells + mc ≤ R.cells ∧ slots + ms ≤ R.slots) (hn : As.length = n) (hsz : ls.size = nL) (hst : st0 = As.reverse ++ rest) (hrs : (rest.map fun v => v.category).sum ≤ 8) (hdg : decode cc pc = .ok (.invokestatic index, 3))
    (kn : ∀ (v : Option Value) (st t T' : State) (L : List Loc), st.heap = H → T'.heap = t.heap → T'.vm = t.vm → Qc As.toArray st (.returned v) t → (∀ q ∈ L, A q.base) → s.vm.Alike t.vm → W p l e R s m args below meth c T'.heap (locs ++ L) (cells + mc) (slots + ms) Q (F0 m (pc + 3) ls (v.toList ++ rest)))
    (kt : ∀ (x : Addr) (st t T' : State) (L : List Loc), st.heap = H → T'.heap = t.heap → T'.vm = t.vm → Qc As.toArray st (.threw x) t → (∀ q ∈ L, A q.base) → s.vm.Alike t.vm → WT p l e R s m args below meth c T'.heap (locs ++ L) (cells + mc) (slots + ms) Q x (F0 m pc ls rest)) :
    W p l e R s m args below meth c H locs cells slots Q (F0 m pc ls st0) := by
  intro T hT Y
  have hb := X.b
  have ok : ∀ w ∈ va_wsS own index y (ws_ y bytes maxL ret), w.before args s = true := fun w h => X.t w (hlw w h).1
  have hlink : (Cond.methodLink own index y).before args s = true := ok _ (by simp [va_wsS])
  have hstat : (Cond.static y).before args s = true := ok _ (by simp [va_wsS])
  have hcode : (Cond.code y bytes maxL ret).before args s = true := ok _ (by simp [va_wsS])
  obtain ⟨mk, hnamed⟩ := Cond.code_named hcode
  obtain ⟨methM, cM, hmethM, hcodeM, -, hlocalsM, -, -, -, hsigM⟩ := Cond.code_spec hnamed hcode
  have hstatic : methM.isStatic = true := Cond.static_spec hnamed hmethM hstat
  obtain ⟨kP, hkP, -⟩ := className_of_methodNamed hnamed
  have hinitP : kP.init = .initialized := Cond.initialized_spec (findClass_of_methodNamed hnamed) hkP (X.t _ hini)
  have hlen : ∀ sig, parseMethodDescriptor y.desc = some sig → As.length = sig.parameters.length := by
    intro sig h
    have h2 := hnm.2.2
    rw [h] at h2
    exact hn.trans (Option.some.inj h2).symm
  obtain ⟨vm₁, X₁, hstep₁⟩ := Y.invokestatic X.x X.o hlink hnamed hmethM hstatic hkP hinitP ⟨hnm.1, hnm.2.1⟩ (g := F0 m pc ls st0) rfl (argsL := As) (rest := rest) (hlen _ hsigM) hst (by rw [hb]; exact hdg)
  have hwU : s.WarmedH (T.setVm vm₁).vm := X₁.warmed
  have r := runX hM X₁ (g := F0 m pc ls rest) rfl (by rw [X.ml]; exact hsz) (ig := .invokestatic index) (len := 3) (by rw [hb]; exact hdg) (X₁.named hnamed) As.toArray (methY := methM) (cY := cM) (maxL := maxL) (by rw [hwU.alike.method?]; exact hmethM) hcodeM hlocalsM hroom.1 (by
      have e0 : (F0 m pc ls rest).monitorRoom = 0 := rfl
      rw [e0]
      have := hroom.2
      show 2 * 0 + (rest.map fun v => v.category).sum + (maxL + 11) + rm.locals ≤ R.locals
      omega) (by rw [hrm.1]; exact hcs.1) (by rw [hrm.2]; exact hcs.2) (fun w hw => word_at hwU ((hlw w (by unfold va_wsS; exact List.mem_append_right _ hw)).2) (ok w (by unfold va_wsS; exact List.mem_append_right _ hw))) (word_at hwU (Or.inl rfl) (X.t _ hini)) (hPc _ _ _ hT hwU)
  have hh : ((T.setVm vm₁).calling (F0 m pc ls rest) mk As.toArray).heap = H := hT
  rcases r with ⟨v, T', L, X', hq, hL, hs⟩ | ⟨x, T', L, X', hq, hL, hs⟩
  · have eh : (T'.setTop (F0 m (pc + 3) ls (v.toList ++ rest))).heap = T'.heap := by first | rfl | simp [State.setTop, State.modifyTopJava, State.setFrames]
    have ev : (T'.setTop (F0 m (pc + 3) ls (v.toList ++ rest))).vm = T'.vm := by first | rfl | simp [State.setTop, State.modifyTopJava, State.setFrames]
    obtain ⟨t, a1, b1⟩ := kn v _ (T'.setTop (F0 m (pc + 3) ls (v.toList ++ rest))) T' L hh eh.symm ev.symm hq hL (by rw [ev]; exact X'.warmed.alike) T' rfl X'
    exact ⟨t, hstep₁ _ (fun acts => by rw [doInvoke_state]; exact hs.trans a1), b1⟩
  · obtain ⟨t, a1, b1⟩ := kt x _ _ T' L hh (Stand.throwing_heap T' _ x).symm (Stand.throwing_vm T' _ x).symm hq hL (by rw [Stand.throwing_vm]; exact X'.warmed.alike) T' rfl X'
    exact ⟨t, hstep₁ _ (fun acts => by rw [doInvoke_state]; exact hs.trans a1), b1⟩
end XF
