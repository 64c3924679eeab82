/-! THROWS: a virtual call that may throw -/
section XG
variable {p : Program} {l : Launch} {e : Env} {R : Room} {s : State} {m : MethodId} {args : Array Value} {below : List Frame} {meth : Method} {c : Code} {H : Heap} {locs : List Loc} {cells slots : Nat} {Q : State → Prop}
variable {cc : ByteArray} {pc nL : Nat} {ls : Array Slot} {rest : List Value} {own : String} {D : va_G} {ids : Ids} {ad : Lay} {cA : Nat → ClassId} {A : Nat → Prop} {σ : Tab} {g k i : Nat}
theorem x_callVX (X : Cx p m c meth cc nL s args own D cA A nwW) (w : ww D ids ad cA A σ s.heap H locs) {y : MethodName} {bytes : ByteArray} {maxL index n mc ms : Nat} {ret : Option FieldType} {rm : Room} {As st0 : List Value} {Pc : Array Value → State → Prop} {Qc : Array Value → State → Outcome → State → Prop}
    (hd : (g, k, i) ∈ ids) {ci : Nat} {fs : List Value} (hct : ctR ad cA g k i (σ g k i) = .inr (ci, fs)) {C : String} {T0 : u_T} {N : Nat} (hc : clW[ci]? = some (C, T0, N))
    (hM : MetX l y (ws_ y bytes maxL ret) rm Pc Qc mc ms A) (hPc : ∀ (U : State) (f : JFrame) (mk : MethodId), U.heap = H → s.WarmedH U.vm → Pc (Value.ref (ad g k i) :: As).toArray (U.calling f mk (Value.ref (ad g k i) :: As).toArray))
    (hlw : GoodIn lw_all (wsV own index C y (ws_ y bytes maxL ret))) (hrm : rm.cells = mc ∧ rm.slots = ms) (hnm : y.cls = C ∧ y.cls ≠ "java/lang/invoke/MethodHandle" ∧ y.cls ≠ "java/lang/invoke/VarHandle" ∧ (parseMethodDescriptor y.desc).map (fun d => d.parameters.length) = some n)
    (hroom : rm.frames + 1 ≤ R.frames ∧ 8 + (maxL + 11) + rm.locals ≤ R.locals) (hcs : cells + mc ≤ R.cells ∧ slots + ms ≤ R.slots) (hn : As.length = n) (hsz : ls.size = nL) (hst : st0 = As.reverse ++ .ref (ad g k i) :: rest) (hrs : (rest.map fun v => v.category).sum ≤ 8) (hdg : decode cc pc = .ok (.invokevirtual index, 3))
    (kn : ∀ (v : Option Value) (st t T' : State) (L : List Loc), st.heap = H → T'.heap = t.heap → T'.vm = t.vm → Qc (Value.ref (ad g k i) :: As).toArray st (.returned v) t → (∀ q ∈ L, A q.base) → s.vm.Alike t.vm → W p l e R s m args below meth c T'.heap (locs ++ L) (cells + mc) (slots + ms) Q (F0 m (pc + 3) ls (v.toList ++ rest)))
    (kt : ∀ (x : Addr) (st t T' : State) (L : List Loc), st.heap = H → T'.heap = t.heap → T'.vm = t.vm → Qc (Value.ref (ad g k i) :: As).toArray st (.threw x) t → (∀ q ∈ L, A q.base) → s.vm.Alike t.vm → WT p l e R s m args below meth c T'.heap (locs ++ L) (cells + mc) (slots + ms) Q x (F0 m pc ls rest)) :
    W p l e R s m args below meth c H locs cells slots Q (F0 m pc ls st0) := by
  intro T hT Y
  have hb := X.b
  obtain ⟨q0, -, hq0⟩ := wl_at (ad := ad) (cA := cA) (σ := σ) hd
  rw [hct] at hq0
  obtain ⟨cellB, hcB, hoB, hclB⟩ := va_recv X.kk w.1 hc hq0
  have ok : ∀ w ∈ wsV own index C y (ws_ y bytes maxL ret), w.before args s = true := fun w h => X.t w (hlw w h).1
  have hlink : (Cond.methodLink own index y).before args s = true := ok _ (by simp [wsV])
  have hinst : (Cond.instanceMethod y).before args s = true := ok _ (by simp [wsV])
  have hsel : (Cond.selects C y y).before args s = true := ok _ (by simp [wsV])
  have hini : (Cond.initialized C).before args s = true := ok _ (by simp [wsV])
  have hcode : (Cond.code y bytes maxL ret).before args s = true := ok _ (by simp [wsV])
  have hy : y.cls ≠ "java/lang/invoke/MethodHandle" ∧ y.cls ≠ "java/lang/invoke/VarHandle" := ⟨hnm.2.1, hnm.2.2.1⟩
  obtain ⟨mk, methM, hnamed, hmethM, hstM, habM⟩ := Cond.instanceMethod_spec hinst
  obtain ⟨methM', cM, hmethM', hcodeM, -, hlocalsM, -, -, -, hsigM⟩ := Cond.code_spec hnamed hcode
  cases hmethM.symm.trans hmethM'
  obtain ⟨c2, r2, m2, q1, q2, q3, q4, kP, hkP, hkPi⟩ := Cond.selects_spec hsel
  cases hclB.symm.trans q1
  cases (State.methodFound?_of_named hnamed hy).symm.trans q2
  cases hnamed.symm.trans q3
  have hselP : selectMethod e.platform s.vm cellB.cls mk = .method mk := by rw [Launch.admits_selectMethod Y.admits]; exact q4
  have hlen : ∀ sig, parseMethodDescriptor y.desc = some sig → As.length = sig.parameters.length := by
    intro sig h
    have h2 := hnm.2.2.2
    rw [h] at h2
    exact hn.trans (Option.some.inj h2).symm
  obtain ⟨vm₁, X₁, hstep₁⟩ := Y.invokevirtual X.x X.o hlink hnamed hmethM hstM hkP hkPi hy (a := ad g k i) (cell := cellB) (by rw [hT]; exact hcB) (fun z h => by rw [h] at hoB; cases hoB) hselP hmethM habM hkP hkPi (g := F0 m pc ls st0) rfl (argsL := As) (rest := rest) (hlen _ hsigM) hst (by rw [hb]; exact hdg)
  have hwU : s.WarmedH (T.setVm vm₁).vm := X₁.warmed
  have hini' : (Cond.initialized y.cls).before args s = true := by rw [hnm.1]; exact hini
  have r := runX hM X₁ (g := F0 m pc ls rest) rfl (by rw [X.ml]; exact hsz) (ig := .invokevirtual index) (len := 3) (by rw [hb]; exact hdg) (X₁.named hnamed) (Value.ref (ad g k i) :: As).toArray (methY := methM) (cY := cM) (maxL := maxL) (by rw [hwU.alike.method?]; exact hmethM) hcodeM hlocalsM hroom.1 (by
      have e0 : (F0 m pc ls rest).monitorRoom = 0 := rfl
      rw [e0]
      have := hroom.2
      show 2 * 0 + (rest.map fun v => v.category).sum + (maxL + 11) + rm.locals ≤ R.locals
      omega) (by rw [hrm.1]; exact hcs.1) (by rw [hrm.2]; exact hcs.2) (fun w hw => word_at hwU ((hlw w (by unfold wsV; exact List.mem_append_right _ hw)).2) (ok w (by unfold wsV; exact List.mem_append_right _ hw))) (word_at hwU (Or.inl rfl) hini') (hPc _ _ _ hT hwU)
  have hh : ((T.setVm vm₁).calling (F0 m pc ls rest) mk (Value.ref (ad g k i) :: As).toArray).heap = H := hT
  rcases r with ⟨v, T', L, X', hq, hL, hs⟩ | ⟨x, T', L, X', hq, hL, hs⟩
  · have eh : (T'.setTop (F0 m (pc + 3) ls (v.toList ++ rest))).heap = T'.heap := by first | rfl | simp [State.setTop, State.modifyTopJava, State.setFrames]
    have ev : (T'.setTop (F0 m (pc + 3) ls (v.toList ++ rest))).vm = T'.vm := by first | rfl | simp [State.setTop, State.modifyTopJava, State.setFrames]
    obtain ⟨t, a1, b1⟩ := kn v _ (T'.setTop (F0 m (pc + 3) ls (v.toList ++ rest))) T' L hh eh.symm ev.symm hq hL (by rw [ev]; exact X'.warmed.alike) T' rfl X'
    exact ⟨t, hstep₁ _ (fun acts => by rw [doInvoke_state]; exact hs.trans a1), b1⟩
  · obtain ⟨t, a1, b1⟩ := kt x _ _ T' L hh (Stand.throwing_heap T' _ x).symm (Stand.throwing_vm T' _ x).symm hq hL (by rw [Stand.throwing_vm]; exact X'.warmed.alike) T' rfl X'
    exact ⟨t, hstep₁ _ (fun acts => by rw [doInvoke_state]; exact hs.trans a1), b1⟩
end XG
