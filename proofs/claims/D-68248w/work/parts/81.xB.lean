/-! THROWS: contracts of methods that return or throw -/
section XB
def FrX (st t : State) (L : List Loc) (k n : Nat) : Prop := st.WarmedH t.vm ∧ st.sameButNew ({ t with vm := st.vm } : State) L k n
def MetX (l : Launch) (y : MethodName) (ws : List Cond) (rm : Room) (Pc : Array Value → State → Prop) (Qc : Array Value → State → Outcome → State → Prop) (mc ms : Nat) (free : Addr → Prop) : Prop :=
  MetFree l y (headSpec ws rm) Pc (fun _ _ _ _ _ => True) (fun a st o t => Qc a st o t ∧ ∃ L, FrX st t L mc ms ∧ ∀ q ∈ L, free q.base)
def MQX (below : List Frame) (Qc : Array Value → State → Outcome → State → Prop) (a : Array Value) (s : State) (mc ms : Nat) (free : Addr → Prop) : State → Prop := fun t =>
  ∃ o, t.status = .running ∧ Ended t below o ∧ Qc a s o t ∧ ∃ L, FrX s t L mc ms ∧ ∀ q ∈ L, free q.base
variable {p : Program} {l : Launch} {e : Env} {R : Room} {s : State} {m : MethodId} {args : Array Value} {below : List Frame} {meth : Method} {c : Code} {H : Heap} {locs : List Loc} {cells slots : Nat} {Q : State → Prop}
theorem W_mono {Q' : State → Prop} {g : JFrame} (h : ∀ t, Q t → Q' t) (k : W p l e R s m args below meth c H locs cells slots Q g) : W p l e R s m args below meth c H locs cells slots Q' g := by
  intro T hT X
  obtain ⟨t, a, b⟩ := k T hT X
  exact ⟨t, a, h t b⟩
theorem MQ_X {Qc Qc' : Array Value → State → Outcome → State → Prop} {a : Array Value} {k n k' n' : Nat} {free : Addr → Prop} (hk : k ≤ k') (hn : n ≤ n') (hq : ∀ o t, Qc a s o t → Qc' a s o t) {t : State} (h : MQ below Qc a s k n free t) : MQX below Qc' a s k' n' free t := by
  obtain ⟨o, h1, h2, h3, L, h4, h5⟩ := h
  exact ⟨o, h1, h2, hq o t h3, L, ⟨h4.2.1, h4.2.2.mono hk hn⟩, h5⟩
theorem MetX_ofW {y : MethodName} {ws ws' : List Cond} {rm : Room} {Pc : Array Value → State → Prop} {Qc : Array Value → State → Outcome → State → Prop} {mc ms : Nat} {free : Addr → Prop} {cc : ByteArray} {maxL : Nat} {ret : Option FieldType}
    (hy : plainName y.cls = true) (hw : ws = Cond.code y cc maxL ret :: ws')
    (body : ∀ p e s m args below meth c s₁, BodyLoose p l y (headSpec ws rm) cc maxL ret e s m args below meth c s₁ → c.maxLocals = maxL → Pc args s →
      W p l e (headSpec ws rm).room s m args below meth c s.heap [] 0 0 (MQX below Qc args s mc ms free) (entryFrame m args maxL)) : MetX l y ws rm Pc Qc mc ms free := by
  refine MetFree.of_bodyS (code := cc) (maxLocals := maxL) (ret := ret) hy ?_ ?_
  · intro args s m h hn
    obtain ⟨meth, c, h1, h2, h3, h4, h5, h6, -, -⟩ := Cond.code_spec hn (atoms_spec (ws := ws) h _ (by rw [hw]; exact List.mem_cons_self))
    exact ⟨meth, c, h1, h2, h3, h4, h5, h6⟩
  · intro p e s m args below meth c s₁ B hml hP _
    have hh0 : s₁.heap = s.heap := by rw [B.state]; rfl
    obtain ⟨t, a1, o, b1, b2, b3⟩ := body p e s m args below meth c s₁ B hml hP s₁ hh0 (Stand.of_body B)
    exact ⟨t, o, a1, b1, b2, ⟨b3.1, b3.2⟩⟩
/-- the callee runs: it comes back, or it throws -/
theorem runX {y : MethodName} {ws : List Cond} {rm : Room} {Pc : Array Value → State → Prop} {Qc : Array Value → State → Outcome → State → Prop} {mc ms : Nat} {free : Addr → Prop} {U : State}
    (hM : MetX l y ws rm Pc Qc mc ms free) (X : Stand p l e R s m args below meth c U locs cells slots) {g : JFrame} (hg : g.method = m) (hsize : g.locals.size = c.maxLocals) {ig : Instr} {len : Nat} (hdg : decode c.code g.pc = .ok (ig, len))
    {mk : MethodId} (hn : U.methodNamed? y = some mk) (a : Array Value) {methY : Method} {cY : Code} {maxL : Nat} (hmY : U.vm.method? mk = some methY) (hcY : methY.code = some cY) (hlY : cY.maxLocals = maxL)
    (hframes : rm.frames + 1 ≤ R.frames) (hlocals : 2 * g.monitorRoom + (g.stack.map fun v => v.category).sum + (maxL + 11) + rm.locals ≤ R.locals) (hcells : cells + rm.cells ≤ R.cells) (hslots : slots + rm.slots ≤ R.slots)
    (hws : ∀ w ∈ ws, w.before a U = true) (hinit : (Cond.initialized y.cls).before a U = true) (hP : Pc a (U.calling g mk a)) :
    (∃ (v : Option Value) (T' : State) (L : List Loc), Stand p l e R s m args below meth c T' (locs ++ L) (cells + mc) (slots + ms) ∧ Qc a (U.calling g mk a) (.returned v) (T'.setTop { g with pc := g.pc + len, stack := v.toList ++ g.stack }) ∧ (∀ q ∈ L, free q.base) ∧ Steps p.tables e below (doInvoke e (U.setTop g) [] mk a).1 (T'.setTop { g with pc := g.pc + len, stack := v.toList ++ g.stack })) ∨
    (∃ (x : Addr) (T' : State) (L : List Loc), Stand p l e R s m args below meth c T' (locs ++ L) (cells + mc) (slots + ms) ∧ Qc a (U.calling g mk a) (.threw x) ((T'.setTop g).pushFrame (.throwing x)) ∧ (∀ q ∈ L, free q.base) ∧ Steps p.tables e below (doInvoke e (U.setTop g) [] mk a).1 ((T'.setTop g).pushFrame (.throwing x))) := by
  obtain ⟨kY, hkY, -⟩ := className_of_methodNamed hn
  have hinitY : kY.init = .initialized := Cond.initialized_spec (findClass_of_methodNamed hn) hkY hinit
  have h : At U g.method c below := by rw [hg]; exact X.here
  have happ : (headSpec ws rm).appliesLoose y e.platform (U.calling g mk a) = true :=
    Spec.appliesLoose_calling (g := g) h hdg hn hkY hinitY (X.room_calling (g := g) (R' := (headSpec ws rm).room) hsize hmY hcY hframes (by rw [hlY]; exact hlocals) hcells hslots) (atoms_intro hws)
  obtain ⟨mid, hmid⟩ := h.above
  have hfr : (U.setTop g).frames = (.java g :: mid) ++ below := by rw [State.frames_setTop' g h.top, hmid]; rfl
  have hf2 : (U.setTop g).frames = .java g :: below := by rw [State.frames_setTop' g h.top, X.tail]
  obtain ⟨o, t, hsteps, -, hend, hq, L, hF, hL⟩ := Steps.callFree hM p X.admits X.cas X.clock (acts := []) hfr happ hP trivial
  rw [hf2] at hend
  cases o with
  | returned v =>
    obtain ⟨T', X', -, -, ht⟩ := X.outOf hg hdg hend hF.1 hF.2
    subst ht
    exact Or.inl ⟨v, T', L, X', hq, hL, hsteps⟩
  | threw x =>
    obtain ⟨T', X', -, -, ht⟩ := X.outOfThrown hg hend hF.1 hF.2
    subst ht
    exact Or.inr ⟨x, T', L, X', hq, hL, hsteps⟩
end XB
