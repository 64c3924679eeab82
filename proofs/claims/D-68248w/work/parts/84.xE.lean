/-! THROWS: the row of 'throw new X()' over the world of tables -/
section XE
/-- what Throwable's statics must hold, and that none of them is in reach -/
def thOK (A : Nat → Prop) (U : State) : Prop := (Cond.isRef (.static Bundle.tN "UNASSIGNED_STACK" Bundle.steD)).before #[] U = true ∧ (Cond.isRef (.static Bundle.tN "SUPPRESSED_SENTINEL" Bundle.listD)).before #[] U = true ∧ ∀ (q : Nat) (cell : Cell), U.heap[q]? = some cell → cell.vm.isStatics = true → ¬ A q
/-- the end by an exception: of which class, and with which table -/
def QT (D : va_G) (ids : Ids) (ad : Lay) (cA : Nat → ClassId) (A : Nat → Prop) (E : String → Tab → Prop) (st : State) (o : Outcome) (t : State) : Prop := (∃ (x : Addr) (ce : Cell) (cls : String) (u : Tab), o = .threw x ∧ E cls u ∧ va_P D clW (wl ids ad cA u) t.heap ∧ t.heap[x]? = some ce ∧ t.vm.findClass cls = some ce.cls ∧ ce.vm = .none) ∧ va_F A st t
variable {p : Program} {l : Launch} {e : Env} {R : Room} {s : State} {m : MethodId} {args : Array Value} {below : List Frame} {meth : Method} {c : Code} {H : Heap} {locs : List Loc} {cells slots : Nat}
variable {cc : ByteArray} {pc nL : Nat} {ls : Array Slot} {rest : List Value} {own : String} {D : va_G} {ids : Ids} {ad : Lay} {cA : Nat → ClassId} {A : Nat → Prop} {σ : Tab}
theorem wl_mem {q : Nat × va_E} {k : Nat} {P' : va_W} {H1 H2 : Heap} (h : va_P D clW P' H1) (hk : ∀ (q : Nat) (cell : Cell), H1[q]? = some cell → H2[q]? = some cell) (hs : ∀ (k : Nat) (q : Nat × va_E), P'[k]? = some q → ∃ cell, H1[q.1]? = some cell) : va_P D clW P' H2 := h.kept (fun k q hq => by
  obtain ⟨cell, hc⟩ := hs k q hq
  rw [hc, hk _ _ hc])
theorem x_throw (X : Cx p m c meth cc nL s args own D cA A nwW) (w : ww D ids ad cA A σ s.heap H locs) (hfl : l.flags = flags0) (hth : thOK A s) {cls : String} {names : List String} {ik ic : Nat} {Qc : Array Value → State → Outcome → State → Prop} {E : String → Tab → Prop}
    (hQ : ∀ o t, QT D ids ad cA A E s o t → Qc args s o t) (hE : E cls σ) (hex : c.exceptionTable.toList = [])
    (hcls : Bundle.fit cls = true) (hnames : ∀ n ∈ names, Bundle.fit n = true)
    (hk : Cond.classLink own ik cls ∈ lw_all ∧ Cond.initialized cls ∈ lw_all) (hwd : ∀ w ∈ Bundle.ownAtoms0 own ic cls names, (w ∈ lw_all ∧ (w.onTables && w.keeps) = true) ∨ w = .isRef (.static Bundle.tN "UNASSIGNED_STACK" Bundle.steD) ∨ w = .isRef (.static Bundle.tN "SUPPRESSED_SENTINEL" Bundle.listD))
    (hsz : ls.size = nL) (d0 : decode cc pc = .ok (.new ik, 3)) (d3 : decode cc (pc + 3) = .ok (.dup, 1)) (d4 : decode cc (pc + 4) = .ok (.invokespecial ic, 3)) (d7 : decode cc (pc + 7) = .ok (.athrow, 1))
    (hroom : names.length + 3 < R.frames ∧ (rest.map fun v => v.category).sum + (13 * (names.length + 1) + 42) ≤ R.locals) (hcs : cells + 1 ≤ R.cells ∧ slots + 6 ≤ R.slots) :
    W p l e R s m args below meth c H locs cells slots (MQX below Qc args s (cells + 1) (slots + 6) A) (F0 m pc ls rest) := by
  intro T hT Y
  have hb := X.b
  have warm : s.WarmedH (T.setFrames (.invoking m args :: below)).vm := Y.warmed
  have stk : ∀ (q : Addr) (cell : Cell), s.heap[q]? = some cell → cell.vm.isStatics = true → (T.setFrames (.invoking m args :: below)).heap[q]? = some cell := by
    intro q cell hq his
    have hlt : q < s.heap.size := (Array.getElem?_eq_some_iff.mp hq).1
    show T.heap[q]? = some cell
    rw [hT, w.2.2.2.1 q hlt (hth.2.2 q cell hq his)]
    exact hq
  have wd : ∀ w', (w' ∈ lw_all ∧ (w'.onTables && w'.keeps) = true) → w'.before args (T.setFrames (.invoking m args :: below)) = true := fun w' h => word_at warm (Or.inl h.2) (X.t w' h.1)
  obtain ⟨U, a, ce, h1, h2, h3, h4, h5, h6, h7, h8, h9⟩ := throw_at Y X.x hfl X.lk (own := own) (cls := cls) (names := names) (ik := ik) (ic := ic) X.o hcls hnames (wd _ ⟨hk.1, rfl⟩) (wd _ ⟨hk.2, rfl⟩) (fun w' hw' => by
    rcases hwd w' hw' with q | rfl | rfl
    · exact wd w' q
    · exact stat_keep (a := #[]) warm.alike stk hth.1
    · exact stat_keep (a := #[]) warm.alike stk hth.2.1) (pc := pc) (ls := ls) (rest := rest) (by rw [hsz, X.ml]) (by rw [hb]; exact d0) (by rw [hb]; exact d3) (by rw [hb]; exact d4) (by rw [hb]; exact d7) (fun x hx => by rw [hex] at hx; cases hx) hroom.1 hroom.2 hcs.1 hcs.2
  refine ⟨U, h1, .threw a, h2, h3, hQ _ _ ⟨⟨a, ce, cls, σ, rfl, hE, ?_, h6, ?_, h8⟩, h4.2.2.1, fun q hq hA => ?_⟩, locs, h4, w.2.2.2.2⟩
  · refine wl_mem (P' := wl ids ad cA σ) (q := (0, .inr (0, []))) (k := 0) w.1 (fun q cell hq => h5 q cell (by rw [hT]; exact hq)) (fun k q hq => ?_)
    have hq' := w.1 k q hq
    obtain ⟨qa, qe⟩ := q
    cases qe with
    | inl a' => exact ⟨_, hq'⟩
    | inr o' =>
      obtain ⟨r, -, cell, hc, -⟩ := hq'
      exact ⟨cell, hc⟩
  · rw [h9.findClass]; exact h7
  · have e1 : s.heap[q]? = some s.heap[q] := Array.getElem?_eq_getElem hq
    rw [e1]
    refine h5 q _ ?_
    rw [hT, w.2.2.2.1 q hq hA]
    exact e1
end XE
