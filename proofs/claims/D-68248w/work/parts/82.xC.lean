/-! THROWS: what the constructor of an exception reads in Throwable's statics stays -/
section XC
theorem stat_ev {U V : State} {a a' : Array Value} (hvm : U.vm.Alike V.vm) (hst : ∀ (q : Addr) (cell : Cell), U.heap[q]? = some cell → cell.vm.isStatics = true → V.heap[q]? = some cell) {own name desc : String} {v : Value} (h : (Term.static own name desc).eval a U none [] U = some v) : (Term.static own name desc).eval a' V none [] V = some v := by
  have h2 := Term.static_setVm (args := a) hvm h
  simp only [Term.eval, Option.bind_eq_bind, Option.bind_eq_some_iff] at h2 ⊢
  obtain ⟨⟨c, k, sl⟩, hf, q, hq, cell, hc, h3⟩ := h2
  have hf' : V.fieldNamed? own name desc true = some (c, k, sl) := hf
  have hc' : U.heap[q]? = some cell := hc
  split at h3
  · rename_i his
    exact ⟨(c, k, sl), hf', q, hq, cell, hst q cell hc' his, by rw [if_pos his]; exact h3⟩
  · cases h3
theorem stat_keep {U V : State} {a a' : Array Value} (hvm : U.vm.Alike V.vm) (hst : ∀ (q : Addr) (cell : Cell), U.heap[q]? = some cell → cell.vm.isStatics = true → V.heap[q]? = some cell) {own name desc : String} (h : (Cond.isRef (.static own name desc)).before a U = true) : (Cond.isRef (.static own name desc)).before a' V = true := by
  cases hv : (Term.static own name desc).eval a U none [] U with
  | none => simp [Cond.before, Cond.holds, Cond.value, hv] at h
  | some v =>
    have := stat_ev (a' := a') hvm hst hv
    simp [Cond.before, Cond.holds, Cond.value, hv] at h
    simp [Cond.before, Cond.holds, Cond.value, this]
    exact h
end XC
