/-! THE WORLD: objects by designators (group, kind, index); their contents a table of Ints -/
section World
abbrev Tab : Type := Nat → Nat → Nat → Nat → Int
abbrev Lay : Type := Nat → Nat → Nat → Nat
abbrev Ids : Type := List (Nat × Nat × Nat)
abbrev clW : List vw_C := [(RX1, TX1, 5), (RX2, TX2, 16), (RX3, TX3, 4), (RX4, TX4, 3), (RX5, TX5, 6), (RX6, TX6, 3), (RX7, TX7, 4), (RX8, TX8, 27)]
abbrev tyW (cA : Nat → ClassId) : List (ClassId × FieldType) := [(cA 0, .int), (cA 1, .boolean), (cA 2, .long), (cA 3, .double), (cA 4, .object RX4), (cA 5, .object RX5), (cA 6, .object RX6), (cA 7, .object RX7), (cA 8, .array .boolean)]
abbrev aI (n : Nat) (r : Nat → Int) : vp_A := (n, .inl fun j => Int32.ofInt (r j))
abbrev aL (n : Nat) (r : Nat → Int) : vp_A := (n, .inr (.inl fun j => Int64.ofInt (r j)))
abbrev aD (n : Nat) (r : Nat → Int) : vp_A := (n, .inr (.inr (.inr (.inl fun j => UInt64.ofNat (r j).toNat))))
abbrev aQ (n : Nat) (f : Nat → Option Nat) : vp_A := (n, .inr (.inr (.inr (.inr f))))
/-- what the object (g, k, i) holds, by its row r of the table -/
def ctR (ad : Lay) (cA : Nat → ClassId) (g k i : Nat) (r : Nat → Int) : va_E := match k with
  | 0 => .inr (1, [.ref (ad g 1 0), .ref (ad g 2 0), .ref (ad g 3 0), .ref (ad g 4 0), .ref (ad g 5 0), .ref (ad g 6 0), .ref (ad g 7 0), .ref (ad g 8 0), .ref (ad g 9 0), .ref (ad g 10 0), .ref (ad g 12 0), vI (r 11), vI (r 12), vI (r 13), vI (r 14), vI (r 15)])
  | 1 => .inl (cA 4, aQ 24 fun j => some (ad g 13 j))
  | 2 => .inl (cA 5, aQ 128 fun j => some (ad g 14 j))
  | 3 => .inl (cA 6, aQ 44 fun j => some (ad g 16 (r j).toNat))
  | 4 => .inl (cA 7, aQ 66 fun j => some (ad g 19 j))
  | 5 => .inl (cA 0, aI 24 r)
  | 6 => .inl (cA 0, aI 24 r)
  | 7 => .inl (cA 0, aI 24 r)
  | 8 => .inl (cA 0, aI 24 r)
  | 9 => .inl (cA 1, aI 24 r)
  | 10 => .inl (cA 8, aQ 24 fun j => some (ad g 11 j))
  | 11 => .inl (cA 1, aI 24 r)
  | 12 => .inr (2, [vL (r 0), vL (r 1), vL (r 2), vL (r 3)])
  | 13 => .inr (3, [vI (r 0), vI (r 1), vI (r 2)])
  | 14 => .inr (4, [.ref (ad g 15 i), vI (r 1), vI (r 2), vI (r 3), vI (r 4), vI (r 5)])
  | 15 => .inr (2, [vL (r 0), vL (r 1), vL (r 2), vL (r 3)])
  | 16 => .inr (5, [.ref (ad g 17 i), .ref (ad g 18 i), vI (r 2)])
  | 17 => .inr (2, [vL (r 0), vL (r 1), vL (r 2), vL (r 3)])
  | 18 => .inl (cA 0, aI 24 r)
  | 19 => .inr (6, [vI (r 0), vI (r 1), vI (r 2), vI (r 3)])
  | 20 => .inr (0, [.ref (ad g 21 0), .ref (ad (r 1).toNat 0 0), .ref (ad (r 2).toNat 0 0), vI (r 3), vI (r 4)])
  | 21 => .inl (cA 4, aQ 24 fun j => some (ad g 22 j))
  | 22 => .inr (3, [vI (r 0), vI (r 1), vI (r 2)])
  | 23 => .inr (7, [vI (r 0), vI (r 1), .ref (ad g 24 0), .ref (ad g 25 0), .ref (ad g 26 0), vI (r 5), vI (r 6), vI (r 7), .ref (ad g 27 0), .ref (ad g 28 0), .ref (ad g 29 0), vI (r 11), .ref (ad g 30 0), .ref (ad g 31 0), .ref (ad g 32 0), .ref (ad g 33 0), .ref (ad g 34 0), .ref (ad g 35 0), .ref (ad g 36 0), vI (r 19), .ref (ad g 37 0), .ref (ad g 38 0), .ref (ad g 39 0), vL (r 23), vL (r 24), vL (r 25), .ref (ad g 40 0)])
  | 24 => .inl (cA 0, aI 24 r)
  | 25 => .inl (cA 0, aI 24 r)
  | 26 => .inl (cA 0, aI 24 r)
  | 27 => .inl (cA 2, aL 24 r)
  | 28 => .inl (cA 2, aL 24 r)
  | 29 => .inl (cA 2, aL 24 r)
  | 30 => .inl (cA 2, aL 64 r)
  | 31 => .inl (cA 2, aL 64 r)
  | 32 => .inl (cA 2, aL 64 r)
  | 33 => .inl (cA 2, aL 64 r)
  | 34 => .inl (cA 0, aI 64 r)
  | 35 => .inl (cA 0, aI 1536 r)
  | 36 => .inl (cA 0, aI 64 r)
  | 37 => .inl (cA 0, aI 128 r)
  | 38 => .inl (cA 0, aI 128 r)
  | 39 => .inl (cA 0, aI 128 r)
  | 40 => .inl (cA 0, aI 24 r)
  | 41 => .inl (cA 2, aL 1 r)
  | 42 => .inl (cA 3, aD 1 r)
  | _ => .inr (0, [])
/-- the row with one place changed -/
def upr (r : Nat → Int) (j : Nat) (v : Int) : Nat → Int := fun x => if x = j then v else r x
def st (σ : Tab) (g k i j : Nat) (v : Int) : Tab := fun g' k' i' => if g' = g ∧ k' = k ∧ i' = i then upr (σ g k i) j v else σ g' k' i'
theorem st_self (σ : Tab) (g k i j : Nat) (v : Int) : st σ g k i j v g k i = upr (σ g k i) j v := by simp [st]
theorem st_ne {σ : Tab} {g k i j : Nat} {v : Int} {g' k' i' : Nat} (h : ¬ (g' = g ∧ k' = k ∧ i' = i)) : st σ g k i j v g' k' i' = σ g' k' i' := by simp [st, h]
def wl (ids : Ids) (ad : Lay) (cA : Nat → ClassId) (σ : Tab) : va_W := ids.map fun d => (ad d.1 d.2.1 d.2.2, ctR ad cA d.1 d.2.1 d.2.2 (σ d.1 d.2.1 d.2.2))
theorem wl_at {ids : Ids} {ad : Lay} {cA : Nat → ClassId} {σ : Tab} {g k i : Nat} (h : (g, k, i) ∈ ids) : ∃ q : Nat, ids[q]? = some (g, k, i) ∧ (wl ids ad cA σ)[q]? = some (ad g k i, ctR ad cA g k i (σ g k i)) := by
  obtain ⟨q, hq⟩ := List.getElem?_of_mem h
  exact ⟨q, hq, by simp [wl, hq]⟩
theorem wl_nd {A : Nat → Prop} {ids : Ids} {ad : Lay} {cA : Nat → ClassId} {σ : Tab} (hD : va_D A (wl ids ad cA σ)) {p q : Nat} {d : Nat × Nat × Nat} (hp : ids[p]? = some d) (hq : ids[q]? = some d) : p = q := by
  refine hD.1 p q (ad d.1 d.2.1 d.2.2, ctR ad cA d.1 d.2.1 d.2.2 (σ d.1 d.2.1 d.2.2)) (ad d.1 d.2.1 d.2.2, ctR ad cA d.1 d.2.1 d.2.2 (σ d.1 d.2.1 d.2.2)) ?_ ?_ rfl
  · simp [wl, hp]
  · simp [wl, hq]
theorem wl_set {A : Nat → Prop} {ids : Ids} {ad : Lay} {cA : Nat → ClassId} {σ : Tab} {g k i j : Nat} {v : Int} (hD : va_D A (wl ids ad cA σ)) {q : Nat} (hq : ids[q]? = some (g, k, i)) : (wl ids ad cA σ).set q (ad g k i, ctR ad cA g k i (upr (σ g k i) j v)) = wl ids ad cA (st σ g k i j v) := by
  apply List.ext_getElem?
  intro n
  by_cases hn : n = q
  · subst hn
    have hl : n < (wl ids ad cA σ).length := by
      have := (List.getElem?_eq_some_iff.mp hq).1
      simpa [wl] using this
    rw [List.getElem?_set_self hl]
    simp [wl, hq, st_self]
  · rw [List.getElem?_set_ne (Ne.symm hn)]
    cases hd : ids[n]? with
    | none => simp [wl, hd]
    | some d =>
      have hne : ¬ (d.1 = g ∧ d.2.1 = k ∧ d.2.2 = i) := by
        rintro ⟨h1, h2, h3⟩
        apply hn
        apply wl_nd hD (d := d) hd
        rw [hq, ← h1, ← h2, ← h3]
      simp [wl, hd, st_ne hne]
/-- the world at a point of a walk -/
def ww (D : va_G) (ids : Ids) (ad : Lay) (cA : Nat → ClassId) (A : Nat → Prop) (σ : Tab) (H0 H : Heap) (locs : List Loc) : Prop := va_P D clW (wl ids ad cA σ) H ∧ va_D A (wl ids ad cA σ) ∧ va_S A H0 H locs
/-- what stays all through a method's walk -/
def Cx (p : Program) (m : MethodId) (c : Code) (meth : Method) (cc : ByteArray) (nL : Nat) (s : State) (args : Array Value) (own : String) (D : va_G) (cA : Nat → ClassId) (A : Nat → Prop) (nws : List Cond) : Prop :=
  p.tables.exec = Jvm.exec ∧ c.code = cc ∧ meth.locks = false ∧ c.maxLocals = nL ∧ s.vm.findClass own = some m.cls ∧ (∀ w ∈ lw_all, w.before args s = true) ∧ va_K D clW (tyW cA) s ∧ (∀ w ∈ nws, va_Nw w s) ∧ ∀ q : Nat, s.heap.size ≤ q → A q
variable {p : Program} {l : Launch} {e : Env} {R : Room} {s : State} {m : MethodId} {args : Array Value} {below : List Frame} {meth : Method} {c : Code} {H : Heap} {locs : List Loc} {cells slots : Nat} {Q : State → Prop}
variable {cc : ByteArray} {pc nL : Nat} {ls : Array Slot} {rest : List Value} {own : String} {D : va_G} {ids : Ids} {ad : Lay} {cA : Nat → ClassId} {A : Nat → Prop} {σ : Tab} {H0 : Heap} {nws : List Cond} {g k i : Nat}
theorem Cx.x (X : Cx p m c meth cc nL s args own D cA A nws) : p.tables.exec = Jvm.exec := X.1
theorem Cx.b (X : Cx p m c meth cc nL s args own D cA A nws) : c.code = cc := X.2.1
theorem Cx.lk (X : Cx p m c meth cc nL s args own D cA A nws) : meth.locks = false := X.2.2.1
theorem Cx.ml (X : Cx p m c meth cc nL s args own D cA A nws) : c.maxLocals = nL := X.2.2.2.1
theorem Cx.o (X : Cx p m c meth cc nL s args own D cA A nws) : s.vm.findClass own = some m.cls := X.2.2.2.2.1
theorem Cx.t (X : Cx p m c meth cc nL s args own D cA A nws) : ∀ w ∈ lw_all, w.before args s = true := X.2.2.2.2.2.1
theorem Cx.kk (X : Cx p m c meth cc nL s args own D cA A nws) : va_K D clW (tyW cA) s := X.2.2.2.2.2.2.1
theorem Cx.n (X : Cx p m c meth cc nL s args own D cA A nws) : ∀ w ∈ nws, va_Nw w s := X.2.2.2.2.2.2.2.1
theorem Cx.a (X : Cx p m c meth cc nL s args own D cA A nws) : ∀ q : Nat, s.heap.size ≤ q → A q := X.2.2.2.2.2.2.2.2
/-- getfield -/
theorem x_get (X : Cx p m c meth cc nL s args own D cA A nws) (w : ww D ids ad cA A σ H0 H locs) (hd : (g, k, i) ∈ ids) {ci : Nat} {fs : List Value} (hct : ctR ad cA g k i (σ g k i) = .inr (ci, fs)) {C : String} {T : u_T} {N index : Nat} (hin : ∀ w ∈ u_ws C T N, w ∈ lw_all) (hc : clW[ci]? = some (C, T, N)) (j : Nat) (hj : j < N) (hlink : Cond.fieldLink own index C (T j).2.1 (T j).2.2.1 ∈ lw_all) (hC : (T j).1 = C) {v : Value} (hv : fs[j]? = some v) (hdg : decode cc pc = .ok (.getfield index, 3))
    (kk : W p l e R s m args below meth c H locs cells slots Q (F0 m (pc + 3) ls (v :: rest))) : W p l e R s m args below meth c H locs cells slots Q (F0 m pc ls (.ref (ad g k i) :: rest)) := by
  obtain ⟨q, -, hq⟩ := wl_at (ad := ad) (cA := cA) (σ := σ) hd
  rw [hct] at hq
  exact va_get X.x X.b X.t hin X.o X.kk w.1 q hq hc j hj (X.t _ hlink) (fun _ h => by rw [hC] at h; exact h) hv hdg kk
/-- a nest mate's getfield -/
theorem x_getN (X : Cx p m c meth cc nL s args own D cA A nws) (w : ww D ids ad cA A σ H0 H locs) (hd : (g, k, i) ∈ ids) {ci : Nat} {fs : List Value} (hct : ctR ad cA g k i (σ g k i) = .inr (ci, fs)) {C host : String} {T : u_T} {N index : Nat} (hin : ∀ w ∈ u_ws C T N, w ∈ lw_all) (hc : clW[ci]? = some (C, T, N)) (j : Nat) (hj : j < N) (hlink : Cond.fieldLinkNest own index C (T j).2.1 (T j).2.2.1 host ∈ nws) (hC : (T j).1 = C) {v : Value} (hv : fs[j]? = some v) (hdg : decode cc pc = .ok (.getfield index, 3))
    (kk : W p l e R s m args below meth c H locs cells slots Q (F0 m (pc + 3) ls (v :: rest))) : W p l e R s m args below meth c H locs cells slots Q (F0 m pc ls (.ref (ad g k i) :: rest)) := by
  obtain ⟨q, -, hq⟩ := wl_at (ad := ad) (cA := cA) (σ := σ) hd
  rw [hct] at hq
  exact va_getN X.x X.b X.t hin X.o X.kk w.1 q hq hc j hj (X.n _ hlink) (fun _ h => by rw [hC] at h; exact h) hv hdg kk
/-- putfield -/
theorem x_put (X : Cx p m c meth cc nL s args own D cA A nws) (w : ww D ids ad cA A σ H0 H locs) (hd : (g, k, i) ∈ ids) {ci : Nat} {fs : List Value} (hct : ctR ad cA g k i (σ g k i) = .inr (ci, fs)) {C : String} {T : u_T} {N index : Nat} (hin : ∀ w ∈ u_ws C T N, w ∈ lw_all) (ty0 : Nat → FieldType) (hty : ∀ k, k < N → parseFieldDescriptor (T k).2.2.1 = some (ty0 k)) (hnm : ∀ a, a < N → ∀ b, b < N → a ≠ b → (T a).2.1 ≠ (T b).2.1) (hc : clW[ci]? = some (C, T, N)) (j : Nat) (hj : j < N) (hlink : Cond.fieldLink own index C (T j).2.1 (T j).2.2.1 ∈ lw_all) (hC : (T j).1 = C) (hfin : (T j).2.2.2 = false) {v : Value} (hn : narrow (ty0 j) v = v) (hfit : fits (ty0 j) v = true) (hl : j < fs.length) {z : Int} (hct' : ctR ad cA g k i (upr (σ g k i) j z) = .inr (ci, fs.set j v)) (hdg : decode cc pc = .ok (.putfield index, 3))
    (kk : ∀ (τ : Tab) (H1 : Heap) (locs1 : List Loc), τ = st σ g k i j z → ww D ids ad cA A τ H0 H1 locs1 → W p l e R s m args below meth c H1 locs1 cells slots Q (F0 m (pc + 3) ls rest)) : W p l e R s m args below meth c H locs cells slots Q (F0 m pc ls (v :: .ref (ad g k i) :: rest)) := by
  obtain ⟨q, hi, hq⟩ := wl_at (ad := ad) (cA := cA) (σ := σ) hd
  rw [hct] at hq
  refine va_put X.x X.b X.t hin ty0 hty hnm X.o X.kk w.1 w.2.1 w.2.2 q hq hc j hj (X.t _ hlink) (fun _ h => by rw [hC] at h; exact h) hfin (hty j hj) hn hfit hl hdg (fun H1 locs1 hP hD hS => kk _ H1 locs1 rfl ?_)
  rw [← hct', wl_set w.2.1 hi] at hP hD
  exact ⟨hP, hD, hS⟩
theorem xa_clamp {x : Int} {n : Nat} (h0 : 0 ≤ x) (h1 : x < n) (hn : n < 2147483648) : (Int32.ofInt x).toNatClampNeg = x.toNat := inI_clamp ⟨by omega, by omega⟩
/-- array reads -/
theorem x_iald (X : Cx p m c meth cc nL s args own D cA A nws) (w : ww D ids ad cA A σ H0 H locs) (hd : (g, k, i) ∈ ids) {n : Nat} (hct : ctR ad cA g k i (σ g k i) = .inl (cA 0, aI n (σ g k i))) (hn : n < 2147483648) {x : Int} (h0 : 0 ≤ x) (h1 : x < n) (hdg : decode cc pc = .ok (.iaload, 1))
    (kk : W p l e R s m args below meth c H locs cells slots Q (F0 m (pc + 1) ls (vI (σ g k i x.toNat) :: rest))) : W p l e R s m args below meth c H locs cells slots Q (F0 m pc ls (vI x :: .ref (ad g k i) :: rest)) := by
  obtain ⟨q, -, hq⟩ := wl_at (ad := ad) (cA := cA) (σ := σ) hd
  rw [hct] at hq
  refine va_iald X.x X.b X.kk w.1 q 0 hq rfl (inI_in h0 h1 hn) hdg ?_
  rw [xa_clamp h0 h1 hn]
  exact kk
theorem x_zald (X : Cx p m c meth cc nL s args own D cA A nws) (w : ww D ids ad cA A σ H0 H locs) (hd : (g, k, i) ∈ ids) {n : Nat} (hct : ctR ad cA g k i (σ g k i) = .inl (cA 1, aI n (σ g k i))) (hn : n < 2147483648) {x : Int} (h0 : 0 ≤ x) (h1 : x < n) (hdg : decode cc pc = .ok (.baload, 1))
    (kk : W p l e R s m args below meth c H locs cells slots Q (F0 m (pc + 1) ls (vI (σ g k i x.toNat) :: rest))) : W p l e R s m args below meth c H locs cells slots Q (F0 m pc ls (vI x :: .ref (ad g k i) :: rest)) := by
  obtain ⟨q, -, hq⟩ := wl_at (ad := ad) (cA := cA) (σ := σ) hd
  rw [hct] at hq
  refine va_zald X.x X.b X.kk w.1 q 1 hq rfl (inI_in h0 h1 hn) hdg ?_
  rw [xa_clamp h0 h1 hn]
  exact kk
theorem x_lald (X : Cx p m c meth cc nL s args own D cA A nws) (w : ww D ids ad cA A σ H0 H locs) (hd : (g, k, i) ∈ ids) {n : Nat} (hct : ctR ad cA g k i (σ g k i) = .inl (cA 2, aL n (σ g k i))) (hn : n < 2147483648) {x : Int} (h0 : 0 ≤ x) (h1 : x < n) (hdg : decode cc pc = .ok (.laload, 1))
    (kk : W p l e R s m args below meth c H locs cells slots Q (F0 m (pc + 1) ls (vL (σ g k i x.toNat) :: rest))) : W p l e R s m args below meth c H locs cells slots Q (F0 m pc ls (vI x :: .ref (ad g k i) :: rest)) := by
  obtain ⟨q, -, hq⟩ := wl_at (ad := ad) (cA := cA) (σ := σ) hd
  rw [hct] at hq
  refine va_lald X.x X.b X.kk w.1 q 2 hq rfl (inI_in h0 h1 hn) hdg ?_
  rw [xa_clamp h0 h1 hn]
  exact kk
/-- an array of references -/
theorem x_aald (X : Cx p m c meth cc nL s args own D cA A nws) (w : ww D ids ad cA A σ H0 H locs) (hd : (g, k, i) ∈ ids) {n ta : Nat} {f : Nat → Option Nat} {a : Nat} (ty : FieldType) (hct : ctR ad cA g k i (σ g k i) = .inl (cA ta, aQ n f)) (hty : (tyW cA)[ta]? = some (cA ta, ty)) (hr : ty.isReference = true) (hn : n < 2147483648) {x : Int} (h0 : 0 ≤ x) (h1 : x < n) (hf : f x.toNat = some a) (hdg : decode cc pc = .ok (.aaload, 1))
    (kk : W p l e R s m args below meth c H locs cells slots Q (F0 m (pc + 1) ls (.ref a :: rest))) : W p l e R s m args below meth c H locs cells slots Q (F0 m pc ls (vI x :: .ref (ad g k i) :: rest)) := by
  obtain ⟨q, -, hq⟩ := wl_at (ad := ad) (cA := cA) (σ := σ) hd
  rw [hct] at hq
  have hin := inI_in h0 h1 hn
  have hlt : (Int32.ofInt x).toNatClampNeg < n := Nat.not_le.mp fun q => hin (Or.inr q)
  exact W.aald (v := .ref a) (ty := ty) X.x X.b (w.1 q _ hq) ((X.kk.2 ta _ hty).1 n (fun j => va_rf (f j))) hr (fun q => by cases q) (by show ¬ (_ < 0 ∨ (arrV _ _ _).slots.size ≤ _); rw [arrV_size]; exact hin) (by show (arrV _ _ _).slots[_]? = _; rw [arrV_read _ _ hlt, xa_clamp h0 h1 hn, hf]; rfl) rfl rfl hdg kk
theorem upd_I (r : Nat → Int) (j : Nat) (v : Int) : (fun x => Int32.ofInt (upr r j v x)) = upd (fun x => Int32.ofInt (r x)) j (Int32.ofInt v) := by
  funext x
  unfold upr upd
  split <;> rfl
theorem upd_L (r : Nat → Int) (j : Nat) (v : Int) : (fun x => Int64.ofInt (upr r j v x)) = vp_updL (fun x => Int64.ofInt (r x)) j (Int64.ofInt v) := by
  funext x
  unfold upr vp_updL
  split <;> rfl
/-- array stores -/
theorem x_iast (X : Cx p m c meth cc nL s args own D cA A nws) (w : ww D ids ad cA A σ H0 H locs) (hd : (g, k, i) ∈ ids) {n : Nat} (hct : ∀ r, ctR ad cA g k i r = .inl (cA 0, aI n r)) (hn : n < 2147483648) {x v : Int} (h0 : 0 ≤ x) (h1 : x < n) (hdg : decode cc pc = .ok (.iastore, 1))
    (kk : ∀ (τ : Tab) (H1 : Heap) (locs1 : List Loc), τ = st σ g k i x.toNat v → ww D ids ad cA A τ H0 H1 locs1 → W p l e R s m args below meth c H1 locs1 cells slots Q (F0 m (pc + 1) ls rest)) : W p l e R s m args below meth c H locs cells slots Q (F0 m pc ls (vI v :: vI x :: .ref (ad g k i) :: rest)) := by
  obtain ⟨q, hi, hq⟩ := wl_at (ad := ad) (cA := cA) (σ := σ) hd
  rw [hct] at hq
  refine va_iast X.x X.b X.kk w.1 w.2.1 w.2.2 q 0 hq rfl (inI_in h0 h1 hn) hdg (fun H1 locs1 hP hD hS => kk _ H1 locs1 rfl ?_)
  rw [xa_clamp h0 h1 hn, ← upd_I, ← hct, wl_set w.2.1 hi] at hP hD
  exact ⟨hP, hD, hS⟩
theorem x_last (X : Cx p m c meth cc nL s args own D cA A nws) (w : ww D ids ad cA A σ H0 H locs) (hd : (g, k, i) ∈ ids) {n : Nat} (hct : ∀ r, ctR ad cA g k i r = .inl (cA 2, aL n r)) (hn : n < 2147483648) {x v : Int} (h0 : 0 ≤ x) (h1 : x < n) (hdg : decode cc pc = .ok (.lastore, 1))
    (kk : ∀ (τ : Tab) (H1 : Heap) (locs1 : List Loc), τ = st σ g k i x.toNat v → ww D ids ad cA A τ H0 H1 locs1 → W p l e R s m args below meth c H1 locs1 cells slots Q (F0 m (pc + 1) ls rest)) : W p l e R s m args below meth c H locs cells slots Q (F0 m pc ls (vL v :: vI x :: .ref (ad g k i) :: rest)) := by
  obtain ⟨q, hi, hq⟩ := wl_at (ad := ad) (cA := cA) (σ := σ) hd
  rw [hct] at hq
  refine va_last X.x X.b X.kk w.1 w.2.1 w.2.2 q 2 hq rfl (inI_in h0 h1 hn) hdg (fun H1 locs1 hP hD hS => kk _ H1 locs1 rfl ?_)
  rw [xa_clamp h0 h1 hn, ← upd_L, ← hct, wl_set w.2.1 hi] at hP hD
  exact ⟨hP, hD, hS⟩
theorem x_zast (X : Cx p m c meth cc nL s args own D cA A nws) (w : ww D ids ad cA A σ H0 H locs) (hd : (g, k, i) ∈ ids) {n : Nat} (hct : ∀ r, ctR ad cA g k i r = .inl (cA 1, aI n r)) (hn : n < 2147483648) {x v : Int} (hv : vp_nar .boolean (Int32.ofInt v) = Int32.ofInt v) (h0 : 0 ≤ x) (h1 : x < n) (hdg : decode cc pc = .ok (.bastore, 1))
    (kk : ∀ (τ : Tab) (H1 : Heap) (locs1 : List Loc), τ = st σ g k i x.toNat v → ww D ids ad cA A τ H0 H1 locs1 → W p l e R s m args below meth c H1 locs1 cells slots Q (F0 m (pc + 1) ls rest)) : W p l e R s m args below meth c H locs cells slots Q (F0 m pc ls (vI v :: vI x :: .ref (ad g k i) :: rest)) := by
  obtain ⟨q, hi, hq⟩ := wl_at (ad := ad) (cA := cA) (σ := σ) hd
  rw [hct] at hq
  refine va_zast X.x X.b X.kk w.1 w.2.1 w.2.2 q 1 hq rfl (inI_in h0 h1 hn) hdg (fun H1 locs1 hP hD hS => kk _ H1 locs1 rfl ?_)
  rw [hv, xa_clamp h0 h1 hn, ← upd_I, ← hct, wl_set w.2.1 hi] at hP hD
  exact ⟨hP, hD, hS⟩
theorem ra_nmI {x : Int} (kk : ∀ y : Int, y = x → W p l e R s m args below meth c H locs cells slots Q (F0 m pc ls (vI y :: rest))) : W p l e R s m args below meth c H locs cells slots Q (F0 m pc ls (vI x :: rest)) := kk x rfl
theorem ra_nmL {x : Int} (kk : ∀ y : Int, y = x → W p l e R s m args below meth c H locs cells slots Q (F0 m pc ls (vL y :: rest))) : W p l e R s m args below meth c H locs cells slots Q (F0 m pc ls (vL x :: rest)) := kk x rfl
/-- faces' array: a reference is stored -/
theorem x_fast (X : Cx p m c meth cc nL s args own D cA A nws) (w : ww D ids ad cA A σ H0 H locs) (hd : (g, 3, i) ∈ ids) {z : Int} (hz : (g, 16, z.toNat) ∈ ids) {x : Int} (h0 : 0 ≤ x) (h1 : x < 44) (hdg : decode cc pc = .ok (.aastore, 1))
    (kk : ∀ (τ : Tab) (H1 : Heap) (locs1 : List Loc), τ = st σ g 3 i x.toNat z → ww D ids ad cA A τ H0 H1 locs1 → W p l e R s m args below meth c H1 locs1 cells slots Q (F0 m (pc + 1) ls rest)) : W p l e R s m args below meth c H locs cells slots Q (F0 m pc ls (.ref (ad g 16 z.toNat) :: vI x :: .ref (ad g 3 i) :: rest)) := by
  obtain ⟨q, hi, hq⟩ := wl_at (ad := ad) (cA := cA) (σ := σ) hd
  obtain ⟨q1, -, hq1⟩ := wl_at (ad := ad) (cA := cA) (σ := σ) hz
  refine va_astq X.x X.b X.kk w.1 w.2.1 w.2.2 q 6 q1 5 hq rfl hq1 rfl (inI_in h0 h1 (by decide)) hdg (fun H1 locs1 hP hD hS => kk _ H1 locs1 rfl ?_)
  have e1 : ((cA 6, aQ 44 (va_up (fun j => some (ad g 16 (σ g 3 i j).toNat)) (Int32.ofInt x).toNatClampNeg (some (ad g 16 z.toNat)))) : ClassId × vp_A) = (cA 6, aQ 44 fun j => some (ad g 16 (upr (σ g 3 i) x.toNat z j).toNat)) := by
    rw [xa_clamp h0 h1 (by decide)]
    congr 5
    funext j
    unfold va_up upr
    split <;> rfl
  rw [e1] at hP hD
  have e2 : (Sum.inl (cA 6, aQ 44 fun j => some (ad g 16 (upr (σ g 3 i) x.toNat z j).toNat)) : va_E) = ctR ad cA g 3 i (upr (σ g 3 i) x.toNat z) := rfl
  rw [e2, wl_set w.2.1 hi] at hP hD
  exact ⟨hP, hD, hS⟩
theorem tn {x : Int} {n : Nat} (h : 0 ≤ x ∧ x < n) : x.toNat < n := by omega
theorem inI_bd {x : Int} {n : Int} (h : 0 ≤ x ∧ x < n) (hn : n ≤ 2147483648) : inI x := ⟨by omega, by omega⟩
/-- kinds of points and of planes -/
def isPt (k : Nat) : Prop := k = 13 ∨ k = 22
def isPl (k : Nat) : Prop := k = 12 ∨ k = 15 ∨ k = 17
theorem ct_pt {k : Nat} (h : isPt k) (ad : Lay) (cA : Nat → ClassId) (g i : Nat) (r : Nat → Int) : ctR ad cA g k i r = .inr (3, [vI (r 0), vI (r 1), vI (r 2)]) := by
  rcases h with rfl | rfl <;> rfl
theorem ct_pl {k : Nat} (h : isPl k) (ad : Lay) (cA : Nat → ClassId) (g i : Nat) (r : Nat → Int) : ctR ad cA g k i r = .inr (2, [vL (r 0), vL (r 1), vL (r 2), vL (r 3)]) := by
  rcases h with rfl | rfl | rfl <;> rfl
/-- how many objects of each kind a hull has -/
def hcN (k : Nat) : Nat := match k with
  | 11 => 24
  | 13 => 24
  | 14 => 128
  | 15 => 128
  | 16 => 44
  | 17 => 44
  | 18 => 44
  | 19 => 66
  | 0 => 1 | 1 => 1 | 2 => 1 | 3 => 1 | 4 => 1 | 5 => 1 | 6 => 1 | 7 => 1 | 8 => 1 | 9 => 1 | 10 => 1 | 12 => 1
  | _ => 0
def HasH (ids : Ids) (g : Nat) : Prop := ∀ k i, i < hcN k → (g, k, i) ∈ ids
def HasB (ids : Ids) : Prop := (0, 20, 0) ∈ ids ∧ (0, 21, 0) ∈ ids ∧ ∀ i, i < 24 → (0, 22, i) ∈ ids
def HasM (ids : Ids) : Prop := ∀ k, 23 ≤ k ∧ k < 41 → (0, k, 0) ∈ ids
end World
