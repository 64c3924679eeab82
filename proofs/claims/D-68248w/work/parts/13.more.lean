/-! more rows over the world: a row copied, flags -/
section More
theorem nar_z {v : Int} (h : v = 0 ∨ v = 1) : narrow .boolean (vI v) = vI v := by rcases h with rfl | rfl <;> rfl
theorem fit_z {v : Int} (h : v = 0 ∨ v = 1) : fits .boolean (vI v) = true := by rcases h with rfl | rfl <;> rfl
theorem nar_b {v : Int} (h : v = 0 ∨ v = 1) : vp_nar .boolean (Int32.ofInt v) = Int32.ofInt v := by rcases h with rfl | rfl <;> rfl
def strow (σ : Tab) (g k i : Nat) (r : Nat → Int) : Tab := fun g' k' i' => if g' = g ∧ k' = k ∧ i' = i then r else σ g' k' i'
theorem strow_self (σ : Tab) (g k i : Nat) (r : Nat → Int) : strow σ g k i r g k i = r := by simp [strow]
theorem strow_ne {σ : Tab} {g k i : Nat} {r : Nat → Int} {g' k' i' : Nat} (h : ¬ (g' = g ∧ k' = k ∧ i' = i)) : strow σ g k i r g' k' i' = σ g' k' i' := by simp [strow, h]
theorem wl_setr {A : Nat → Prop} {ids : Ids} {ad : Lay} {cA : Nat → ClassId} {σ : Tab} {g k i : Nat} {r : Nat → Int} (hD : va_D A (wl ids ad cA σ)) {q : Nat} (hq : ids[q]? = some (g, k, i)) : (wl ids ad cA σ).set q (ad g k i, ctR ad cA g k i r) = wl ids ad cA (strow σ g k i r) := by
  apply List.ext_getElem?
  intro n
  by_cases hn : n = q
  · subst hn
    have hl : n < (wl ids ad cA σ).length := by
      have := (List.getElem?_eq_some_iff.mp hq).1
      simpa [wl] using this
    rw [List.getElem?_set_self hl]
    simp [wl, hq, strow_self]
  · rw [List.getElem?_set_ne (Ne.symm hn)]
    cases hd : ids[n]? with
    | none => simp [wl, hd]
    | some d =>
      have hne : ¬ (d.1 = g ∧ d.2.1 = k ∧ d.2.2 = i) := by
        rintro ⟨h1, h2, h3⟩
        apply hn
        apply wl_nd hD (d := d) hd
        rw [hq, ← h1, ← h2, ← h3]
      simp [wl, hd, strow_ne hne]
def cpr (f r : Nat → Int) (n : Nat) : Nat → Int := fun j => if j < n then f j else r j
def cpW (σ : Tab) (g i n : Nat) : Tab := strow σ g 18 i (cpr (σ g 6 0) (σ g 18 i) n)
variable {p : Program} {l : Launch} {e : Env} {R : Room} {s : State} {m : MethodId} {args : Array Value} {below : List Frame} {meth : Method} {c : Code} {H : Heap} {locs : List Loc} {cells slots : Nat} {Q : State → Prop}
variable {cc : ByteArray} {pc nL : Nat} {ls : Array Slot} {rest : List Value} {own : String} {D : va_G} {ids : Ids} {ad : Lay} {cA : Nat → ClassId} {A : Nat → Prop} {σ : Tab} {H0 : Heap} {nws : List Cond} {g k i : Nat}
theorem x_copy (X : Cx p m c meth cc nL s args RX6 D cA A nws) (w : ww D ids ad cA A σ H0 H locs) (hml : ls.size = c.maxLocals) (h6 : (g, 6, 0) ∈ ids) (h18 : (g, 18, i) ∈ ids) {n : Int} (hn : 0 ≤ n ∧ n ≤ 24) (hdg : decode cc pc = .ok (.invokestatic 26, 3)) (hframes : 1 ≤ R.frames) (hlocals : (rest.map fun v => v.category).sum + (nativeFrameWords "java/lang/System" "arraycopy" 5 + 11) ≤ R.locals)
    (kk : ∀ (τ : Tab) (H1 : Heap) (locs1 : List Loc), τ = cpW σ g i n.toNat → ww D ids ad cA A τ H0 H1 locs1 → W p l e R s m args below meth c H1 locs1 cells slots Q (F0 m (pc + 3) ls rest)) : W p l e R s m args below meth c H locs cells slots Q (F0 m pc ls (vI n :: vI 0 :: .ref (ad g 18 i) :: vI 0 :: .ref (ad g 6 0) :: rest)) := by
  obtain ⟨q0, -, hq0⟩ := wl_at (ad := ad) (cA := cA) (σ := σ) h6
  obtain ⟨q1, hi1, hq1⟩ := wl_at (ad := ad) (cA := cA) (σ := σ) h18
  have hnI : inI n := ⟨by omega, by omega⟩
  have hcl : (Int32.ofInt n).toNatClampNeg = n.toNat := inI_clamp hnI
  have h0 : (Int32.ofInt 0).toNatClampNeg = 0 := rfl
  refine va_copyi (f := fun j => Int32.ofInt (σ g 6 0 j)) (g := fun j => Int32.ofInt (σ g 18 i j)) (ty := .int) X.x X.b hml.symm X.o (X.t _ q508) (X.t _ q510) (X.t _ q509) (X.t _ q52) X.kk w.1 w.2.1 w.2.2 q0 q1 0 0 hq0 hq1 rfl rfl rfl (by decide) (by decide) (fun h => by have := (inI_lt hnI inI_0).mp h; omega) (by rw [hcl, h0]; omega) (by rw [hcl, h0]; omega) (fun i _ => rfl) hframes hlocals hdg (fun H1 locs1 hP hD hS => kk _ H1 locs1 rfl ?_)
  have e1 : (va_cpy (fun j => Int32.ofInt (σ g 6 0 j)) (fun j => Int32.ofInt (σ g 18 i j)) (Int32.ofInt 0).toNatClampNeg (Int32.ofInt 0).toNatClampNeg (Int32.ofInt n).toNatClampNeg) = fun j => Int32.ofInt (cpr (σ g 6 0) (σ g 18 i) n.toNat j) := by
    funext j
    rw [hcl, h0]
    unfold va_cpy cpr
    by_cases z : j < n.toNat
    · rw [if_pos ⟨Nat.zero_le _, by omega⟩, if_pos z, Nat.zero_add, Nat.sub_zero]
    · rw [if_neg (fun y => by omega), if_neg z]
  rw [e1] at hP hD
  have e2 : (Sum.inl (cA 0, aI 24 (cpr (σ g 6 0) (σ g 18 i) n.toNat)) : va_E) = ctR ad cA g 18 i (cpr (σ g 6 0) (σ g 18 i) n.toNat) := rfl
  have e3 : wl ids ad cA (cpW σ g i n.toNat) = (wl ids ad cA σ).set q1 (ad g 18 i, ctR ad cA g 18 i (cpr (σ g 6 0) (σ g 18 i) n.toNat)) := (wl_setr w.2.1 hi1).symm
  refine ⟨?_, ?_, hS⟩
  · rw [e3]; exact hP
  · rw [e3]; exact hD
theorem ra_ldcZ (hx : p.tables.exec = Jvm.exec) (hb : c.code = cc) {index : Nat} {z : Int} {v : Int32} (hown : s.vm.findClass own = some m.cls) (hconst : (Jvm.Cond.constant own index v).before args s = true) (hz : v = Int32.ofInt z) (hdg : decode cc pc = .ok (.ldc index, 2)) (k : W p l e R s m args below meth c H locs cells slots Q (F0 m (pc + 2) ls (vI z :: rest))) : W p l e R s m args below meth c H locs cells slots Q (F0 m pc ls rest) := by
  subst hz
  exact ra_ldc hx hb hown hconst hdg k
theorem ra_ldc2Z (hx : p.tables.exec = Jvm.exec) (hb : c.code = cc) {index : Nat} {z : Int} {v : Int64} (hown : s.vm.findClass own = some m.cls) (hconst : (Jvm.Cond.constantLong own index v).before args s = true) (hz : v = Int64.ofInt z) (hdg : decode cc pc = .ok (.ldc2_w index, 3)) (k : W p l e R s m args below meth c H locs cells slots Q (F0 m (pc + 3) ls (vL z :: rest))) : W p l e R s m args below meth c H locs cells slots Q (F0 m pc ls rest) := by
  subst hz
  exact ra_ldc2 hx hb hown hconst hdg k
end More
