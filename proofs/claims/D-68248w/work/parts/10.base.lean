/-! BASE LAYER: the heap as a table of Ints; rows for instructions over Ints -/
section BaseNum
abbrev vI (x : Int) : Value := .int (Int32.ofInt x)
abbrev vL (x : Int) : Value := .long (Int64.ofInt x)
def inI (x : Int) : Prop := -2147483648 ≤ x ∧ x < 2147483648
def inL (x : Int) : Prop := -9223372036854775808 ≤ x ∧ x < 9223372036854775808
theorem inI_t {x : Int} (h : inI x) : (Int32.ofInt x).toInt = x := Int32.toInt_ofInt_of_le h.1 h.2
theorem inL_t {x : Int} (h : inL x) : (Int64.ofInt x).toInt = x := Int64.toInt_ofInt_of_le h.1 h.2
theorem inI_eq {x y : Int} (hx : inI x) (hy : inI y) : Int32.ofInt x = Int32.ofInt y ↔ x = y := by
  rw [← Int32.toInt_inj, inI_t hx, inI_t hy]
theorem inI_lt {x y : Int} (hx : inI x) (hy : inI y) : Int32.ofInt x < Int32.ofInt y ↔ x < y := by
  rw [Int32.lt_iff_toInt_lt, inI_t hx, inI_t hy]
theorem inI_le {x y : Int} (hx : inI x) (hy : inI y) : Int32.ofInt x ≤ Int32.ofInt y ↔ x ≤ y := by
  rw [Int32.le_iff_toInt_le, inI_t hx, inI_t hy]
theorem inL_eq {x y : Int} (hx : inL x) (hy : inL y) : Int64.ofInt x = Int64.ofInt y ↔ x = y := by
  rw [← Int64.toInt_inj, inL_t hx, inL_t hy]
theorem inL_lt {x y : Int} (hx : inL x) (hy : inL y) : Int64.ofInt x < Int64.ofInt y ↔ x < y := by
  rw [Int64.lt_iff_toInt_lt, inL_t hx, inL_t hy]
theorem inI_0 : inI 0 := by constructor <;> decide
theorem inI_clamp {x : Int} (h : inI x) : (Int32.ofInt x).toNatClampNeg = x.toNat := by
  show (Int32.ofInt x).toInt.toNat = x.toNat
  rw [inI_t h]
theorem inI_in {x : Int} {n : Nat} (h0 : 0 ≤ x) (h1 : x < n) (hn : n < 2147483648) : vp_in (Int32.ofInt x) n := by
  have hx : inI x := ⟨by omega, by omega⟩
  rw [vp_in_iff, inI_t hx]
  exact ⟨h0, h1⟩
theorem inI_i2l {x : Int} (h : inI x) : (Int32.ofInt x).toInt64 = Int64.ofInt x := by
  rw [← Int64.toInt_inj, Int32.toInt_toInt64, inI_t h, Int64.toInt_ofInt_of_le (by have := h.1; omega) (by have := h.2; omega)]
theorem l2i_of (x : Int) : (Int64.ofInt x).toInt32 = Int32.ofInt x := by
  first | exact Int64.toInt32_ofInt x | simp
theorem inI_div {x y : Int} (hx : inI x) (hy : inI y) (h0 : y ≠ 0) : Int32.ofInt x / Int32.ofInt y = Int32.ofInt (x.tdiv y) := by
  rw [Int32.ofInt_tdiv hx.1 (by have := hx.2; show x ≤ 2147483647; omega) hy.1 (by have := hy.2; show y ≤ 2147483647; omega)]
theorem inL_div {x y : Int} (hx : inL x) (hy : inL y) (h0 : y ≠ 0) : Int64.ofInt x / Int64.ofInt y = Int64.ofInt (x.tdiv y) := by
  rw [Int64.ofInt_tdiv hx.1 (by have := hx.2; show x ≤ 9223372036854775807; omega) hy.1 (by have := hy.2; show y ≤ 9223372036854775807; omega)]
theorem inI_rem {x y : Int} (hx : inI x) (hy : inI y) (h0 : y ≠ 0) : Int32.ofInt x - Int32.ofInt x / Int32.ofInt y * Int32.ofInt y = Int32.ofInt (x.tmod y) := by
  rw [inI_div hx hy h0, ← Int32.ofInt_mul, ← Int32.ofInt_sub, Int.tmod_def, Int.mul_comm]
theorem inL_rem {x y : Int} (hx : inL x) (hy : inL y) (h0 : y ≠ 0) : Int64.ofInt x - Int64.ofInt x / Int64.ofInt y * Int64.ofInt y = Int64.ofInt (x.tmod y) := by
  rw [inL_div hx hy h0, ← Int64.ofInt_mul, ← Int64.ofInt_sub, Int.tmod_def, Int.mul_comm]
theorem inI_ne0 {x : Int} (h : inI x) (h0 : x ≠ 0) : ¬ Int32.ofInt x = 0 := fun q => h0 ((inI_eq h inI_0).mp q)
theorem inL_ne0 {x : Int} (h : inL x) (h0 : x ≠ 0) : ¬ Int64.ofInt x = 0 := fun q => h0 ((inL_eq h ⟨by decide, by decide⟩).mp q)
end BaseNum
section BaseRows
variable {p : Program} {l : Launch} {e : Env} {R : Room} {s : State} {m : MethodId} {args : Array Value} {below : List Frame} {meth : Method} {c : Code} {H : Heap} {locs : List Loc} {cells slots : Nat} {Q : State → Prop}
variable {cc : ByteArray} {pc : Nat} {ls : Array Slot} {rest : List Value}

theorem ra_iadd (hx : p.tables.exec = Jvm.exec) (hb : c.code = cc) {x y : Int} (hdg : decode cc pc = .ok (.iadd, 1)) (k : W p l e R s m args below meth c H locs cells slots Q (F0 m (pc + 1) ls (vI (x + y) :: rest))) : W p l e R s m args below meth c H locs cells slots Q (F0 m pc ls (vI y :: vI x :: rest)) := lv_iadd hx hb hdg (by rw [← Int32.ofInt_add]; exact k)
theorem ra_isub (hx : p.tables.exec = Jvm.exec) (hb : c.code = cc) {x y : Int} (hdg : decode cc pc = .ok (.isub, 1)) (k : W p l e R s m args below meth c H locs cells slots Q (F0 m (pc + 1) ls (vI (x - y) :: rest))) : W p l e R s m args below meth c H locs cells slots Q (F0 m pc ls (vI y :: vI x :: rest)) := lv_isub hx hb hdg (by rw [← Int32.ofInt_sub]; exact k)
theorem ra_imul (hx : p.tables.exec = Jvm.exec) (hb : c.code = cc) {x y : Int} (hdg : decode cc pc = .ok (.imul, 1)) (k : W p l e R s m args below meth c H locs cells slots Q (F0 m (pc + 1) ls (vI (x * y) :: rest))) : W p l e R s m args below meth c H locs cells slots Q (F0 m pc ls (vI y :: vI x :: rest)) := lv_imul hx hb hdg (by rw [← Int32.ofInt_mul]; exact k)
theorem ra_ladd (hx : p.tables.exec = Jvm.exec) (hb : c.code = cc) {x y : Int} (hdg : decode cc pc = .ok (.ladd, 1)) (k : W p l e R s m args below meth c H locs cells slots Q (F0 m (pc + 1) ls (vL (x + y) :: rest))) : W p l e R s m args below meth c H locs cells slots Q (F0 m pc ls (vL y :: vL x :: rest)) := lv_ladd hx hb hdg (by rw [← Int64.ofInt_add]; exact k)
theorem ra_lsub (hx : p.tables.exec = Jvm.exec) (hb : c.code = cc) {x y : Int} (hdg : decode cc pc = .ok (.lsub, 1)) (k : W p l e R s m args below meth c H locs cells slots Q (F0 m (pc + 1) ls (vL (x - y) :: rest))) : W p l e R s m args below meth c H locs cells slots Q (F0 m pc ls (vL y :: vL x :: rest)) := lv_lsub hx hb hdg (by rw [← Int64.ofInt_sub]; exact k)
theorem ra_lmul (hx : p.tables.exec = Jvm.exec) (hb : c.code = cc) {x y : Int} (hdg : decode cc pc = .ok (.lmul, 1)) (k : W p l e R s m args below meth c H locs cells slots Q (F0 m (pc + 1) ls (vL (x * y) :: rest))) : W p l e R s m args below meth c H locs cells slots Q (F0 m pc ls (vL y :: vL x :: rest)) := lv_lmul hx hb hdg (by rw [← Int64.ofInt_mul]; exact k)
theorem ra_ineg (hx : p.tables.exec = Jvm.exec) (hb : c.code = cc) {x : Int} (hdg : decode cc pc = .ok (.ineg, 1)) (k : W p l e R s m args below meth c H locs cells slots Q (F0 m (pc + 1) ls (vI (-x) :: rest))) : W p l e R s m args below meth c H locs cells slots Q (F0 m pc ls (vI x :: rest)) := lv_ineg hx hb hdg (by rw [← Int32.ofInt_neg]; exact k)
theorem ra_lneg (hx : p.tables.exec = Jvm.exec) (hb : c.code = cc) {x : Int} (hdg : decode cc pc = .ok (.lneg, 1)) (k : W p l e R s m args below meth c H locs cells slots Q (F0 m (pc + 1) ls (vL (-x) :: rest))) : W p l e R s m args below meth c H locs cells slots Q (F0 m pc ls (vL x :: rest)) := lv_lneg hx hb hdg (by rw [← Int64.ofInt_neg]; exact k)
theorem ra_idiv (hx : p.tables.exec = Jvm.exec) (hb : c.code = cc) {x y : Int} (h1 : inI x) (h2 : inI y) (h0 : y ≠ 0) (hdg : decode cc pc = .ok (.idiv, 1)) (k : W p l e R s m args below meth c H locs cells slots Q (F0 m (pc + 1) ls (vI (x.tdiv y) :: rest))) : W p l e R s m args below meth c H locs cells slots Q (F0 m pc ls (vI y :: vI x :: rest)) := lv_idiv hx hb hdg (inI_ne0 h2 h0) (by rw [inI_div h1 h2 h0]; exact k)
theorem ra_irem (hx : p.tables.exec = Jvm.exec) (hb : c.code = cc) {x y : Int} (h1 : inI x) (h2 : inI y) (h0 : y ≠ 0) (hdg : decode cc pc = .ok (.irem, 1)) (k : W p l e R s m args below meth c H locs cells slots Q (F0 m (pc + 1) ls (vI (x.tmod y) :: rest))) : W p l e R s m args below meth c H locs cells slots Q (F0 m pc ls (vI y :: vI x :: rest)) := lv_irem hx hb hdg (inI_ne0 h2 h0) (by rw [inI_rem h1 h2 h0]; exact k)
theorem ra_ldiv (hx : p.tables.exec = Jvm.exec) (hb : c.code = cc) {x y : Int} (h1 : inL x) (h2 : inL y) (h0 : y ≠ 0) (hdg : decode cc pc = .ok (.ldiv, 1)) (k : W p l e R s m args below meth c H locs cells slots Q (F0 m (pc + 1) ls (vL (x.tdiv y) :: rest))) : W p l e R s m args below meth c H locs cells slots Q (F0 m pc ls (vL y :: vL x :: rest)) := lv_ldiv hx hb hdg (inL_ne0 h2 h0) (by rw [inL_div h1 h2 h0]; exact k)
theorem ra_lrem (hx : p.tables.exec = Jvm.exec) (hb : c.code = cc) {x y : Int} (h1 : inL x) (h2 : inL y) (h0 : y ≠ 0) (hdg : decode cc pc = .ok (.lrem, 1)) (k : W p l e R s m args below meth c H locs cells slots Q (F0 m (pc + 1) ls (vL (x.tmod y) :: rest))) : W p l e R s m args below meth c H locs cells slots Q (F0 m pc ls (vL y :: vL x :: rest)) := lv_lrem hx hb hdg (inL_ne0 h2 h0) (by rw [inL_rem h1 h2 h0]; exact k)
theorem ra_i2l (hx : p.tables.exec = Jvm.exec) (hb : c.code = cc) {x : Int} (h : inI x) (hdg : decode cc pc = .ok (.i2l, 1)) (k : W p l e R s m args below meth c H locs cells slots Q (F0 m (pc + 1) ls (vL x :: rest))) : W p l e R s m args below meth c H locs cells slots Q (F0 m pc ls (vI x :: rest)) := lv_i2l hx hb hdg (inI_i2l h) k
theorem ra_l2i (hx : p.tables.exec = Jvm.exec) (hb : c.code = cc) {x : Int} (hdg : decode cc pc = .ok (.l2i, 1)) (k : W p l e R s m args below meth c H locs cells slots Q (F0 m (pc + 1) ls (vI x :: rest))) : W p l e R s m args below meth c H locs cells slots Q (F0 m pc ls (vL x :: rest)) := lv_l2i hx hb hdg (l2i_of x) k
theorem ra_iconst (hx : p.tables.exec = Jvm.exec) (hb : c.code = cc) {n : Int} (hdg : decode cc pc = .ok (.iconst n, 1)) (k : W p l e R s m args below meth c H locs cells slots Q (F0 m (pc + 1) ls (vI n :: rest))) : W p l e R s m args below meth c H locs cells slots Q (F0 m pc ls rest) := lv_iconst hx hb hdg rfl k
theorem ra_bipush (hx : p.tables.exec = Jvm.exec) (hb : c.code = cc) {n : Int} (hdg : decode cc pc = .ok (.bipush n, 2)) (hv : (Int8.ofInt n).toInt32 = Int32.ofInt n) (k : W p l e R s m args below meth c H locs cells slots Q (F0 m (pc + 2) ls (vI n :: rest))) : W p l e R s m args below meth c H locs cells slots Q (F0 m pc ls rest) := lv_bipush hx hb hdg hv k
theorem ra_sipush (hx : p.tables.exec = Jvm.exec) (hb : c.code = cc) {n : Int} (hdg : decode cc pc = .ok (.sipush n, 3)) (hv : (Int16.ofInt n).toInt32 = Int32.ofInt n) (k : W p l e R s m args below meth c H locs cells slots Q (F0 m (pc + 3) ls (vI n :: rest))) : W p l e R s m args below meth c H locs cells slots Q (F0 m pc ls rest) := lv_sipush hx hb hdg hv k
theorem ra_lconst (hx : p.tables.exec = Jvm.exec) (hb : c.code = cc) {n : Fin 2} {z : Int} (hdg : decode cc pc = .ok (.lconst n, 1)) (hz : Int64.ofNat (n : Nat) = Int64.ofInt z) (k : W p l e R s m args below meth c H locs cells slots Q (F0 m (pc + 1) ls (vL z :: rest))) : W p l e R s m args below meth c H locs cells slots Q (F0 m pc ls rest) := lv_lconst hx hb hdg hz k
theorem ra_ldc (hx : p.tables.exec = Jvm.exec) (hb : c.code = cc) {own : String} {index : Nat} {z : Int} (hown : s.vm.findClass own = some m.cls) (hconst : (Jvm.Cond.constant own index (Int32.ofInt z)).before args s = true) (hdg : decode cc pc = .ok (.ldc index, 2)) (k : W p l e R s m args below meth c H locs cells slots Q (F0 m (pc + 2) ls (vI z :: rest))) : W p l e R s m args below meth c H locs cells slots Q (F0 m pc ls rest) := lv_ldc hx hb hown hconst hdg k
theorem ra_ldc2 (hx : p.tables.exec = Jvm.exec) (hb : c.code = cc) {own : String} {index : Nat} {z : Int} (hown : s.vm.findClass own = some m.cls) (hconst : (Jvm.Cond.constantLong own index (Int64.ofInt z)).before args s = true) (hdg : decode cc pc = .ok (.ldc2_w index, 3)) (k : W p l e R s m args below meth c H locs cells slots Q (F0 m (pc + 3) ls (vL z :: rest))) : W p l e R s m args below meth c H locs cells slots Q (F0 m pc ls rest) := lv_ldc2 hx hb hown hconst hdg k
theorem ra_icmp_eq (hx : p.tables.exec = Jvm.exec) (hb : c.code = cc) {x y : Int} (h1 : inI x) (h2 : inI y) {off : Int} {tgt : Nat} (hdg : decode cc pc = .ok (.if_icmp .eq off, 3)) (ht : (pc : Int) + off = (tgt : Int)) (kt : x = y → W p l e R s m args below meth c H locs cells slots Q (F0 m tgt ls rest)) (kf : ¬ (x = y) → W p l e R s m args below meth c H locs cells slots Q (F0 m (pc + 3) ls rest)) : W p l e R s m args below meth c H locs cells slots Q (F0 m pc ls (vI y :: vI x :: rest)) := lv_icmp_eq hx hb hdg ht (fun q => kt ((inI_eq h1 h2).mp q)) (fun q => kf (fun z => q ((inI_eq h1 h2).mpr z)))
theorem ra_if_eq (hx : p.tables.exec = Jvm.exec) (hb : c.code = cc) {x : Int} (h1 : inI x) {off : Int} {tgt : Nat} (hdg : decode cc pc = .ok (.ifCond .eq off, 3)) (ht : (pc : Int) + off = (tgt : Int)) (kt : x = 0 → W p l e R s m args below meth c H locs cells slots Q (F0 m tgt ls rest)) (kf : ¬ (x = 0) → W p l e R s m args below meth c H locs cells slots Q (F0 m (pc + 3) ls rest)) : W p l e R s m args below meth c H locs cells slots Q (F0 m pc ls (vI x :: rest)) := lv_if_eq hx hb hdg ht (fun q => kt ((inI_eq h1 inI_0).mp q)) (fun q => kf (fun z => q ((inI_eq h1 inI_0).mpr z)))
theorem ra_icmp_ne (hx : p.tables.exec = Jvm.exec) (hb : c.code = cc) {x y : Int} (h1 : inI x) (h2 : inI y) {off : Int} {tgt : Nat} (hdg : decode cc pc = .ok (.if_icmp .ne off, 3)) (ht : (pc : Int) + off = (tgt : Int)) (kt : x ≠ y → W p l e R s m args below meth c H locs cells slots Q (F0 m tgt ls rest)) (kf : ¬ (x ≠ y) → W p l e R s m args below meth c H locs cells slots Q (F0 m (pc + 3) ls rest)) : W p l e R s m args below meth c H locs cells slots Q (F0 m pc ls (vI y :: vI x :: rest)) := lv_icmp_ne hx hb hdg ht (fun q => kt (fun z => q ((inI_eq h1 h2).mpr z))) (fun q => kf (fun z => z ((inI_eq h1 h2).mp q)))
theorem ra_if_ne (hx : p.tables.exec = Jvm.exec) (hb : c.code = cc) {x : Int} (h1 : inI x) {off : Int} {tgt : Nat} (hdg : decode cc pc = .ok (.ifCond .ne off, 3)) (ht : (pc : Int) + off = (tgt : Int)) (kt : x ≠ 0 → W p l e R s m args below meth c H locs cells slots Q (F0 m tgt ls rest)) (kf : ¬ (x ≠ 0) → W p l e R s m args below meth c H locs cells slots Q (F0 m (pc + 3) ls rest)) : W p l e R s m args below meth c H locs cells slots Q (F0 m pc ls (vI x :: rest)) := lv_if_ne hx hb hdg ht (fun q => kt (fun z => q ((inI_eq h1 inI_0).mpr z))) (fun q => kf (fun z => z ((inI_eq h1 inI_0).mp q)))
theorem ra_icmp_lt (hx : p.tables.exec = Jvm.exec) (hb : c.code = cc) {x y : Int} (h1 : inI x) (h2 : inI y) {off : Int} {tgt : Nat} (hdg : decode cc pc = .ok (.if_icmp .lt off, 3)) (ht : (pc : Int) + off = (tgt : Int)) (kt : x < y → W p l e R s m args below meth c H locs cells slots Q (F0 m tgt ls rest)) (kf : ¬ (x < y) → W p l e R s m args below meth c H locs cells slots Q (F0 m (pc + 3) ls rest)) : W p l e R s m args below meth c H locs cells slots Q (F0 m pc ls (vI y :: vI x :: rest)) := lv_icmp_lt hx hb hdg ht (fun q => kt ((inI_lt h1 h2).mp q)) (fun q => kf (fun z => q ((inI_lt h1 h2).mpr z)))
theorem ra_if_lt (hx : p.tables.exec = Jvm.exec) (hb : c.code = cc) {x : Int} (h1 : inI x) {off : Int} {tgt : Nat} (hdg : decode cc pc = .ok (.ifCond .lt off, 3)) (ht : (pc : Int) + off = (tgt : Int)) (kt : x < 0 → W p l e R s m args below meth c H locs cells slots Q (F0 m tgt ls rest)) (kf : ¬ (x < 0) → W p l e R s m args below meth c H locs cells slots Q (F0 m (pc + 3) ls rest)) : W p l e R s m args below meth c H locs cells slots Q (F0 m pc ls (vI x :: rest)) := lv_if_lt hx hb hdg ht (fun q => kt ((inI_lt h1 inI_0).mp q)) (fun q => kf (fun z => q ((inI_lt h1 inI_0).mpr z)))
theorem ra_icmp_ge (hx : p.tables.exec = Jvm.exec) (hb : c.code = cc) {x y : Int} (h1 : inI x) (h2 : inI y) {off : Int} {tgt : Nat} (hdg : decode cc pc = .ok (.if_icmp .ge off, 3)) (ht : (pc : Int) + off = (tgt : Int)) (kt : y ≤ x → W p l e R s m args below meth c H locs cells slots Q (F0 m tgt ls rest)) (kf : ¬ (y ≤ x) → W p l e R s m args below meth c H locs cells slots Q (F0 m (pc + 3) ls rest)) : W p l e R s m args below meth c H locs cells slots Q (F0 m pc ls (vI y :: vI x :: rest)) := lv_icmp_ge hx hb hdg ht (fun q => kt ((inI_le h2 h1).mp q)) (fun q => kf (fun z => q ((inI_le h2 h1).mpr z)))
theorem ra_if_ge (hx : p.tables.exec = Jvm.exec) (hb : c.code = cc) {x : Int} (h1 : inI x) {off : Int} {tgt : Nat} (hdg : decode cc pc = .ok (.ifCond .ge off, 3)) (ht : (pc : Int) + off = (tgt : Int)) (kt : 0 ≤ x → W p l e R s m args below meth c H locs cells slots Q (F0 m tgt ls rest)) (kf : ¬ (0 ≤ x) → W p l e R s m args below meth c H locs cells slots Q (F0 m (pc + 3) ls rest)) : W p l e R s m args below meth c H locs cells slots Q (F0 m pc ls (vI x :: rest)) := lv_if_ge hx hb hdg ht (fun q => kt ((inI_le inI_0 h1).mp q)) (fun q => kf (fun z => q ((inI_le inI_0 h1).mpr z)))
theorem ra_icmp_gt (hx : p.tables.exec = Jvm.exec) (hb : c.code = cc) {x y : Int} (h1 : inI x) (h2 : inI y) {off : Int} {tgt : Nat} (hdg : decode cc pc = .ok (.if_icmp .gt off, 3)) (ht : (pc : Int) + off = (tgt : Int)) (kt : y < x → W p l e R s m args below meth c H locs cells slots Q (F0 m tgt ls rest)) (kf : ¬ (y < x) → W p l e R s m args below meth c H locs cells slots Q (F0 m (pc + 3) ls rest)) : W p l e R s m args below meth c H locs cells slots Q (F0 m pc ls (vI y :: vI x :: rest)) := lv_icmp_gt hx hb hdg ht (fun q => kt ((inI_lt h2 h1).mp q)) (fun q => kf (fun z => q ((inI_lt h2 h1).mpr z)))
theorem ra_if_gt (hx : p.tables.exec = Jvm.exec) (hb : c.code = cc) {x : Int} (h1 : inI x) {off : Int} {tgt : Nat} (hdg : decode cc pc = .ok (.ifCond .gt off, 3)) (ht : (pc : Int) + off = (tgt : Int)) (kt : 0 < x → W p l e R s m args below meth c H locs cells slots Q (F0 m tgt ls rest)) (kf : ¬ (0 < x) → W p l e R s m args below meth c H locs cells slots Q (F0 m (pc + 3) ls rest)) : W p l e R s m args below meth c H locs cells slots Q (F0 m pc ls (vI x :: rest)) := lv_if_gt hx hb hdg ht (fun q => kt ((inI_lt inI_0 h1).mp q)) (fun q => kf (fun z => q ((inI_lt inI_0 h1).mpr z)))
theorem ra_icmp_le (hx : p.tables.exec = Jvm.exec) (hb : c.code = cc) {x y : Int} (h1 : inI x) (h2 : inI y) {off : Int} {tgt : Nat} (hdg : decode cc pc = .ok (.if_icmp .le off, 3)) (ht : (pc : Int) + off = (tgt : Int)) (kt : x ≤ y → W p l e R s m args below meth c H locs cells slots Q (F0 m tgt ls rest)) (kf : ¬ (x ≤ y) → W p l e R s m args below meth c H locs cells slots Q (F0 m (pc + 3) ls rest)) : W p l e R s m args below meth c H locs cells slots Q (F0 m pc ls (vI y :: vI x :: rest)) := lv_icmp_le hx hb hdg ht (fun q => kt ((inI_le h1 h2).mp q)) (fun q => kf (fun z => q ((inI_le h1 h2).mpr z)))
theorem ra_if_le (hx : p.tables.exec = Jvm.exec) (hb : c.code = cc) {x : Int} (h1 : inI x) {off : Int} {tgt : Nat} (hdg : decode cc pc = .ok (.ifCond .le off, 3)) (ht : (pc : Int) + off = (tgt : Int)) (kt : x ≤ 0 → W p l e R s m args below meth c H locs cells slots Q (F0 m tgt ls rest)) (kf : ¬ (x ≤ 0) → W p l e R s m args below meth c H locs cells slots Q (F0 m (pc + 3) ls rest)) : W p l e R s m args below meth c H locs cells slots Q (F0 m pc ls (vI x :: rest)) := lv_if_le hx hb hdg ht (fun q => kt ((inI_le h1 inI_0).mp q)) (fun q => kf (fun z => q ((inI_le h1 inI_0).mpr z)))
theorem lg_cmp_of {x y : Int} (h1 : inL x) (h2 : inL y) : lg_cmp (Int64.ofInt x) (Int64.ofInt y) = Int32.ofInt (if y < x then 1 else if x = y then 0 else -1) := by
  unfold lg_cmp
  by_cases a : y < x
  · rw [if_pos ((inL_lt h2 h1).mpr a), if_pos a]; rfl
  · rw [if_neg (fun q => a ((inL_lt h2 h1).mp q)), if_neg a]
    by_cases b : x = y
    · rw [if_pos ((inL_eq h1 h2).mpr b), if_pos b]; rfl
    · rw [if_neg (fun q => b ((inL_eq h1 h2).mp q)), if_neg b]; rfl
theorem ra_lcmp_eq (hx : p.tables.exec = Jvm.exec) (hb : c.code = cc) {x y : Int} (h1 : inL x) (h2 : inL y) {off : Int} {tgt : Nat} (hd1 : decode cc pc = .ok (.lcmp, 1)) (hdg : decode cc (pc + 1) = .ok (.ifCond .eq off, 3)) (ht : ((pc + 1 : Nat) : Int) + off = (tgt : Int)) (kt : x = y → W p l e R s m args below meth c H locs cells slots Q (F0 m tgt ls rest)) (kf : ¬ (x = y) → W p l e R s m args below meth c H locs cells slots Q (F0 m (pc + 1 + 3) ls rest)) : W p l e R s m args below meth c H locs cells slots Q (F0 m pc ls (vL y :: vL x :: rest)) := by
  refine W.lcmp hx hb hd1 ?_
  rw [lg_cmp_of h1 h2]
  refine ra_if_eq hx hb (by constructor <;> (split <;> (try split) <;> decide)) hdg ht (fun q => kt ?_) (fun q => kf (fun z => q ?_))
  · revert q; split <;> (try split) <;> intro q <;> omega
  · revert z; split <;> (try split) <;> intro z <;> omega
theorem ra_lcmp_ne (hx : p.tables.exec = Jvm.exec) (hb : c.code = cc) {x y : Int} (h1 : inL x) (h2 : inL y) {off : Int} {tgt : Nat} (hd1 : decode cc pc = .ok (.lcmp, 1)) (hdg : decode cc (pc + 1) = .ok (.ifCond .ne off, 3)) (ht : ((pc + 1 : Nat) : Int) + off = (tgt : Int)) (kt : x ≠ y → W p l e R s m args below meth c H locs cells slots Q (F0 m tgt ls rest)) (kf : ¬ (x ≠ y) → W p l e R s m args below meth c H locs cells slots Q (F0 m (pc + 1 + 3) ls rest)) : W p l e R s m args below meth c H locs cells slots Q (F0 m pc ls (vL y :: vL x :: rest)) := by
  refine W.lcmp hx hb hd1 ?_
  rw [lg_cmp_of h1 h2]
  refine ra_if_ne hx hb (by constructor <;> (split <;> (try split) <;> decide)) hdg ht (fun q => kt ?_) (fun q => kf (fun z => q ?_))
  · revert q; split <;> (try split) <;> intro q <;> omega
  · revert z; split <;> (try split) <;> intro z <;> omega
theorem ra_lcmp_lt (hx : p.tables.exec = Jvm.exec) (hb : c.code = cc) {x y : Int} (h1 : inL x) (h2 : inL y) {off : Int} {tgt : Nat} (hd1 : decode cc pc = .ok (.lcmp, 1)) (hdg : decode cc (pc + 1) = .ok (.ifCond .lt off, 3)) (ht : ((pc + 1 : Nat) : Int) + off = (tgt : Int)) (kt : x < y → W p l e R s m args below meth c H locs cells slots Q (F0 m tgt ls rest)) (kf : ¬ (x < y) → W p l e R s m args below meth c H locs cells slots Q (F0 m (pc + 1 + 3) ls rest)) : W p l e R s m args below meth c H locs cells slots Q (F0 m pc ls (vL y :: vL x :: rest)) := by
  refine W.lcmp hx hb hd1 ?_
  rw [lg_cmp_of h1 h2]
  refine ra_if_lt hx hb (by constructor <;> (split <;> (try split) <;> decide)) hdg ht (fun q => kt ?_) (fun q => kf (fun z => q ?_))
  · revert q; split <;> (try split) <;> intro q <;> omega
  · revert z; split <;> (try split) <;> intro z <;> omega
theorem ra_lcmp_ge (hx : p.tables.exec = Jvm.exec) (hb : c.code = cc) {x y : Int} (h1 : inL x) (h2 : inL y) {off : Int} {tgt : Nat} (hd1 : decode cc pc = .ok (.lcmp, 1)) (hdg : decode cc (pc + 1) = .ok (.ifCond .ge off, 3)) (ht : ((pc + 1 : Nat) : Int) + off = (tgt : Int)) (kt : y ≤ x → W p l e R s m args below meth c H locs cells slots Q (F0 m tgt ls rest)) (kf : ¬ (y ≤ x) → W p l e R s m args below meth c H locs cells slots Q (F0 m (pc + 1 + 3) ls rest)) : W p l e R s m args below meth c H locs cells slots Q (F0 m pc ls (vL y :: vL x :: rest)) := by
  refine W.lcmp hx hb hd1 ?_
  rw [lg_cmp_of h1 h2]
  refine ra_if_ge hx hb (by constructor <;> (split <;> (try split) <;> decide)) hdg ht (fun q => kt ?_) (fun q => kf (fun z => q ?_))
  · revert q; split <;> (try split) <;> intro q <;> omega
  · revert z; split <;> (try split) <;> intro z <;> omega
theorem ra_lcmp_gt (hx : p.tables.exec = Jvm.exec) (hb : c.code = cc) {x y : Int} (h1 : inL x) (h2 : inL y) {off : Int} {tgt : Nat} (hd1 : decode cc pc = .ok (.lcmp, 1)) (hdg : decode cc (pc + 1) = .ok (.ifCond .gt off, 3)) (ht : ((pc + 1 : Nat) : Int) + off = (tgt : Int)) (kt : y < x → W p l e R s m args below meth c H locs cells slots Q (F0 m tgt ls rest)) (kf : ¬ (y < x) → W p l e R s m args below meth c H locs cells slots Q (F0 m (pc + 1 + 3) ls rest)) : W p l e R s m args below meth c H locs cells slots Q (F0 m pc ls (vL y :: vL x :: rest)) := by
  refine W.lcmp hx hb hd1 ?_
  rw [lg_cmp_of h1 h2]
  refine ra_if_gt hx hb (by constructor <;> (split <;> (try split) <;> decide)) hdg ht (fun q => kt ?_) (fun q => kf (fun z => q ?_))
  · revert q; split <;> (try split) <;> intro q <;> omega
  · revert z; split <;> (try split) <;> intro z <;> omega
theorem ra_lcmp_le (hx : p.tables.exec = Jvm.exec) (hb : c.code = cc) {x y : Int} (h1 : inL x) (h2 : inL y) {off : Int} {tgt : Nat} (hd1 : decode cc pc = .ok (.lcmp, 1)) (hdg : decode cc (pc + 1) = .ok (.ifCond .le off, 3)) (ht : ((pc + 1 : Nat) : Int) + off = (tgt : Int)) (kt : x ≤ y → W p l e R s m args below meth c H locs cells slots Q (F0 m tgt ls rest)) (kf : ¬ (x ≤ y) → W p l e R s m args below meth c H locs cells slots Q (F0 m (pc + 1 + 3) ls rest)) : W p l e R s m args below meth c H locs cells slots Q (F0 m pc ls (vL y :: vL x :: rest)) := by
  refine W.lcmp hx hb hd1 ?_
  rw [lg_cmp_of h1 h2]
  refine ra_if_le hx hb (by constructor <;> (split <;> (try split) <;> decide)) hdg ht (fun q => kt ?_) (fun q => kf (fun z => q ?_))
  · revert q; split <;> (try split) <;> intro q <;> omega
  · revert z; split <;> (try split) <;> intro z <;> omega
end BaseRows
