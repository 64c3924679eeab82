/-! the walk of X8_thrown X8_within X8_taken X8_goes X8_point X8_take X8_volumeOf X8_solid (written by wip/D-68248w/tools/genwalk.py) -/
section
def wpX8_thrown  (σ : Tab) (P : Int → Tab → Prop) : Prop := P (σ 0 23 0 0) σ
abbrev rmX8_thrown : Room := { frames := 0, cells := 0, slots := 0, locals := 0 }
set_option maxHeartbeats 4000000 in
set_option maxRecDepth 100000 in
theorem mX8_thrown (l : Launch) (D : va_G) (ids : Ids) (ad : Lay) (cA : Nat → ClassId) (A : Nat → Prop) (hM : HasM ids) (σ : Tab) (P : Int → Tab → Prop) (hq : wpX8_thrown  σ P) : Met l yX8_thrown (ws_ yX8_thrown cX8_thrown 1 (some .int)) rmX8_thrown (PcW D ids ad cA A σ [.ref (ad 0 23 0)]) (QI D ids ad cA A P) 0 0 A := by
  refine m_entry (own := RX8) (by decide) (Nat.le_of_ble_eq_true rfl) rfl ?_
  intro p e s m below meth c ls X hr w hl
  have hl : lv_has ls 1 [(0, .ref (ad 0 23 0))] := hl
  unfold wpX8_thrown at hq
  refine lv_aload_n X.x X.b dX8_thrown_0 rfl (lv_at hl 0 rfl) ?_
  refine x_get X w (hM 23 (by decide)) rfl in_X8 rfl 0 (by decide) q671 rfl rfl dX8_thrown_1 ?_
  exact x_iret X hr w hq dX8_thrown_4
def wpX8_within (x0 : Int) (x1 : Int) (σ : Tab) (P : Int → Tab → Prop) : Prop := (inI x0 ∧ (inI (-x1) ∧ ((x0 < -x1 → P 0 σ) ∧ (¬ (x0 < -x1) → (inI x1 ∧ ((x1 < x0 → P 0 σ) ∧ (¬ (x1 < x0) → P 1 σ)))))))
abbrev rmX8_within : Room := { frames := 0, cells := 0, slots := 0, locals := 0 }
set_option maxHeartbeats 4000000 in
set_option maxRecDepth 100000 in
theorem mX8_within (l : Launch) (D : va_G) (ids : Ids) (ad : Lay) (cA : Nat → ClassId) (A : Nat → Prop) (x0 : Int) (x1 : Int) (σ : Tab) (P : Int → Tab → Prop) (hq : wpX8_within x0 x1 σ P) : Met l yX8_within (ws_ yX8_within cX8_within 2 (some .boolean)) rmX8_within (PcW D ids ad cA A σ [vI x0, vI x1]) (QI D ids ad cA A P) 0 0 A := by
  refine m_entry (own := RX8) (by decide) (Nat.le_of_ble_eq_true rfl) rfl ?_
  intro p e s m below meth c ls X hr w hl
  have hl : lv_has ls 2 [(0, vI x0), (1, vI x1)] := hl
  unfold wpX8_within at hq
  refine lv_iload_n X.x X.b dX8_within_0 rfl (lv_at hl 0 rfl) ?_
  refine lv_iload_n X.x X.b dX8_within_1 rfl (lv_at hl 1 rfl) ?_
  refine ra_ineg X.x X.b dX8_within_2 ?_
  obtain ⟨o1, hq⟩ := hq
  obtain ⟨o2, hq⟩ := hq
  refine ra_icmp_lt (tgt := 15) X.x X.b o1 o2 dX8_within_3 (by decide) (fun c3 => ?_) (fun c3 => ?_)
  · have hq := hq.1 c3
    refine ra_iconst X.x X.b dX8_within_15 ?_
    exact x_zret X hr w (by decide) hq dX8_within_16
  · have hq := hq.2 c3
    refine lv_iload_n X.x X.b dX8_within_6 rfl (lv_at hl 0 rfl) ?_
    refine lv_iload_n X.x X.b dX8_within_7 rfl (lv_at hl 1 rfl) ?_
    obtain ⟨o4, hq⟩ := hq
    refine ra_icmp_gt (tgt := 15) X.x X.b o1 o4 dX8_within_8 (by decide) (fun c5 => ?_) (fun c5 => ?_)
    · have hq := hq.1 c5
      refine ra_iconst X.x X.b dX8_within_15 ?_
      exact x_zret X hr w (by decide) hq dX8_within_16
    · have hq := hq.2 c5
      refine ra_iconst X.x X.b dX8_within_11 ?_
      refine lv_goto (tgt := 16) X.x X.b dX8_within_12 (by decide) ?_
      exact x_zret X hr w (by decide) hq dX8_within_16
def wlX8_taken_6  (P : Int → Tab → Prop) : Nat → Int → Int → Int → Int → Int → Tab → Prop
  | 0, _, _, _, _, _, _ => False
  | n + 1, x1, x2, x3, x4, x5, σ => (inI x5 ∧ (inI (σ 0 23 0 1) ∧ ((σ 0 23 0 1 ≤ x5 → ((x4 = 0 ∨ x4 = 1) ∧ P x4 σ)) ∧ (¬ (σ 0 23 0 1 ≤ x5) → (inI x4 ∧ ((x4 ≠ 0 → wlX8_taken_6 P n x1 x2 x3 1 (x5 + 1) σ) ∧ (¬ (x4 ≠ 0) → ((0 ≤ x5 ∧ x5 < 24) ∧ (inI (σ 0 24 0 x5.toNat) ∧ (inI x1 ∧ ((σ 0 24 0 x5.toNat ≠ x1 → wlX8_taken_6 P n x1 x2 x3 0 (x5 + 1) σ) ∧ (¬ (σ 0 24 0 x5.toNat ≠ x1) → (inI (σ 0 25 0 x5.toNat) ∧ (inI x2 ∧ ((σ 0 25 0 x5.toNat ≠ x2 → wlX8_taken_6 P n x1 x2 x3 0 (x5 + 1) σ) ∧ (¬ (σ 0 25 0 x5.toNat ≠ x2) → (inI (σ 0 26 0 x5.toNat) ∧ (inI x3 ∧ ((σ 0 26 0 x5.toNat ≠ x3 → wlX8_taken_6 P n x1 x2 x3 0 (x5 + 1) σ) ∧ (¬ (σ 0 26 0 x5.toNat ≠ x3) → wlX8_taken_6 P n x1 x2 x3 1 (x5 + 1) σ))))))))))))))))))))
def wpX8_taken (x1 : Int) (x2 : Int) (x3 : Int) (σ : Tab) (P : Int → Tab → Prop) : Prop := (∃ k : Nat, wlX8_taken_6 P k x1 x2 x3 0 0 σ)
abbrev rmX8_taken : Room := { frames := 0, cells := 0, slots := 0, locals := 0 }
set_option maxHeartbeats 4000000 in
set_option maxRecDepth 100000 in
theorem klX8_taken_6 {l : Launch} {p : Program} {e : Env} {s : State} {m : MethodId} {args : Array Value} {below : List Frame} {meth : Method} {c : Code} {D : va_G} {ids : Ids} {ad : Lay} {cA : Nat → ClassId} {A : Nat → Prop}  {P : Int → Tab → Prop} (X : Cx p m c meth cX8_taken 6 s args RX8 D cA A nwW) (hr : meth.sig.returnType = some .boolean) (hM : HasM ids) :
    ∀ (n : Nat) (x1 : Int) (x2 : Int) (x3 : Int) (x4 : Int) (x5 : Int) (σ : Tab) (H : Heap) (locs : List Loc) (ls : Array Slot), wlX8_taken_6 P n x1 x2 x3 x4 x5 σ → ww D ids ad cA A σ s.heap H locs → lv_has ls 6 [(0, .ref (ad 0 23 0)), (1, vI x1), (2, vI x2), (3, vI x3), (4, vI x4), (5, vI x5)] → W p l e rmX8_taken s m args below meth c H locs 0 0 (MQ below (QI D ids ad cA A P) args s 0 0 A) (F0 m 6 ls []) := by
  intro n
  induction n with
  | zero => intro x1 x2 x3 x4 x5 σ H locs ls hq w hl; exact hq.elim
  | succ n ih =>
    intro x1 x2 x3 x4 x5 σ H locs ls hq w hl
    unfold wlX8_taken_6 at hq
    refine lv_iload X.x X.b dX8_taken_6 (lv_at hl 5 rfl) ?_
    refine lv_aload_n X.x X.b dX8_taken_8 rfl (lv_at hl 0 rfl) ?_
    refine x_get X w (hM 23 (by decide)) rfl in_X8 rfl 1 (by decide) q672 rfl rfl dX8_taken_9 ?_
    obtain ⟨o1, hq⟩ := hq
    obtain ⟨o2, hq⟩ := hq
    refine ra_icmp_ge (tgt := 66) X.x X.b o1 o2 dX8_taken_12 (by decide) (fun c3 => ?_) (fun c3 => ?_)
    · have hq := hq.1 c3
      refine lv_iload X.x X.b dX8_taken_66 (lv_at hl 4 rfl) ?_
      obtain ⟨o4, hq⟩ := hq
      exact x_zret X hr w o4 hq dX8_taken_68
    · have hq := hq.2 c3
      refine lv_iload X.x X.b dX8_taken_15 (lv_at hl 4 rfl) ?_
      obtain ⟨o5, hq⟩ := hq
      refine ra_if_ne (tgt := 53) X.x X.b o5 dX8_taken_17 (by decide) (fun c6 => ?_) (fun c6 => ?_)
      · have hq := hq.1 c6
        refine ra_iconst X.x X.b dX8_taken_53 ?_
        refine lv_goto (tgt := 58) X.x X.b dX8_taken_54 (by decide) ?_
        refine lv_istore (lv' := [(4, vI 1), (0, .ref (ad 0 23 0)), (1, vI x1), (2, vI x2), (3, vI x3), (5, vI x5)]) X.x X.b dX8_taken_58 hl (by decide) rfl (fun ls hl => ?_)
        refine lv_iinc (v := Int32.ofInt (x5 + 1)) (lv' := [(5, vI (x5 + 1)), (4, vI 1), (0, .ref (ad 0 23 0)), (1, vI x1), (2, vI x2), (3, vI x3)]) X.x X.b dX8_taken_60 hl (k := 5) rfl (Int32.ofInt_add _ _).symm (by decide) rfl (fun ls hl => ?_)
        refine lv_goto (tgt := 6) X.x X.b dX8_taken_63 (by decide) ?_
        exact ih x1 x2 x3 1 (x5 + 1) σ _ _ _ hq w (lv_sub hl [2, 3, 4, 5, 1, 0] rfl)
      · have hq := hq.2 c6
        refine lv_aload_n X.x X.b dX8_taken_20 rfl (lv_at hl 0 rfl) ?_
        refine x_get X w (hM 23 (by decide)) rfl in_X8 rfl 2 (by decide) q673 rfl rfl dX8_taken_21 ?_
        refine lv_iload X.x X.b dX8_taken_24 (lv_at hl 5 rfl) ?_
        obtain ⟨o7, hq⟩ := hq
        refine x_iald X w (hM 24 (by decide)) rfl (by decide) o7.1 o7.2 dX8_taken_26 ?_
        refine lv_iload_n X.x X.b dX8_taken_27 rfl (lv_at hl 1 rfl) ?_
        obtain ⟨o8, hq⟩ := hq
        obtain ⟨o9, hq⟩ := hq
        refine ra_icmp_ne (tgt := 57) X.x X.b o8 o9 dX8_taken_28 (by decide) (fun c10 => ?_) (fun c10 => ?_)
        · have hq := hq.1 c10
          refine ra_iconst X.x X.b dX8_taken_57 ?_
          refine lv_istore (lv' := [(4, vI 0), (0, .ref (ad 0 23 0)), (1, vI x1), (2, vI x2), (3, vI x3), (5, vI x5)]) X.x X.b dX8_taken_58 hl (by decide) rfl (fun ls hl => ?_)
          refine lv_iinc (v := Int32.ofInt (x5 + 1)) (lv' := [(5, vI (x5 + 1)), (4, vI 0), (0, .ref (ad 0 23 0)), (1, vI x1), (2, vI x2), (3, vI x3)]) X.x X.b dX8_taken_60 hl (k := 5) rfl (Int32.ofInt_add _ _).symm (by decide) rfl (fun ls hl => ?_)
          refine lv_goto (tgt := 6) X.x X.b dX8_taken_63 (by decide) ?_
          exact ih x1 x2 x3 0 (x5 + 1) σ _ _ _ hq w (lv_sub hl [2, 3, 4, 5, 1, 0] rfl)
        · have hq := hq.2 c10
          refine lv_aload_n X.x X.b dX8_taken_31 rfl (lv_at hl 0 rfl) ?_
          refine x_get X w (hM 23 (by decide)) rfl in_X8 rfl 3 (by decide) q674 rfl rfl dX8_taken_32 ?_
          refine lv_iload X.x X.b dX8_taken_35 (lv_at hl 5 rfl) ?_
          refine x_iald X w (hM 25 (by decide)) rfl (by decide) o7.1 o7.2 dX8_taken_37 ?_
          refine lv_iload_n X.x X.b dX8_taken_38 rfl (lv_at hl 2 rfl) ?_
          obtain ⟨o11, hq⟩ := hq
          obtain ⟨o12, hq⟩ := hq
          refine ra_icmp_ne (tgt := 57) X.x X.b o11 o12 dX8_taken_39 (by decide) (fun c13 => ?_) (fun c13 => ?_)
          · have hq := hq.1 c13
            refine ra_iconst X.x X.b dX8_taken_57 ?_
            refine lv_istore (lv' := [(4, vI 0), (0, .ref (ad 0 23 0)), (1, vI x1), (2, vI x2), (3, vI x3), (5, vI x5)]) X.x X.b dX8_taken_58 hl (by decide) rfl (fun ls hl => ?_)
            refine lv_iinc (v := Int32.ofInt (x5 + 1)) (lv' := [(5, vI (x5 + 1)), (4, vI 0), (0, .ref (ad 0 23 0)), (1, vI x1), (2, vI x2), (3, vI x3)]) X.x X.b dX8_taken_60 hl (k := 5) rfl (Int32.ofInt_add _ _).symm (by decide) rfl (fun ls hl => ?_)
            refine lv_goto (tgt := 6) X.x X.b dX8_taken_63 (by decide) ?_
            exact ih x1 x2 x3 0 (x5 + 1) σ _ _ _ hq w (lv_sub hl [2, 3, 4, 5, 1, 0] rfl)
          · have hq := hq.2 c13
            refine lv_aload_n X.x X.b dX8_taken_42 rfl (lv_at hl 0 rfl) ?_
            refine x_get X w (hM 23 (by decide)) rfl in_X8 rfl 4 (by decide) q675 rfl rfl dX8_taken_43 ?_
            refine lv_iload X.x X.b dX8_taken_46 (lv_at hl 5 rfl) ?_
            refine x_iald X w (hM 26 (by decide)) rfl (by decide) o7.1 o7.2 dX8_taken_48 ?_
            refine lv_iload_n X.x X.b dX8_taken_49 rfl (lv_at hl 3 rfl) ?_
            obtain ⟨o14, hq⟩ := hq
            obtain ⟨o15, hq⟩ := hq
            refine ra_icmp_ne (tgt := 57) X.x X.b o14 o15 dX8_taken_50 (by decide) (fun c16 => ?_) (fun c16 => ?_)
            · have hq := hq.1 c16
              refine ra_iconst X.x X.b dX8_taken_57 ?_
              refine lv_istore (lv' := [(4, vI 0), (0, .ref (ad 0 23 0)), (1, vI x1), (2, vI x2), (3, vI x3), (5, vI x5)]) X.x X.b dX8_taken_58 hl (by decide) rfl (fun ls hl => ?_)
              refine lv_iinc (v := Int32.ofInt (x5 + 1)) (lv' := [(5, vI (x5 + 1)), (4, vI 0), (0, .ref (ad 0 23 0)), (1, vI x1), (2, vI x2), (3, vI x3)]) X.x X.b dX8_taken_60 hl (k := 5) rfl (Int32.ofInt_add _ _).symm (by decide) rfl (fun ls hl => ?_)
              refine lv_goto (tgt := 6) X.x X.b dX8_taken_63 (by decide) ?_
              exact ih x1 x2 x3 0 (x5 + 1) σ _ _ _ hq w (lv_sub hl [2, 3, 4, 5, 1, 0] rfl)
            · have hq := hq.2 c16
              refine ra_iconst X.x X.b dX8_taken_53 ?_
              refine lv_goto (tgt := 58) X.x X.b dX8_taken_54 (by decide) ?_
              refine lv_istore (lv' := [(4, vI 1), (0, .ref (ad 0 23 0)), (1, vI x1), (2, vI x2), (3, vI x3), (5, vI x5)]) X.x X.b dX8_taken_58 hl (by decide) rfl (fun ls hl => ?_)
              refine lv_iinc (v := Int32.ofInt (x5 + 1)) (lv' := [(5, vI (x5 + 1)), (4, vI 1), (0, .ref (ad 0 23 0)), (1, vI x1), (2, vI x2), (3, vI x3)]) X.x X.b dX8_taken_60 hl (k := 5) rfl (Int32.ofInt_add _ _).symm (by decide) rfl (fun ls hl => ?_)
              refine lv_goto (tgt := 6) X.x X.b dX8_taken_63 (by decide) ?_
              exact ih x1 x2 x3 1 (x5 + 1) σ _ _ _ hq w (lv_sub hl [2, 3, 4, 5, 1, 0] rfl)
set_option maxHeartbeats 4000000 in
set_option maxRecDepth 100000 in
theorem mX8_taken (l : Launch) (D : va_G) (ids : Ids) (ad : Lay) (cA : Nat → ClassId) (A : Nat → Prop) (hM : HasM ids) (x1 : Int) (x2 : Int) (x3 : Int) (σ : Tab) (P : Int → Tab → Prop) (hq : wpX8_taken x1 x2 x3 σ P) : Met l yX8_taken (ws_ yX8_taken cX8_taken 6 (some .boolean)) rmX8_taken (PcW D ids ad cA A σ [.ref (ad 0 23 0), vI x1, vI x2, vI x3]) (QI D ids ad cA A P) 0 0 A := by
  refine m_entry (own := RX8) (by decide) (Nat.le_of_ble_eq_true rfl) rfl ?_
  intro p e s m below meth c ls X hr w hl
  have hl : lv_has ls 6 [(0, .ref (ad 0 23 0)), (1, vI x1), (2, vI x2), (3, vI x3)] := hl
  unfold wpX8_taken at hq
  refine ra_iconst X.x X.b dX8_taken_0 ?_
  refine lv_istore (lv' := [(4, vI 0), (0, .ref (ad 0 23 0)), (1, vI x1), (2, vI x2), (3, vI x3)]) X.x X.b dX8_taken_1 hl (by decide) rfl (fun ls hl => ?_)
  refine ra_iconst X.x X.b dX8_taken_3 ?_
  refine lv_istore (lv' := [(5, vI 0), (4, vI 0), (0, .ref (ad 0 23 0)), (1, vI x1), (2, vI x2), (3, vI x3)]) X.x X.b dX8_taken_4 hl (by decide) rfl (fun ls hl => ?_)
  obtain ⟨n1, hq⟩ := hq
  exact klX8_taken_6 X hr hM  n1 x1 x2 x3 0 0 σ _ _ _ hq w (lv_sub hl [2, 3, 4, 5, 1, 0] rfl)
def wlX8_goes_18  (P : Int → Tab → Prop) (y1 : Int) (σ : Tab) : Prop := (∀ σ1 : Tab, σ1 = st σ 0 23 0 0 y1 → (inI (σ1 0 23 0 0) ∧ ((σ1 0 23 0 0 ≠ 0 → P 0 σ1) ∧ (¬ (σ1 0 23 0 0 ≠ 0) → P 1 σ1))))
def wpX8_goes (x1 : Int) (x2 : Int) (σ : Tab) (P : Int → Tab → Prop) : Prop := (inI x1 ∧ ((x1 ≠ 0 → (inI x2 ∧ ((x2 ≠ 0 → wlX8_goes_18 P 0 σ) ∧ (¬ (x2 ≠ 0) → wlX8_goes_18 P 2 σ)))) ∧ (¬ (x1 ≠ 0) → wlX8_goes_18 P 1 σ)))
abbrev rmX8_goes : Room := { frames := 0, cells := 0, slots := 0, locals := 0 }
set_option maxHeartbeats 4000000 in
set_option maxRecDepth 100000 in
theorem klX8_goes_18 {l : Launch} {p : Program} {e : Env} {s : State} {m : MethodId} {args : Array Value} {below : List Frame} {meth : Method} {c : Code} {D : va_G} {ids : Ids} {ad : Lay} {cA : Nat → ClassId} {A : Nat → Prop}  {P : Int → Tab → Prop} (X : Cx p m c meth cX8_goes 3 s args RX8 D cA A nwW) (hr : meth.sig.returnType = some .boolean) (hM : HasM ids) :
    ∀ (y1 : Int) (σ : Tab) (H : Heap) (locs : List Loc) (ls : Array Slot), wlX8_goes_18 P y1 σ → ww D ids ad cA A σ s.heap H locs → lv_has ls 3 [(0, .ref (ad 0 23 0))] → W p l e rmX8_goes s m args below meth c H locs 0 0 (MQ below (QI D ids ad cA A P) args s 0 0 A) (F0 m 18 ls [vI y1, .ref (ad 0 23 0)]) := by
  intro y1 σ H locs ls hq w hl
  unfold wlX8_goes_18 at hq
  refine x_put (z := y1) X w (hM 23 (by decide)) rfl in_X8 tyX8 tyX8_ok nmX8 rfl 0 (by decide) q671 rfl rfl rfl rfl (Nat.le_of_ble_eq_true rfl) rfl dX8_goes_18 (fun σ1 H locs eσ1 w => ?_)
  have hq := hq σ1 eσ1
  refine lv_aload_n X.x X.b dX8_goes_21 rfl (lv_at hl 0 rfl) ?_
  refine x_get X w (hM 23 (by decide)) rfl in_X8 rfl 0 (by decide) q671 rfl rfl dX8_goes_22 ?_
  obtain ⟨o2, hq⟩ := hq
  refine ra_if_ne (tgt := 32) X.x X.b o2 dX8_goes_25 (by decide) (fun c3 => ?_) (fun c3 => ?_)
  · have hq := hq.1 c3
    refine ra_iconst X.x X.b dX8_goes_32 ?_
    exact x_zret X hr w (by decide) hq dX8_goes_33
  · have hq := hq.2 c3
    refine ra_iconst X.x X.b dX8_goes_28 ?_
    refine lv_goto (tgt := 33) X.x X.b dX8_goes_29 (by decide) ?_
    exact x_zret X hr w (by decide) hq dX8_goes_33
set_option maxHeartbeats 4000000 in
set_option maxRecDepth 100000 in
theorem mX8_goes (l : Launch) (D : va_G) (ids : Ids) (ad : Lay) (cA : Nat → ClassId) (A : Nat → Prop) (hM : HasM ids) (x1 : Int) (x2 : Int) (σ : Tab) (P : Int → Tab → Prop) (hq : wpX8_goes x1 x2 σ P) : Met l yX8_goes (ws_ yX8_goes cX8_goes 3 (some .boolean)) rmX8_goes (PcW D ids ad cA A σ [.ref (ad 0 23 0), vI x1, vI x2]) (QI D ids ad cA A P) 0 0 A := by
  refine m_entry (own := RX8) (by decide) (Nat.le_of_ble_eq_true rfl) rfl ?_
  intro p e s m below meth c ls X hr w hl
  have hl : lv_has ls 3 [(0, .ref (ad 0 23 0)), (1, vI x1), (2, vI x2)] := hl
  unfold wpX8_goes at hq
  refine lv_aload_n X.x X.b dX8_goes_0 rfl (lv_at hl 0 rfl) ?_
  refine lv_iload_n X.x X.b dX8_goes_1 rfl (lv_at hl 1 rfl) ?_
  obtain ⟨o1, hq⟩ := hq
  refine ra_if_ne (tgt := 9) X.x X.b o1 dX8_goes_2 (by decide) (fun c2 => ?_) (fun c2 => ?_)
  · have hq := hq.1 c2
    refine lv_iload_n X.x X.b dX8_goes_9 rfl (lv_at hl 2 rfl) ?_
    obtain ⟨o3, hq⟩ := hq
    refine ra_if_ne (tgt := 17) X.x X.b o3 dX8_goes_10 (by decide) (fun c4 => ?_) (fun c4 => ?_)
    · have hq := hq.1 c4
      refine ra_iconst X.x X.b dX8_goes_17 ?_
      exact klX8_goes_18 X hr hM  0 σ _ _ _ hq w (lv_sub hl [0] rfl)
    · have hq := hq.2 c4
      refine ra_iconst X.x X.b dX8_goes_13 ?_
      refine lv_goto (tgt := 18) X.x X.b dX8_goes_14 (by decide) ?_
      exact klX8_goes_18 X hr hM  2 σ _ _ _ hq w (lv_sub hl [0] rfl)
  · have hq := hq.2 c2
    refine ra_iconst X.x X.b dX8_goes_5 ?_
    refine lv_goto (tgt := 18) X.x X.b dX8_goes_6 (by decide) ?_
    exact klX8_goes_18 X hr hM  1 σ _ _ _ hq w (lv_sub hl [0] rfl)
def wlX8_point_64  (P : Int → Tab → Prop) (x1 : Int) (x2 : Int) (x3 : Int) (y1 : Int) (y2 : Int) (σ : Tab) : Prop := wpX8_goes y1 y2 σ (fun z1 σ1 => (inI z1 ∧ ((z1 ≠ 0 → ((0 ≤ σ1 0 23 0 1 ∧ σ1 0 23 0 1 < 24) ∧ (∀ σ5 : Tab, σ5 = st σ1 0 24 0 ((σ1 0 23 0 1).toNat) x1 → ((0 ≤ σ5 0 23 0 1 ∧ σ5 0 23 0 1 < 24) ∧ (∀ σ7 : Tab, σ7 = st σ5 0 25 0 ((σ5 0 23 0 1).toNat) x2 → ((0 ≤ σ7 0 23 0 1 ∧ σ7 0 23 0 1 < 24) ∧ (∀ σ9 : Tab, σ9 = st σ7 0 26 0 ((σ7 0 23 0 1).toNat) x3 → (∀ σ10 : Tab, σ10 = st σ9 0 23 0 1 ((σ9 0 23 0 1) + 1) → P ((σ10 0 23 0 1) - 1) σ10)))))))) ∧ (¬ (z1 ≠ 0) → P 0 σ1))))
def wlX8_point_45  (P : Int → Tab → Prop) (x1 : Int) (x2 : Int) (x3 : Int) (y0 : Int) (σ : Tab) : Prop := (inI (σ 0 23 0 1) ∧ ((24 ≤ σ 0 23 0 1 → wlX8_point_64 P x1 x2 x3 y0 0 σ) ∧ (¬ (24 ≤ σ 0 23 0 1) → wlX8_point_64 P x1 x2 x3 y0 1 σ)))
def wpX8_point (x1 : Int) (x2 : Int) (x3 : Int) (σ : Tab) (P : Int → Tab → Prop) : Prop := wpX8_within x1 512 σ (fun z1 σ1 => (inI z1 ∧ ((z1 = 0 → wlX8_point_45 P x1 x2 x3 0 σ1) ∧ (¬ (z1 = 0) → wpX8_within x2 512 σ1 (fun z4 σ4 => (inI z4 ∧ ((z4 = 0 → wlX8_point_45 P x1 x2 x3 0 σ4) ∧ (¬ (z4 = 0) → wpX8_within x3 512 σ4 (fun z7 σ7 => (inI z7 ∧ ((z7 = 0 → wlX8_point_45 P x1 x2 x3 0 σ7) ∧ (¬ (z7 = 0) → wpX8_taken x1 x2 x3 σ7 (fun z10 σ10 => (inI z10 ∧ ((z10 ≠ 0 → wlX8_point_45 P x1 x2 x3 0 σ10) ∧ (¬ (z10 ≠ 0) → wlX8_point_45 P x1 x2 x3 1 σ10))))))))))))))))
abbrev rmX8_point : Room := { frames := 1, cells := 0, slots := 0, locals := 25 }
set_option maxHeartbeats 4000000 in
set_option maxRecDepth 100000 in
theorem klX8_point_64 {l : Launch} {p : Program} {e : Env} {s : State} {m : MethodId} {args : Array Value} {below : List Frame} {meth : Method} {c : Code} {D : va_G} {ids : Ids} {ad : Lay} {cA : Nat → ClassId} {A : Nat → Prop}  {P : Int → Tab → Prop} (X : Cx p m c meth cX8_point 5 s args RX8 D cA A nwW) (hr : meth.sig.returnType = some .int) (hM : HasM ids) :
    ∀ (x1 : Int) (x2 : Int) (x3 : Int) (y1 : Int) (y2 : Int) (σ : Tab) (H : Heap) (locs : List Loc) (ls : Array Slot), wlX8_point_64 P x1 x2 x3 y1 y2 σ → ww D ids ad cA A σ s.heap H locs → lv_has ls 5 [(0, .ref (ad 0 23 0)), (1, vI x1), (2, vI x2), (3, vI x3)] → W p l e rmX8_point s m args below meth c H locs 0 0 (MQ below (QI D ids ad cA A P) args s 0 0 A) (F0 m 64 ls [vI y2, vI y1, .ref (ad 0 23 0)]) := by
  intro x1 x2 x3 y1 y2 σ H locs ls hq w hl
  unfold wlX8_point_64 at hq
  refine x_callVi (n := 2) (As := [vI y1, vI y2]) (rest := []) X w (hM 23 (by decide)) rfl rfl (mX8_goes l D ids ad cA A hM y1 y2 σ _ hq) (lw_V q769 q771 qs16 q43 q772) ⟨rfl, rfl⟩ (by decide +kernel) ⟨Nat.le_of_ble_eq_true rfl, Nat.le_of_ble_eq_true rfl⟩ ⟨Nat.le_refl _, Nat.le_refl _⟩ rfl hl.1 rfl (Nat.le_of_ble_eq_true rfl) dX8_point_64 (fun z1 σ1 H locs hq w => ?_)
  obtain ⟨o2, hq⟩ := hq
  refine ra_if_ne (tgt := 72) X.x X.b o2 dX8_point_67 (by decide) (fun c3 => ?_) (fun c3 => ?_)
  · have hq := hq.1 c3
    refine lv_aload_n X.x X.b dX8_point_72 rfl (lv_at hl 0 rfl) ?_
    refine x_get X w (hM 23 (by decide)) rfl in_X8 rfl 2 (by decide) q673 rfl rfl dX8_point_73 ?_
    refine lv_aload_n X.x X.b dX8_point_76 rfl (lv_at hl 0 rfl) ?_
    refine x_get X w (hM 23 (by decide)) rfl in_X8 rfl 1 (by decide) q672 rfl rfl dX8_point_77 ?_
    refine lv_iload_n X.x X.b dX8_point_80 rfl (lv_at hl 1 rfl) ?_
    obtain ⟨o4, hq⟩ := hq
    refine x_iast X w (hM 24 (by decide)) (fun _ => rfl) (by decide) o4.1 o4.2 dX8_point_81 (fun σ5 H locs eσ5 w => ?_)
    have hq := hq σ5 eσ5
    refine lv_aload_n X.x X.b dX8_point_82 rfl (lv_at hl 0 rfl) ?_
    refine x_get X w (hM 23 (by decide)) rfl in_X8 rfl 3 (by decide) q674 rfl rfl dX8_point_83 ?_
    refine lv_aload_n X.x X.b dX8_point_86 rfl (lv_at hl 0 rfl) ?_
    refine x_get X w (hM 23 (by decide)) rfl in_X8 rfl 1 (by decide) q672 rfl rfl dX8_point_87 ?_
    refine lv_iload_n X.x X.b dX8_point_90 rfl (lv_at hl 2 rfl) ?_
    obtain ⟨o6, hq⟩ := hq
    refine x_iast X w (hM 25 (by decide)) (fun _ => rfl) (by decide) o6.1 o6.2 dX8_point_91 (fun σ7 H locs eσ7 w => ?_)
    have hq := hq σ7 eσ7
    refine lv_aload_n X.x X.b dX8_point_92 rfl (lv_at hl 0 rfl) ?_
    refine x_get X w (hM 23 (by decide)) rfl in_X8 rfl 4 (by decide) q675 rfl rfl dX8_point_93 ?_
    refine lv_aload_n X.x X.b dX8_point_96 rfl (lv_at hl 0 rfl) ?_
    refine x_get X w (hM 23 (by decide)) rfl in_X8 rfl 1 (by decide) q672 rfl rfl dX8_point_97 ?_
    refine lv_iload_n X.x X.b dX8_point_100 rfl (lv_at hl 3 rfl) ?_
    obtain ⟨o8, hq⟩ := hq
    refine x_iast X w (hM 26 (by decide)) (fun _ => rfl) (by decide) o8.1 o8.2 dX8_point_101 (fun σ9 H locs eσ9 w => ?_)
    have hq := hq σ9 eσ9
    refine lv_aload_n X.x X.b dX8_point_102 rfl (lv_at hl 0 rfl) ?_
    refine lv_dup X.x X.b dX8_point_103 rfl ?_
    refine x_get X w (hM 23 (by decide)) rfl in_X8 rfl 1 (by decide) q672 rfl rfl dX8_point_104 ?_
    refine ra_iconst X.x X.b dX8_point_107 ?_
    refine ra_iadd X.x X.b dX8_point_108 ?_
    refine x_put (z := ((σ9 0 23 0 1) + 1)) X w (hM 23 (by decide)) rfl in_X8 tyX8 tyX8_ok nmX8 rfl 1 (by decide) q672 rfl rfl rfl rfl (Nat.le_of_ble_eq_true rfl) rfl dX8_point_109 (fun σ10 H locs eσ10 w => ?_)
    have hq := hq σ10 eσ10
    refine lv_aload_n X.x X.b dX8_point_112 rfl (lv_at hl 0 rfl) ?_
    refine x_get X w (hM 23 (by decide)) rfl in_X8 rfl 1 (by decide) q672 rfl rfl dX8_point_113 ?_
    refine ra_iconst X.x X.b dX8_point_116 ?_
    refine ra_isub X.x X.b dX8_point_117 ?_
    exact x_iret X hr w hq dX8_point_118
  · have hq := hq.2 c3
    refine ra_iconst X.x X.b dX8_point_70 ?_
    exact x_iret X hr w hq dX8_point_71
set_option maxHeartbeats 4000000 in
set_option maxRecDepth 100000 in
theorem klX8_point_45 {l : Launch} {p : Program} {e : Env} {s : State} {m : MethodId} {args : Array Value} {below : List Frame} {meth : Method} {c : Code} {D : va_G} {ids : Ids} {ad : Lay} {cA : Nat → ClassId} {A : Nat → Prop}  {P : Int → Tab → Prop} (X : Cx p m c meth cX8_point 5 s args RX8 D cA A nwW) (hr : meth.sig.returnType = some .int) (hM : HasM ids) :
    ∀ (x1 : Int) (x2 : Int) (x3 : Int) (y0 : Int) (σ : Tab) (H : Heap) (locs : List Loc) (ls : Array Slot), wlX8_point_45 P x1 x2 x3 y0 σ → ww D ids ad cA A σ s.heap H locs → lv_has ls 5 [(0, .ref (ad 0 23 0)), (1, vI x1), (2, vI x2), (3, vI x3)] → W p l e rmX8_point s m args below meth c H locs 0 0 (MQ below (QI D ids ad cA A P) args s 0 0 A) (F0 m 45 ls [vI y0]) := by
  intro x1 x2 x3 y0 σ H locs ls hq w hl
  unfold wlX8_point_45 at hq
  refine lv_istore (lv' := [(4, vI y0), (0, .ref (ad 0 23 0)), (1, vI x1), (2, vI x2), (3, vI x3)]) X.x X.b dX8_point_45 hl (by decide) rfl (fun ls hl => ?_)
  refine lv_aload_n X.x X.b dX8_point_47 rfl (lv_at hl 1 rfl) ?_
  refine lv_iload X.x X.b dX8_point_48 (lv_at hl 0 rfl) ?_
  refine lv_aload_n X.x X.b dX8_point_50 rfl (lv_at hl 1 rfl) ?_
  refine x_get X w (hM 23 (by decide)) rfl in_X8 rfl 1 (by decide) q672 rfl rfl dX8_point_51 ?_
  refine ra_bipush X.x X.b dX8_point_54 rfl ?_
  obtain ⟨o1, hq⟩ := hq
  refine ra_icmp_ge (tgt := 63) X.x X.b o1 ⟨by decide, by decide⟩ dX8_point_56 (by decide) (fun c2 => ?_) (fun c2 => ?_)
  · have hq := hq.1 c2
    refine ra_iconst X.x X.b dX8_point_63 ?_
    exact klX8_point_64 X hr hM  x1 x2 x3 y0 0 σ _ _ _ hq w (lv_sub hl [1, 2, 3, 4] rfl)
  · have hq := hq.2 c2
    refine ra_iconst X.x X.b dX8_point_59 ?_
    refine lv_goto (tgt := 64) X.x X.b dX8_point_60 (by decide) ?_
    exact klX8_point_64 X hr hM  x1 x2 x3 y0 1 σ _ _ _ hq w (lv_sub hl [1, 2, 3, 4] rfl)
set_option maxHeartbeats 4000000 in
set_option maxRecDepth 100000 in
theorem mX8_point (l : Launch) (D : va_G) (ids : Ids) (ad : Lay) (cA : Nat → ClassId) (A : Nat → Prop) (hM : HasM ids) (x1 : Int) (x2 : Int) (x3 : Int) (σ : Tab) (P : Int → Tab → Prop) (hq : wpX8_point x1 x2 x3 σ P) : Met l yX8_point (ws_ yX8_point cX8_point 5 (some .int)) rmX8_point (PcW D ids ad cA A σ [.ref (ad 0 23 0), vI x1, vI x2, vI x3]) (QI D ids ad cA A P) 0 0 A := by
  refine m_entry (own := RX8) (by decide) (Nat.le_of_ble_eq_true rfl) rfl ?_
  intro p e s m below meth c ls X hr w hl
  have hl : lv_has ls 5 [(0, .ref (ad 0 23 0)), (1, vI x1), (2, vI x2), (3, vI x3)] := hl
  unfold wpX8_point at hq
  refine lv_iload_n X.x X.b dX8_point_0 rfl (lv_at hl 1 rfl) ?_
  refine ra_sipush X.x X.b dX8_point_1 rfl ?_
  refine x_callSi (n := 2) (As := [vI x1, vI 512]) (rest := []) X w (mX8_within l D ids ad cA A x1 512 σ _ hq) (lw_S q762 q763 q43 q764) ⟨rfl, rfl⟩ (by decide +kernel) ⟨Nat.le_of_ble_eq_true rfl, Nat.le_of_ble_eq_true rfl⟩ ⟨Nat.le_refl _, Nat.le_refl _⟩ rfl hl.1 rfl (Nat.le_of_ble_eq_true rfl) dX8_point_4 (fun z1 σ1 H locs hq w => ?_)
  obtain ⟨o2, hq⟩ := hq
  refine ra_if_eq (tgt := 44) X.x X.b o2 dX8_point_7 (by decide) (fun c3 => ?_) (fun c3 => ?_)
  · have hq := hq.1 c3
    refine ra_iconst X.x X.b dX8_point_44 ?_
    exact klX8_point_45 X hr hM  x1 x2 x3 0 σ1 _ _ _ hq w (lv_sub hl [0, 1, 2, 3] rfl)
  · have hq := hq.2 c3
    refine lv_iload_n X.x X.b dX8_point_10 rfl (lv_at hl 2 rfl) ?_
    refine ra_sipush X.x X.b dX8_point_11 rfl ?_
    refine x_callSi (n := 2) (As := [vI x2, vI 512]) (rest := []) X w (mX8_within l D ids ad cA A x2 512 σ1 _ hq) (lw_S q762 q763 q43 q764) ⟨rfl, rfl⟩ (by decide +kernel) ⟨Nat.le_of_ble_eq_true rfl, Nat.le_of_ble_eq_true rfl⟩ ⟨Nat.le_refl _, Nat.le_refl _⟩ rfl hl.1 rfl (Nat.le_of_ble_eq_true rfl) dX8_point_14 (fun z4 σ4 H locs hq w => ?_)
    obtain ⟨o5, hq⟩ := hq
    refine ra_if_eq (tgt := 44) X.x X.b o5 dX8_point_17 (by decide) (fun c6 => ?_) (fun c6 => ?_)
    · have hq := hq.1 c6
      refine ra_iconst X.x X.b dX8_point_44 ?_
      exact klX8_point_45 X hr hM  x1 x2 x3 0 σ4 _ _ _ hq w (lv_sub hl [0, 1, 2, 3] rfl)
    · have hq := hq.2 c6
      refine lv_iload_n X.x X.b dX8_point_20 rfl (lv_at hl 3 rfl) ?_
      refine ra_sipush X.x X.b dX8_point_21 rfl ?_
      refine x_callSi (n := 2) (As := [vI x3, vI 512]) (rest := []) X w (mX8_within l D ids ad cA A x3 512 σ4 _ hq) (lw_S q762 q763 q43 q764) ⟨rfl, rfl⟩ (by decide +kernel) ⟨Nat.le_of_ble_eq_true rfl, Nat.le_of_ble_eq_true rfl⟩ ⟨Nat.le_refl _, Nat.le_refl _⟩ rfl hl.1 rfl (Nat.le_of_ble_eq_true rfl) dX8_point_24 (fun z7 σ7 H locs hq w => ?_)
      obtain ⟨o8, hq⟩ := hq
      refine ra_if_eq (tgt := 44) X.x X.b o8 dX8_point_27 (by decide) (fun c9 => ?_) (fun c9 => ?_)
      · have hq := hq.1 c9
        refine ra_iconst X.x X.b dX8_point_44 ?_
        exact klX8_point_45 X hr hM  x1 x2 x3 0 σ7 _ _ _ hq w (lv_sub hl [0, 1, 2, 3] rfl)
      · have hq := hq.2 c9
        refine lv_aload_n X.x X.b dX8_point_30 rfl (lv_at hl 0 rfl) ?_
        refine lv_iload_n X.x X.b dX8_point_31 rfl (lv_at hl 1 rfl) ?_
        refine lv_iload_n X.x X.b dX8_point_32 rfl (lv_at hl 2 rfl) ?_
        refine lv_iload_n X.x X.b dX8_point_33 rfl (lv_at hl 3 rfl) ?_
        refine x_callVi (n := 3) (As := [vI x1, vI x2, vI x3]) (rest := []) X w (hM 23 (by decide)) rfl rfl (mX8_taken l D ids ad cA A hM x1 x2 x3 σ7 _ hq) (lw_V q765 q767 qs15 q43 q768) ⟨rfl, rfl⟩ (by decide +kernel) ⟨Nat.le_of_ble_eq_true rfl, Nat.le_of_ble_eq_true rfl⟩ ⟨Nat.le_refl _, Nat.le_refl _⟩ rfl hl.1 rfl (Nat.le_of_ble_eq_true rfl) dX8_point_34 (fun z10 σ10 H locs hq w => ?_)
        obtain ⟨o11, hq⟩ := hq
        refine ra_if_ne (tgt := 44) X.x X.b o11 dX8_point_37 (by decide) (fun c12 => ?_) (fun c12 => ?_)
        · have hq := hq.1 c12
          refine ra_iconst X.x X.b dX8_point_44 ?_
          exact klX8_point_45 X hr hM  x1 x2 x3 0 σ10 _ _ _ hq w (lv_sub hl [0, 1, 2, 3] rfl)
        · have hq := hq.2 c12
          refine ra_iconst X.x X.b dX8_point_40 ?_
          refine lv_goto (tgt := 45) X.x X.b dX8_point_41 (by decide) ?_
          exact klX8_point_45 X hr hM  x1 x2 x3 1 σ10 _ _ _ hq w (lv_sub hl [0, 1, 2, 3] rfl)
def wlX8_take_29  (P : Int → Tab → Prop) : Nat → Int → Tab → Prop
  | 0, _, _ => False
  | n + 1, x2, σ => (inI (x2 + 1) ∧ (inI (σ 0 23 0 1) ∧ ((σ 0 23 0 1 ≤ x2 + 1 → (∀ σ4 : Tab, σ4 = st σ 0 23 0 1 ((σ 0 23 0 1) - 1) → P (σ4 0 23 0 1) σ4)) ∧ (¬ (σ 0 23 0 1 ≤ x2 + 1) → ((0 ≤ x2 + 1 ∧ x2 + 1 < 24) ∧ ((0 ≤ x2 ∧ x2 < 24) ∧ (∀ σ7 : Tab, σ7 = st σ 0 24 0 x2.toNat (σ 0 24 0 ((x2 + 1).toNat)) → (∀ σ8 : Tab, σ8 = st σ7 0 25 0 x2.toNat (σ7 0 25 0 ((x2 + 1).toNat)) → (∀ σ9 : Tab, σ9 = st σ8 0 26 0 x2.toNat (σ8 0 26 0 ((x2 + 1).toNat)) → wlX8_take_29 P n (x2 + 1) σ9)))))))))
def wlX8_take_18  (P : Int → Tab → Prop) (x1 : Int) (y1 : Int) (σ : Tab) : Prop := wpX8_goes y1 1 σ (fun z1 σ1 => (inI z1 ∧ ((z1 ≠ 0 → (∃ k : Nat, wlX8_take_29 P k x1 σ1)) ∧ (¬ (z1 ≠ 0) → P 0 σ1))))
def wpX8_take (x1 : Int) (σ : Tab) (P : Int → Tab → Prop) : Prop := (inI x1 ∧ ((x1 < 0 → wlX8_take_18 P x1 0 σ) ∧ (¬ (x1 < 0) → (inI (σ 0 23 0 1) ∧ ((σ 0 23 0 1 ≤ x1 → wlX8_take_18 P x1 0 σ) ∧ (¬ (σ 0 23 0 1 ≤ x1) → wlX8_take_18 P x1 1 σ))))))
abbrev rmX8_take : Room := { frames := 1, cells := 0, slots := 0, locals := 22 }
set_option maxHeartbeats 4000000 in
set_option maxRecDepth 100000 in
theorem klX8_take_29 {l : Launch} {p : Program} {e : Env} {s : State} {m : MethodId} {args : Array Value} {below : List Frame} {meth : Method} {c : Code} {D : va_G} {ids : Ids} {ad : Lay} {cA : Nat → ClassId} {A : Nat → Prop}  {P : Int → Tab → Prop} (X : Cx p m c meth cX8_take 3 s args RX8 D cA A nwW) (hr : meth.sig.returnType = some .int) (hM : HasM ids) :
    ∀ (n : Nat) (x2 : Int) (σ : Tab) (H : Heap) (locs : List Loc) (ls : Array Slot), wlX8_take_29 P n x2 σ → ww D ids ad cA A σ s.heap H locs → lv_has ls 3 [(0, .ref (ad 0 23 0)), (2, vI x2)] → W p l e rmX8_take s m args below meth c H locs 0 0 (MQ below (QI D ids ad cA A P) args s 0 0 A) (F0 m 29 ls []) := by
  intro n
  induction n with
  | zero => intro x2 σ H locs ls hq w hl; exact hq.elim
  | succ n ih =>
    intro x2 σ H locs ls hq w hl
    unfold wlX8_take_29 at hq
    refine lv_iload_n X.x X.b dX8_take_29 rfl (lv_at hl 1 rfl) ?_
    refine ra_iconst X.x X.b dX8_take_30 ?_
    refine ra_iadd X.x X.b dX8_take_31 ?_
    refine lv_aload_n X.x X.b dX8_take_32 rfl (lv_at hl 0 rfl) ?_
    refine x_get X w (hM 23 (by decide)) rfl in_X8 rfl 1 (by decide) q672 rfl rfl dX8_take_33 ?_
    obtain ⟨o1, hq⟩ := hq
    obtain ⟨o2, hq⟩ := hq
    refine ra_icmp_ge (tgt := 87) X.x X.b o1 o2 dX8_take_36 (by decide) (fun c3 => ?_) (fun c3 => ?_)
    · have hq := hq.1 c3
      refine lv_aload_n X.x X.b dX8_take_87 rfl (lv_at hl 0 rfl) ?_
      refine lv_dup X.x X.b dX8_take_88 rfl ?_
      refine x_get X w (hM 23 (by decide)) rfl in_X8 rfl 1 (by decide) q672 rfl rfl dX8_take_89 ?_
      refine ra_iconst X.x X.b dX8_take_92 ?_
      refine ra_isub X.x X.b dX8_take_93 ?_
      refine x_put (z := ((σ 0 23 0 1) - 1)) X w (hM 23 (by decide)) rfl in_X8 tyX8 tyX8_ok nmX8 rfl 1 (by decide) q672 rfl rfl rfl rfl (Nat.le_of_ble_eq_true rfl) rfl dX8_take_94 (fun σ4 H locs eσ4 w => ?_)
      have hq := hq σ4 eσ4
      refine lv_aload_n X.x X.b dX8_take_97 rfl (lv_at hl 0 rfl) ?_
      refine x_get X w (hM 23 (by decide)) rfl in_X8 rfl 1 (by decide) q672 rfl rfl dX8_take_98 ?_
      exact x_iret X hr w hq dX8_take_101
    · have hq := hq.2 c3
      refine lv_aload_n X.x X.b dX8_take_39 rfl (lv_at hl 0 rfl) ?_
      refine x_get X w (hM 23 (by decide)) rfl in_X8 rfl 2 (by decide) q673 rfl rfl dX8_take_40 ?_
      refine lv_iload_n X.x X.b dX8_take_43 rfl (lv_at hl 1 rfl) ?_
      refine lv_aload_n X.x X.b dX8_take_44 rfl (lv_at hl 0 rfl) ?_
      refine x_get X w (hM 23 (by decide)) rfl in_X8 rfl 2 (by decide) q673 rfl rfl dX8_take_45 ?_
      refine lv_iload_n X.x X.b dX8_take_48 rfl (lv_at hl 1 rfl) ?_
      refine ra_iconst X.x X.b dX8_take_49 ?_
      refine ra_iadd X.x X.b dX8_take_50 ?_
      obtain ⟨o5, hq⟩ := hq
      refine x_iald X w (hM 24 (by decide)) rfl (by decide) o5.1 o5.2 dX8_take_51 ?_
      obtain ⟨o6, hq⟩ := hq
      refine x_iast X w (hM 24 (by decide)) (fun _ => rfl) (by decide) o6.1 o6.2 dX8_take_52 (fun σ7 H locs eσ7 w => ?_)
      have hq := hq σ7 eσ7
      refine lv_aload_n X.x X.b dX8_take_53 rfl (lv_at hl 0 rfl) ?_
      refine x_get X w (hM 23 (by decide)) rfl in_X8 rfl 3 (by decide) q674 rfl rfl dX8_take_54 ?_
      refine lv_iload_n X.x X.b dX8_take_57 rfl (lv_at hl 1 rfl) ?_
      refine lv_aload_n X.x X.b dX8_take_58 rfl (lv_at hl 0 rfl) ?_
      refine x_get X w (hM 23 (by decide)) rfl in_X8 rfl 3 (by decide) q674 rfl rfl dX8_take_59 ?_
      refine lv_iload_n X.x X.b dX8_take_62 rfl (lv_at hl 1 rfl) ?_
      refine ra_iconst X.x X.b dX8_take_63 ?_
      refine ra_iadd X.x X.b dX8_take_64 ?_
      refine x_iald X w (hM 25 (by decide)) rfl (by decide) o5.1 o5.2 dX8_take_65 ?_
      refine x_iast X w (hM 25 (by decide)) (fun _ => rfl) (by decide) o6.1 o6.2 dX8_take_66 (fun σ8 H locs eσ8 w => ?_)
      have hq := hq σ8 eσ8
      refine lv_aload_n X.x X.b dX8_take_67 rfl (lv_at hl 0 rfl) ?_
      refine x_get X w (hM 23 (by decide)) rfl in_X8 rfl 4 (by decide) q675 rfl rfl dX8_take_68 ?_
      refine lv_iload_n X.x X.b dX8_take_71 rfl (lv_at hl 1 rfl) ?_
      refine lv_aload_n X.x X.b dX8_take_72 rfl (lv_at hl 0 rfl) ?_
      refine x_get X w (hM 23 (by decide)) rfl in_X8 rfl 4 (by decide) q675 rfl rfl dX8_take_73 ?_
      refine lv_iload_n X.x X.b dX8_take_76 rfl (lv_at hl 1 rfl) ?_
      refine ra_iconst X.x X.b dX8_take_77 ?_
      refine ra_iadd X.x X.b dX8_take_78 ?_
      refine x_iald X w (hM 26 (by decide)) rfl (by decide) o5.1 o5.2 dX8_take_79 ?_
      refine x_iast X w (hM 26 (by decide)) (fun _ => rfl) (by decide) o6.1 o6.2 dX8_take_80 (fun σ9 H locs eσ9 w => ?_)
      have hq := hq σ9 eσ9
      refine lv_iinc (v := Int32.ofInt (x2 + 1)) (lv' := [(2, vI (x2 + 1)), (0, .ref (ad 0 23 0))]) X.x X.b dX8_take_81 hl (k := 1) rfl (Int32.ofInt_add _ _).symm (by decide) rfl (fun ls hl => ?_)
      refine lv_goto (tgt := 29) X.x X.b dX8_take_84 (by decide) ?_
      exact ih (x2 + 1) σ9 _ _ _ hq w (lv_sub hl [1, 0] rfl)
set_option maxHeartbeats 4000000 in
set_option maxRecDepth 100000 in
theorem klX8_take_18 {l : Launch} {p : Program} {e : Env} {s : State} {m : MethodId} {args : Array Value} {below : List Frame} {meth : Method} {c : Code} {D : va_G} {ids : Ids} {ad : Lay} {cA : Nat → ClassId} {A : Nat → Prop}  {P : Int → Tab → Prop} (X : Cx p m c meth cX8_take 3 s args RX8 D cA A nwW) (hr : meth.sig.returnType = some .int) (hM : HasM ids) :
    ∀ (x1 : Int) (y1 : Int) (σ : Tab) (H : Heap) (locs : List Loc) (ls : Array Slot), wlX8_take_18 P x1 y1 σ → ww D ids ad cA A σ s.heap H locs → lv_has ls 3 [(0, .ref (ad 0 23 0)), (1, vI x1)] → W p l e rmX8_take s m args below meth c H locs 0 0 (MQ below (QI D ids ad cA A P) args s 0 0 A) (F0 m 18 ls [vI y1, .ref (ad 0 23 0)]) := by
  intro x1 y1 σ H locs ls hq w hl
  unfold wlX8_take_18 at hq
  refine ra_iconst X.x X.b dX8_take_18 ?_
  refine x_callVi (n := 2) (As := [vI y1, vI 1]) (rest := []) X w (hM 23 (by decide)) rfl rfl (mX8_goes l D ids ad cA A hM y1 1 σ _ hq) (lw_V q769 q771 qs16 q43 q772) ⟨rfl, rfl⟩ (by decide +kernel) ⟨Nat.le_of_ble_eq_true rfl, Nat.le_of_ble_eq_true rfl⟩ ⟨Nat.le_refl _, Nat.le_refl _⟩ rfl hl.1 rfl (Nat.le_of_ble_eq_true rfl) dX8_take_19 (fun z1 σ1 H locs hq w => ?_)
  obtain ⟨o2, hq⟩ := hq
  refine ra_if_ne (tgt := 27) X.x X.b o2 dX8_take_22 (by decide) (fun c3 => ?_) (fun c3 => ?_)
  · have hq := hq.1 c3
    refine lv_iload_n X.x X.b dX8_take_27 rfl (lv_at hl 1 rfl) ?_
    refine lv_istore_n (lv' := [(2, vI x1), (0, .ref (ad 0 23 0)), (1, vI x1)]) X.x X.b dX8_take_28 rfl hl (by decide) rfl (fun ls hl => ?_)
    obtain ⟨n4, hq⟩ := hq
    exact klX8_take_29 X hr hM  n4 x1 σ1 _ _ _ hq w (lv_sub hl [1, 0] rfl)
  · have hq := hq.2 c3
    refine ra_iconst X.x X.b dX8_take_25 ?_
    exact x_iret X hr w hq dX8_take_26
set_option maxHeartbeats 4000000 in
set_option maxRecDepth 100000 in
theorem mX8_take (l : Launch) (D : va_G) (ids : Ids) (ad : Lay) (cA : Nat → ClassId) (A : Nat → Prop) (hM : HasM ids) (x1 : Int) (σ : Tab) (P : Int → Tab → Prop) (hq : wpX8_take x1 σ P) : Met l yX8_take (ws_ yX8_take cX8_take 3 (some .int)) rmX8_take (PcW D ids ad cA A σ [.ref (ad 0 23 0), vI x1]) (QI D ids ad cA A P) 0 0 A := by
  refine m_entry (own := RX8) (by decide) (Nat.le_of_ble_eq_true rfl) rfl ?_
  intro p e s m below meth c ls X hr w hl
  have hl : lv_has ls 3 [(0, .ref (ad 0 23 0)), (1, vI x1)] := hl
  unfold wpX8_take at hq
  refine lv_aload_n X.x X.b dX8_take_0 rfl (lv_at hl 0 rfl) ?_
  refine lv_iload_n X.x X.b dX8_take_1 rfl (lv_at hl 1 rfl) ?_
  obtain ⟨o1, hq⟩ := hq
  refine ra_if_lt (tgt := 17) X.x X.b o1 dX8_take_2 (by decide) (fun c2 => ?_) (fun c2 => ?_)
  · have hq := hq.1 c2
    refine ra_iconst X.x X.b dX8_take_17 ?_
    exact klX8_take_18 X hr hM  x1 0 σ _ _ _ hq w (lv_sub hl [0, 1] rfl)
  · have hq := hq.2 c2
    refine lv_iload_n X.x X.b dX8_take_5 rfl (lv_at hl 1 rfl) ?_
    refine lv_aload_n X.x X.b dX8_take_6 rfl (lv_at hl 0 rfl) ?_
    refine x_get X w (hM 23 (by decide)) rfl in_X8 rfl 1 (by decide) q672 rfl rfl dX8_take_7 ?_
    obtain ⟨o3, hq⟩ := hq
    refine ra_icmp_ge (tgt := 17) X.x X.b o1 o3 dX8_take_10 (by decide) (fun c4 => ?_) (fun c4 => ?_)
    · have hq := hq.1 c4
      refine ra_iconst X.x X.b dX8_take_17 ?_
      exact klX8_take_18 X hr hM  x1 0 σ _ _ _ hq w (lv_sub hl [0, 1] rfl)
    · have hq := hq.2 c4
      refine ra_iconst X.x X.b dX8_take_13 ?_
      refine lv_goto (tgt := 18) X.x X.b dX8_take_14 (by decide) ?_
      exact klX8_take_18 X hr hM  x1 1 σ _ _ _ hq w (lv_sub hl [0, 1] rfl)
def wpX8_volumeOf (x1 : Int) (x2 : Int) (x3 : Int) (x4 : Int) (σ : Tab) (P : Int → Tab → Prop) : Prop := ((0 ≤ x2 ∧ x2 < 24) ∧ ((0 ≤ x1 ∧ x1 < 24) ∧ (inI ((σ 0 24 0 x2.toNat) - (σ 0 24 0 x1.toNat)) ∧ (∀ y4 : Int, y4 = (σ 0 24 0 x2.toNat) - (σ 0 24 0 x1.toNat) → (inI ((σ 0 25 0 x2.toNat) - (σ 0 25 0 x1.toNat)) ∧ (∀ y6 : Int, y6 = (σ 0 25 0 x2.toNat) - (σ 0 25 0 x1.toNat) → (inI ((σ 0 26 0 x2.toNat) - (σ 0 26 0 x1.toNat)) ∧ (∀ y8 : Int, y8 = (σ 0 26 0 x2.toNat) - (σ 0 26 0 x1.toNat) → ((0 ≤ x3 ∧ x3 < 24) ∧ (inI ((σ 0 24 0 x3.toNat) - (σ 0 24 0 x1.toNat)) ∧ (∀ y11 : Int, y11 = (σ 0 24 0 x3.toNat) - (σ 0 24 0 x1.toNat) → (inI ((σ 0 25 0 x3.toNat) - (σ 0 25 0 x1.toNat)) ∧ (∀ y13 : Int, y13 = (σ 0 25 0 x3.toNat) - (σ 0 25 0 x1.toNat) → (inI ((σ 0 26 0 x3.toNat) - (σ 0 26 0 x1.toNat)) ∧ (∀ y15 : Int, y15 = (σ 0 26 0 x3.toNat) - (σ 0 26 0 x1.toNat) → ((0 ≤ x4 ∧ x4 < 24) ∧ (inI ((σ 0 24 0 x4.toNat) - (σ 0 24 0 x1.toNat)) ∧ (∀ y18 : Int, y18 = (σ 0 24 0 x4.toNat) - (σ 0 24 0 x1.toNat) → (inI ((σ 0 25 0 x4.toNat) - (σ 0 25 0 x1.toNat)) ∧ (∀ y20 : Int, y20 = (σ 0 25 0 x4.toNat) - (σ 0 25 0 x1.toNat) → (inI ((σ 0 26 0 x4.toNat) - (σ 0 26 0 x1.toNat)) ∧ (∀ y22 : Int, y22 = (σ 0 26 0 x4.toNat) - (σ 0 26 0 x1.toNat) → P (((((y6 * y15) - (y8 * y13)) * y18) + (((y8 * y11) - (y4 * y15)) * y20)) + (((y4 * y13) - (y6 * y11)) * y22)) σ))))))))))))))))))))))
abbrev rmX8_volumeOf : Room := { frames := 0, cells := 0, slots := 0, locals := 0 }
set_option maxHeartbeats 4000000 in
set_option maxRecDepth 100000 in
theorem mX8_volumeOf (l : Launch) (D : va_G) (ids : Ids) (ad : Lay) (cA : Nat → ClassId) (A : Nat → Prop) (hM : HasM ids) (x1 : Int) (x2 : Int) (x3 : Int) (x4 : Int) (σ : Tab) (P : Int → Tab → Prop) (hq : wpX8_volumeOf x1 x2 x3 x4 σ P) : Met l yX8_volumeOf (ws_ yX8_volumeOf cX8_volumeOf 23 (some .long)) rmX8_volumeOf (PcW D ids ad cA A σ [.ref (ad 0 23 0), vI x1, vI x2, vI x3, vI x4]) (QL D ids ad cA A P) 0 0 A := by
  refine m_entry (own := RX8) (by decide) (Nat.le_of_ble_eq_true rfl) rfl ?_
  intro p e s m below meth c ls X hr w hl
  have hl : lv_has ls 23 [(0, .ref (ad 0 23 0)), (1, vI x1), (2, vI x2), (3, vI x3), (4, vI x4)] := hl
  unfold wpX8_volumeOf at hq
  refine lv_aload_n X.x X.b dX8_volumeOf_0 rfl (lv_at hl 0 rfl) ?_
  refine x_get X w (hM 23 (by decide)) rfl in_X8 rfl 2 (by decide) q673 rfl rfl dX8_volumeOf_1 ?_
  refine lv_iload_n X.x X.b dX8_volumeOf_4 rfl (lv_at hl 2 rfl) ?_
  obtain ⟨o1, hq⟩ := hq
  refine x_iald X w (hM 24 (by decide)) rfl (by decide) o1.1 o1.2 dX8_volumeOf_5 ?_
  refine lv_aload_n X.x X.b dX8_volumeOf_6 rfl (lv_at hl 0 rfl) ?_
  refine x_get X w (hM 23 (by decide)) rfl in_X8 rfl 2 (by decide) q673 rfl rfl dX8_volumeOf_7 ?_
  refine lv_iload_n X.x X.b dX8_volumeOf_10 rfl (lv_at hl 1 rfl) ?_
  obtain ⟨o2, hq⟩ := hq
  refine x_iald X w (hM 24 (by decide)) rfl (by decide) o2.1 o2.2 dX8_volumeOf_11 ?_
  refine ra_isub X.x X.b dX8_volumeOf_12 ?_
  obtain ⟨o3, hq⟩ := hq
  refine ra_i2l X.x X.b o3 dX8_volumeOf_13 ?_
  refine ra_nmL (fun y4 ey4 => ?_)
  have hq := hq y4 ey4
  refine lv_lstore (lv' := [(5, vL y4), (0, .ref (ad 0 23 0)), (1, vI x1), (2, vI x2), (3, vI x3), (4, vI x4)]) X.x X.b dX8_volumeOf_14 hl (by decide) rfl (fun ls hl => ?_)
  refine lv_aload_n X.x X.b dX8_volumeOf_16 rfl (lv_at hl 1 rfl) ?_
  refine x_get X w (hM 23 (by decide)) rfl in_X8 rfl 3 (by decide) q674 rfl rfl dX8_volumeOf_17 ?_
  refine lv_iload_n X.x X.b dX8_volumeOf_20 rfl (lv_at hl 3 rfl) ?_
  refine x_iald X w (hM 25 (by decide)) rfl (by decide) o1.1 o1.2 dX8_volumeOf_21 ?_
  refine lv_aload_n X.x X.b dX8_volumeOf_22 rfl (lv_at hl 1 rfl) ?_
  refine x_get X w (hM 23 (by decide)) rfl in_X8 rfl 3 (by decide) q674 rfl rfl dX8_volumeOf_23 ?_
  refine lv_iload_n X.x X.b dX8_volumeOf_26 rfl (lv_at hl 2 rfl) ?_
  refine x_iald X w (hM 25 (by decide)) rfl (by decide) o2.1 o2.2 dX8_volumeOf_27 ?_
  refine ra_isub X.x X.b dX8_volumeOf_28 ?_
  obtain ⟨o5, hq⟩ := hq
  refine ra_i2l X.x X.b o5 dX8_volumeOf_29 ?_
  refine ra_nmL (fun y6 ey6 => ?_)
  have hq := hq y6 ey6
  refine lv_lstore (lv' := [(7, vL y6), (5, vL y4), (0, .ref (ad 0 23 0)), (1, vI x1), (2, vI x2), (3, vI x3), (4, vI x4)]) X.x X.b dX8_volumeOf_30 hl (by decide) rfl (fun ls hl => ?_)
  refine lv_aload_n X.x X.b dX8_volumeOf_32 rfl (lv_at hl 2 rfl) ?_
  refine x_get X w (hM 23 (by decide)) rfl in_X8 rfl 4 (by decide) q675 rfl rfl dX8_volumeOf_33 ?_
  refine lv_iload_n X.x X.b dX8_volumeOf_36 rfl (lv_at hl 4 rfl) ?_
  refine x_iald X w (hM 26 (by decide)) rfl (by decide) o1.1 o1.2 dX8_volumeOf_37 ?_
  refine lv_aload_n X.x X.b dX8_volumeOf_38 rfl (lv_at hl 2 rfl) ?_
  refine x_get X w (hM 23 (by decide)) rfl in_X8 rfl 4 (by decide) q675 rfl rfl dX8_volumeOf_39 ?_
  refine lv_iload_n X.x X.b dX8_volumeOf_42 rfl (lv_at hl 3 rfl) ?_
  refine x_iald X w (hM 26 (by decide)) rfl (by decide) o2.1 o2.2 dX8_volumeOf_43 ?_
  refine ra_isub X.x X.b dX8_volumeOf_44 ?_
  obtain ⟨o7, hq⟩ := hq
  refine ra_i2l X.x X.b o7 dX8_volumeOf_45 ?_
  refine ra_nmL (fun y8 ey8 => ?_)
  have hq := hq y8 ey8
  refine lv_lstore (lv' := [(9, vL y8), (7, vL y6), (5, vL y4), (0, .ref (ad 0 23 0)), (1, vI x1), (2, vI x2), (3, vI x3), (4, vI x4)]) X.x X.b dX8_volumeOf_46 hl (by decide) rfl (fun ls hl => ?_)
  refine lv_aload_n X.x X.b dX8_volumeOf_48 rfl (lv_at hl 3 rfl) ?_
  refine x_get X w (hM 23 (by decide)) rfl in_X8 rfl 2 (by decide) q673 rfl rfl dX8_volumeOf_49 ?_
  refine lv_iload_n X.x X.b dX8_volumeOf_52 rfl (lv_at hl 6 rfl) ?_
  obtain ⟨o9, hq⟩ := hq
  refine x_iald X w (hM 24 (by decide)) rfl (by decide) o9.1 o9.2 dX8_volumeOf_53 ?_
  refine lv_aload_n X.x X.b dX8_volumeOf_54 rfl (lv_at hl 3 rfl) ?_
  refine x_get X w (hM 23 (by decide)) rfl in_X8 rfl 2 (by decide) q673 rfl rfl dX8_volumeOf_55 ?_
  refine lv_iload_n X.x X.b dX8_volumeOf_58 rfl (lv_at hl 4 rfl) ?_
  refine x_iald X w (hM 24 (by decide)) rfl (by decide) o2.1 o2.2 dX8_volumeOf_59 ?_
  refine ra_isub X.x X.b dX8_volumeOf_60 ?_
  obtain ⟨o10, hq⟩ := hq
  refine ra_i2l X.x X.b o10 dX8_volumeOf_61 ?_
  refine ra_nmL (fun y11 ey11 => ?_)
  have hq := hq y11 ey11
  refine lv_lstore (lv' := [(11, vL y11), (9, vL y8), (7, vL y6), (5, vL y4), (0, .ref (ad 0 23 0)), (1, vI x1), (2, vI x2), (3, vI x3), (4, vI x4)]) X.x X.b dX8_volumeOf_62 hl (by decide) rfl (fun ls hl => ?_)
  refine lv_aload_n X.x X.b dX8_volumeOf_64 rfl (lv_at hl 4 rfl) ?_
  refine x_get X w (hM 23 (by decide)) rfl in_X8 rfl 3 (by decide) q674 rfl rfl dX8_volumeOf_65 ?_
  refine lv_iload_n X.x X.b dX8_volumeOf_68 rfl (lv_at hl 7 rfl) ?_
  refine x_iald X w (hM 25 (by decide)) rfl (by decide) o9.1 o9.2 dX8_volumeOf_69 ?_
  refine lv_aload_n X.x X.b dX8_volumeOf_70 rfl (lv_at hl 4 rfl) ?_
  refine x_get X w (hM 23 (by decide)) rfl in_X8 rfl 3 (by decide) q674 rfl rfl dX8_volumeOf_71 ?_
  refine lv_iload_n X.x X.b dX8_volumeOf_74 rfl (lv_at hl 5 rfl) ?_
  refine x_iald X w (hM 25 (by decide)) rfl (by decide) o2.1 o2.2 dX8_volumeOf_75 ?_
  refine ra_isub X.x X.b dX8_volumeOf_76 ?_
  obtain ⟨o12, hq⟩ := hq
  refine ra_i2l X.x X.b o12 dX8_volumeOf_77 ?_
  refine ra_nmL (fun y13 ey13 => ?_)
  have hq := hq y13 ey13
  refine lv_lstore (lv' := [(13, vL y13), (11, vL y11), (9, vL y8), (7, vL y6), (5, vL y4), (0, .ref (ad 0 23 0)), (1, vI x1), (2, vI x2), (3, vI x3), (4, vI x4)]) X.x X.b dX8_volumeOf_78 hl (by decide) rfl (fun ls hl => ?_)
  refine lv_aload_n X.x X.b dX8_volumeOf_80 rfl (lv_at hl 5 rfl) ?_
  refine x_get X w (hM 23 (by decide)) rfl in_X8 rfl 4 (by decide) q675 rfl rfl dX8_volumeOf_81 ?_
  refine lv_iload_n X.x X.b dX8_volumeOf_84 rfl (lv_at hl 8 rfl) ?_
  refine x_iald X w (hM 26 (by decide)) rfl (by decide) o9.1 o9.2 dX8_volumeOf_85 ?_
  refine lv_aload_n X.x X.b dX8_volumeOf_86 rfl (lv_at hl 5 rfl) ?_
  refine x_get X w (hM 23 (by decide)) rfl in_X8 rfl 4 (by decide) q675 rfl rfl dX8_volumeOf_87 ?_
  refine lv_iload_n X.x X.b dX8_volumeOf_90 rfl (lv_at hl 6 rfl) ?_
  refine x_iald X w (hM 26 (by decide)) rfl (by decide) o2.1 o2.2 dX8_volumeOf_91 ?_
  refine ra_isub X.x X.b dX8_volumeOf_92 ?_
  obtain ⟨o14, hq⟩ := hq
  refine ra_i2l X.x X.b o14 dX8_volumeOf_93 ?_
  refine ra_nmL (fun y15 ey15 => ?_)
  have hq := hq y15 ey15
  refine lv_lstore (lv' := [(15, vL y15), (13, vL y13), (11, vL y11), (9, vL y8), (7, vL y6), (5, vL y4), (0, .ref (ad 0 23 0)), (1, vI x1), (2, vI x2), (3, vI x3), (4, vI x4)]) X.x X.b dX8_volumeOf_94 hl (by decide) rfl (fun ls hl => ?_)
  refine lv_aload_n X.x X.b dX8_volumeOf_96 rfl (lv_at hl 6 rfl) ?_
  refine x_get X w (hM 23 (by decide)) rfl in_X8 rfl 2 (by decide) q673 rfl rfl dX8_volumeOf_97 ?_
  refine lv_iload X.x X.b dX8_volumeOf_100 (lv_at hl 10 rfl) ?_
  obtain ⟨o16, hq⟩ := hq
  refine x_iald X w (hM 24 (by decide)) rfl (by decide) o16.1 o16.2 dX8_volumeOf_102 ?_
  refine lv_aload_n X.x X.b dX8_volumeOf_103 rfl (lv_at hl 6 rfl) ?_
  refine x_get X w (hM 23 (by decide)) rfl in_X8 rfl 2 (by decide) q673 rfl rfl dX8_volumeOf_104 ?_
  refine lv_iload_n X.x X.b dX8_volumeOf_107 rfl (lv_at hl 7 rfl) ?_
  refine x_iald X w (hM 24 (by decide)) rfl (by decide) o2.1 o2.2 dX8_volumeOf_108 ?_
  refine ra_isub X.x X.b dX8_volumeOf_109 ?_
  obtain ⟨o17, hq⟩ := hq
  refine ra_i2l X.x X.b o17 dX8_volumeOf_110 ?_
  refine ra_nmL (fun y18 ey18 => ?_)
  have hq := hq y18 ey18
  refine lv_lstore (lv' := [(17, vL y18), (15, vL y15), (13, vL y13), (11, vL y11), (9, vL y8), (7, vL y6), (5, vL y4), (0, .ref (ad 0 23 0)), (1, vI x1), (2, vI x2), (3, vI x3), (4, vI x4)]) X.x X.b dX8_volumeOf_111 hl (by decide) rfl (fun ls hl => ?_)
  refine lv_aload_n X.x X.b dX8_volumeOf_113 rfl (lv_at hl 7 rfl) ?_
  refine x_get X w (hM 23 (by decide)) rfl in_X8 rfl 3 (by decide) q674 rfl rfl dX8_volumeOf_114 ?_
  refine lv_iload X.x X.b dX8_volumeOf_117 (lv_at hl 11 rfl) ?_
  refine x_iald X w (hM 25 (by decide)) rfl (by decide) o16.1 o16.2 dX8_volumeOf_119 ?_
  refine lv_aload_n X.x X.b dX8_volumeOf_120 rfl (lv_at hl 7 rfl) ?_
  refine x_get X w (hM 23 (by decide)) rfl in_X8 rfl 3 (by decide) q674 rfl rfl dX8_volumeOf_121 ?_
  refine lv_iload_n X.x X.b dX8_volumeOf_124 rfl (lv_at hl 8 rfl) ?_
  refine x_iald X w (hM 25 (by decide)) rfl (by decide) o2.1 o2.2 dX8_volumeOf_125 ?_
  refine ra_isub X.x X.b dX8_volumeOf_126 ?_
  obtain ⟨o19, hq⟩ := hq
  refine ra_i2l X.x X.b o19 dX8_volumeOf_127 ?_
  refine ra_nmL (fun y20 ey20 => ?_)
  have hq := hq y20 ey20
  refine lv_lstore (lv' := [(19, vL y20), (17, vL y18), (15, vL y15), (13, vL y13), (11, vL y11), (9, vL y8), (7, vL y6), (5, vL y4), (0, .ref (ad 0 23 0)), (1, vI x1), (2, vI x2), (3, vI x3), (4, vI x4)]) X.x X.b dX8_volumeOf_128 hl (by decide) rfl (fun ls hl => ?_)
  refine lv_aload_n X.x X.b dX8_volumeOf_130 rfl (lv_at hl 8 rfl) ?_
  refine x_get X w (hM 23 (by decide)) rfl in_X8 rfl 4 (by decide) q675 rfl rfl dX8_volumeOf_131 ?_
  refine lv_iload X.x X.b dX8_volumeOf_134 (lv_at hl 12 rfl) ?_
  refine x_iald X w (hM 26 (by decide)) rfl (by decide) o16.1 o16.2 dX8_volumeOf_136 ?_
  refine lv_aload_n X.x X.b dX8_volumeOf_137 rfl (lv_at hl 8 rfl) ?_
  refine x_get X w (hM 23 (by decide)) rfl in_X8 rfl 4 (by decide) q675 rfl rfl dX8_volumeOf_138 ?_
  refine lv_iload_n X.x X.b dX8_volumeOf_141 rfl (lv_at hl 9 rfl) ?_
  refine x_iald X w (hM 26 (by decide)) rfl (by decide) o2.1 o2.2 dX8_volumeOf_142 ?_
  refine ra_isub X.x X.b dX8_volumeOf_143 ?_
  obtain ⟨o21, hq⟩ := hq
  refine ra_i2l X.x X.b o21 dX8_volumeOf_144 ?_
  refine ra_nmL (fun y22 ey22 => ?_)
  have hq := hq y22 ey22
  refine lv_lstore (lv' := [(21, vL y22), (19, vL y20), (17, vL y18), (15, vL y15), (13, vL y13), (11, vL y11), (9, vL y8), (7, vL y6), (5, vL y4), (0, .ref (ad 0 23 0)), (1, vI x1), (2, vI x2), (3, vI x3), (4, vI x4)]) X.x X.b dX8_volumeOf_145 hl (by decide) rfl (fun ls hl => ?_)
  refine lv_lload X.x X.b dX8_volumeOf_147 (lv_at hl 7 rfl) ?_
  refine lv_lload X.x X.b dX8_volumeOf_149 (lv_at hl 3 rfl) ?_
  refine ra_lmul X.x X.b dX8_volumeOf_151 ?_
  refine lv_lload X.x X.b dX8_volumeOf_152 (lv_at hl 6 rfl) ?_
  refine lv_lload X.x X.b dX8_volumeOf_154 (lv_at hl 4 rfl) ?_
  refine ra_lmul X.x X.b dX8_volumeOf_156 ?_
  refine ra_lsub X.x X.b dX8_volumeOf_157 ?_
  refine lv_lload X.x X.b dX8_volumeOf_158 (lv_at hl 2 rfl) ?_
  refine ra_lmul X.x X.b dX8_volumeOf_160 ?_
  refine lv_lload X.x X.b dX8_volumeOf_161 (lv_at hl 6 rfl) ?_
  refine lv_lload X.x X.b dX8_volumeOf_163 (lv_at hl 5 rfl) ?_
  refine ra_lmul X.x X.b dX8_volumeOf_165 ?_
  refine lv_lload X.x X.b dX8_volumeOf_166 (lv_at hl 8 rfl) ?_
  refine lv_lload X.x X.b dX8_volumeOf_168 (lv_at hl 3 rfl) ?_
  refine ra_lmul X.x X.b dX8_volumeOf_170 ?_
  refine ra_lsub X.x X.b dX8_volumeOf_171 ?_
  refine lv_lload X.x X.b dX8_volumeOf_172 (lv_at hl 1 rfl) ?_
  refine ra_lmul X.x X.b dX8_volumeOf_174 ?_
  refine ra_ladd X.x X.b dX8_volumeOf_175 ?_
  refine lv_lload X.x X.b dX8_volumeOf_176 (lv_at hl 8 rfl) ?_
  refine lv_lload X.x X.b dX8_volumeOf_178 (lv_at hl 4 rfl) ?_
  refine ra_lmul X.x X.b dX8_volumeOf_180 ?_
  refine lv_lload X.x X.b dX8_volumeOf_181 (lv_at hl 7 rfl) ?_
  refine lv_lload X.x X.b dX8_volumeOf_183 (lv_at hl 5 rfl) ?_
  refine ra_lmul X.x X.b dX8_volumeOf_185 ?_
  refine ra_lsub X.x X.b dX8_volumeOf_186 ?_
  refine lv_lload X.x X.b dX8_volumeOf_187 (lv_at hl 0 rfl) ?_
  refine ra_lmul X.x X.b dX8_volumeOf_189 ?_
  refine ra_ladd X.x X.b dX8_volumeOf_190 ?_
  exact x_lret X hr w hq dX8_volumeOf_191
def wlX8_solid_44  (P : Int → Tab → Prop) (K4 : Int → Int → Tab → Prop) (K16 : Int → Int → Int → Tab → Prop) (K29 : Int → Int → Int → Int → Tab → Prop) : Nat → Int → Int → Int → Int → Int → Tab → Prop
  | 0, _, _, _, _, _, _ => False
  | n + 1, x1, x2, x3, x4, x5, σ => (inI x5 ∧ (inI (σ 0 23 0 1) ∧ ((σ 0 23 0 1 ≤ x5 → K29 x1 x2 x3 (x4 + 1) σ) ∧ (¬ (σ 0 23 0 1 ≤ x5) → (inI x1 ∧ ((x1 ≠ 0 → K29 x1 x2 x3 (x4 + 1) σ) ∧ (¬ (x1 ≠ 0) → wpX8_volumeOf x2 x3 x4 x5 σ (fun z6 σ6 => (inL z6 ∧ ((z6 = 0 → wlX8_solid_44 P K4 K16 K29 n 0 x2 x3 x4 (x5 + 1) σ6) ∧ (¬ (z6 = 0) → wlX8_solid_44 P K4 K16 K29 n 1 x2 x3 x4 (x5 + 1) σ6)))))))))))
def wlX8_solid_29  (P : Int → Tab → Prop) (K4 : Int → Int → Tab → Prop) (K16 : Int → Int → Int → Tab → Prop) : Nat → Int → Int → Int → Int → Tab → Prop
  | 0, _, _, _, _, _ => False
  | n + 1, x1, x2, x3, x4, σ => (inI x4 ∧ (inI (σ 0 23 0 1) ∧ ((σ 0 23 0 1 ≤ x4 → K16 x1 x2 (x3 + 1) σ) ∧ (¬ (σ 0 23 0 1 ≤ x4) → (∃ k : Nat, wlX8_solid_44 P K4 K16 (fun x1 x2 x3 x4 τ => wlX8_solid_29 P K4 K16 n x1 x2 x3 x4 τ) k x1 x2 x3 x4 (x4 + 1) σ)))))
def wlX8_solid_16  (P : Int → Tab → Prop) (K4 : Int → Int → Tab → Prop) : Nat → Int → Int → Int → Tab → Prop
  | 0, _, _, _, _ => False
  | n + 1, x1, x2, x3, σ => (inI x3 ∧ (inI (σ 0 23 0 1) ∧ ((σ 0 23 0 1 ≤ x3 → K4 x1 (x2 + 1) σ) ∧ (¬ (σ 0 23 0 1 ≤ x3) → (∃ k : Nat, wlX8_solid_29 P K4 (fun x1 x2 x3 τ => wlX8_solid_16 P K4 n x1 x2 x3 τ) k x1 x2 x3 (x3 + 1) σ)))))
def wlX8_solid_4  (P : Int → Tab → Prop) : Nat → Int → Int → Tab → Prop
  | 0, _, _, _ => False
  | n + 1, x1, x2, σ => (inI x2 ∧ (inI (σ 0 23 0 1) ∧ ((σ 0 23 0 1 ≤ x2 → ((x1 = 0 ∨ x1 = 1) ∧ P x1 σ)) ∧ (¬ (σ 0 23 0 1 ≤ x2) → (∃ k : Nat, wlX8_solid_16 P (fun x1 x2 τ => wlX8_solid_4 P n x1 x2 τ) k x1 x2 (x2 + 1) σ)))))
def wpX8_solid  (σ : Tab) (P : Int → Tab → Prop) : Prop := (∃ k : Nat, wlX8_solid_4 P k 0 0 σ)
abbrev rmX8_solid : Room := { frames := 1, cells := 0, slots := 0, locals := 42 }
set_option maxHeartbeats 4000000 in
set_option maxRecDepth 100000 in
theorem klX8_solid_44 {l : Launch} {p : Program} {e : Env} {s : State} {m : MethodId} {args : Array Value} {below : List Frame} {meth : Method} {c : Code} {D : va_G} {ids : Ids} {ad : Lay} {cA : Nat → ClassId} {A : Nat → Prop}  {P : Int → Tab → Prop} {K4 : Int → Int → Tab → Prop} {K16 : Int → Int → Int → Tab → Prop} {K29 : Int → Int → Int → Int → Tab → Prop} (X : Cx p m c meth cX8_solid 6 s args RX8 D cA A nwW) (hr : meth.sig.returnType = some .boolean) (hM : HasM ids) (kk4 : ∀ (x1 : Int) (x2 : Int) (σ : Tab) (H : Heap) (locs : List Loc) (ls : Array Slot), K4 x1 x2 σ → ww D ids ad cA A σ s.heap H locs → lv_has ls 6 [(0, .ref (ad 0 23 0)), (1, vI x1), (2, vI x2)] → W p l e rmX8_solid s m args below meth c H locs 0 0 (MQ below (QI D ids ad cA A P) args s 0 0 A) (F0 m 4 ls [])) (kk16 : ∀ (x1 : Int) (x2 : Int) (x3 : Int) (σ : Tab) (H : Heap) (locs : List Loc) (ls : Array Slot), K16 x1 x2 x3 σ → ww D ids ad cA A σ s.heap H locs → lv_has ls 6 [(0, .ref (ad 0 23 0)), (1, vI x1), (2, vI x2), (3, vI x3)] → W p l e rmX8_solid s m args below meth c H locs 0 0 (MQ below (QI D ids ad cA A P) args s 0 0 A) (F0 m 16 ls [])) (kk29 : ∀ (x1 : Int) (x2 : Int) (x3 : Int) (x4 : Int) (σ : Tab) (H : Heap) (locs : List Loc) (ls : Array Slot), K29 x1 x2 x3 x4 σ → ww D ids ad cA A σ s.heap H locs → lv_has ls 6 [(0, .ref (ad 0 23 0)), (1, vI x1), (2, vI x2), (3, vI x3), (4, vI x4)] → W p l e rmX8_solid s m args below meth c H locs 0 0 (MQ below (QI D ids ad cA A P) args s 0 0 A) (F0 m 29 ls [])) :
    ∀ (n : Nat) (x1 : Int) (x2 : Int) (x3 : Int) (x4 : Int) (x5 : Int) (σ : Tab) (H : Heap) (locs : List Loc) (ls : Array Slot), wlX8_solid_44 P K4 K16 K29 n x1 x2 x3 x4 x5 σ → ww D ids ad cA A σ s.heap H locs → lv_has ls 6 [(0, .ref (ad 0 23 0)), (1, vI x1), (2, vI x2), (3, vI x3), (4, vI x4), (5, vI x5)] → W p l e rmX8_solid s m args below meth c H locs 0 0 (MQ below (QI D ids ad cA A P) args s 0 0 A) (F0 m 44 ls []) := by
  intro n
  induction n with
  | zero => intro x1 x2 x3 x4 x5 σ H locs ls hq w hl; exact hq.elim
  | succ n ih =>
    intro x1 x2 x3 x4 x5 σ H locs ls hq w hl
    unfold wlX8_solid_44 at hq
    refine lv_iload X.x X.b dX8_solid_44 (lv_at hl 5 rfl) ?_
    refine lv_aload_n X.x X.b dX8_solid_46 rfl (lv_at hl 0 rfl) ?_
    refine x_get X w (hM 23 (by decide)) rfl in_X8 rfl 1 (by decide) q672 rfl rfl dX8_solid_47 ?_
    obtain ⟨o1, hq⟩ := hq
    obtain ⟨o2, hq⟩ := hq
    refine ra_icmp_ge (tgt := 84) X.x X.b o1 o2 dX8_solid_50 (by decide) (fun c3 => ?_) (fun c3 => ?_)
    · have hq := hq.1 c3
      refine lv_iinc (v := Int32.ofInt (x4 + 1)) (lv' := [(4, vI (x4 + 1)), (0, .ref (ad 0 23 0)), (1, vI x1), (2, vI x2), (3, vI x3), (5, vI x5)]) X.x X.b dX8_solid_84 hl (k := 4) rfl (Int32.ofInt_add _ _).symm (by decide) rfl (fun ls hl => ?_)
      refine lv_goto (tgt := 29) X.x X.b dX8_solid_87 (by decide) ?_
      exact kk29 x1 x2 x3 (x4 + 1) σ _ _ _ hq w (lv_sub hl [1, 2, 3, 4, 0] rfl)
    · have hq := hq.2 c3
      refine lv_iload_n X.x X.b dX8_solid_53 rfl (lv_at hl 1 rfl) ?_
      obtain ⟨o4, hq⟩ := hq
      refine ra_if_ne (tgt := 84) X.x X.b o4 dX8_solid_54 (by decide) (fun c5 => ?_) (fun c5 => ?_)
      · have hq := hq.1 c5
        refine lv_iinc (v := Int32.ofInt (x4 + 1)) (lv' := [(4, vI (x4 + 1)), (0, .ref (ad 0 23 0)), (1, vI x1), (2, vI x2), (3, vI x3), (5, vI x5)]) X.x X.b dX8_solid_84 hl (k := 4) rfl (Int32.ofInt_add _ _).symm (by decide) rfl (fun ls hl => ?_)
        refine lv_goto (tgt := 29) X.x X.b dX8_solid_87 (by decide) ?_
        exact kk29 x1 x2 x3 (x4 + 1) σ _ _ _ hq w (lv_sub hl [1, 2, 3, 4, 0] rfl)
      · have hq := hq.2 c5
        refine lv_aload_n X.x X.b dX8_solid_57 rfl (lv_at hl 0 rfl) ?_
        refine lv_iload_n X.x X.b dX8_solid_58 rfl (lv_at hl 2 rfl) ?_
        refine lv_iload_n X.x X.b dX8_solid_59 rfl (lv_at hl 3 rfl) ?_
        refine lv_iload X.x X.b dX8_solid_60 (lv_at hl 4 rfl) ?_
        refine lv_iload X.x X.b dX8_solid_62 (lv_at hl 5 rfl) ?_
        refine x_callVl (n := 4) (As := [vI x2, vI x3, vI x4, vI x5]) (rest := []) X w (hM 23 (by decide)) rfl rfl (mX8_volumeOf l D ids ad cA A hM x2 x3 x4 x5 σ _ hq) (lw_V q785 q787 qs18 q43 q788) ⟨rfl, rfl⟩ (by decide +kernel) ⟨Nat.le_of_ble_eq_true rfl, Nat.le_of_ble_eq_true rfl⟩ ⟨Nat.le_refl _, Nat.le_refl _⟩ rfl hl.1 rfl (Nat.le_of_ble_eq_true rfl) dX8_solid_64 (fun z6 σ6 H locs hq w => ?_)
        refine ra_lconst (z := 0) X.x X.b dX8_solid_67 rfl ?_
        obtain ⟨o7, hq⟩ := hq
        refine ra_lcmp_eq (tgt := 76) X.x X.b o7 ⟨by decide, by decide⟩ dX8_solid_68 dX8_solid_69 (by decide) (fun c8 => ?_) (fun c8 => ?_)
        · have hq := hq.1 c8
          refine ra_iconst X.x X.b dX8_solid_76 ?_
          refine lv_istore_n (lv' := [(1, vI 0), (0, .ref (ad 0 23 0)), (2, vI x2), (3, vI x3), (4, vI x4), (5, vI x5)]) X.x X.b dX8_solid_77 rfl hl (by decide) rfl (fun ls hl => ?_)
          refine lv_iinc (v := Int32.ofInt (x5 + 1)) (lv' := [(5, vI (x5 + 1)), (1, vI 0), (0, .ref (ad 0 23 0)), (2, vI x2), (3, vI x3), (4, vI x4)]) X.x X.b dX8_solid_78 hl (k := 5) rfl (Int32.ofInt_add _ _).symm (by decide) rfl (fun ls hl => ?_)
          refine lv_goto (tgt := 44) X.x X.b dX8_solid_81 (by decide) ?_
          exact ih 0 x2 x3 x4 (x5 + 1) σ6 _ _ _ hq w (lv_sub hl [2, 1, 3, 4, 5, 0] rfl)
        · have hq := hq.2 c8
          refine ra_iconst X.x X.b dX8_solid_72 ?_
          refine lv_goto (tgt := 77) X.x X.b dX8_solid_73 (by decide) ?_
          refine lv_istore_n (lv' := [(1, vI 1), (0, .ref (ad 0 23 0)), (2, vI x2), (3, vI x3), (4, vI x4), (5, vI x5)]) X.x X.b dX8_solid_77 rfl hl (by decide) rfl (fun ls hl => ?_)
          refine lv_iinc (v := Int32.ofInt (x5 + 1)) (lv' := [(5, vI (x5 + 1)), (1, vI 1), (0, .ref (ad 0 23 0)), (2, vI x2), (3, vI x3), (4, vI x4)]) X.x X.b dX8_solid_78 hl (k := 5) rfl (Int32.ofInt_add _ _).symm (by decide) rfl (fun ls hl => ?_)
          refine lv_goto (tgt := 44) X.x X.b dX8_solid_81 (by decide) ?_
          exact ih 1 x2 x3 x4 (x5 + 1) σ6 _ _ _ hq w (lv_sub hl [2, 1, 3, 4, 5, 0] rfl)
set_option maxHeartbeats 4000000 in
set_option maxRecDepth 100000 in
theorem klX8_solid_29 {l : Launch} {p : Program} {e : Env} {s : State} {m : MethodId} {args : Array Value} {below : List Frame} {meth : Method} {c : Code} {D : va_G} {ids : Ids} {ad : Lay} {cA : Nat → ClassId} {A : Nat → Prop}  {P : Int → Tab → Prop} {K4 : Int → Int → Tab → Prop} {K16 : Int → Int → Int → Tab → Prop} (X : Cx p m c meth cX8_solid 6 s args RX8 D cA A nwW) (hr : meth.sig.returnType = some .boolean) (hM : HasM ids) (kk4 : ∀ (x1 : Int) (x2 : Int) (σ : Tab) (H : Heap) (locs : List Loc) (ls : Array Slot), K4 x1 x2 σ → ww D ids ad cA A σ s.heap H locs → lv_has ls 6 [(0, .ref (ad 0 23 0)), (1, vI x1), (2, vI x2)] → W p l e rmX8_solid s m args below meth c H locs 0 0 (MQ below (QI D ids ad cA A P) args s 0 0 A) (F0 m 4 ls [])) (kk16 : ∀ (x1 : Int) (x2 : Int) (x3 : Int) (σ : Tab) (H : Heap) (locs : List Loc) (ls : Array Slot), K16 x1 x2 x3 σ → ww D ids ad cA A σ s.heap H locs → lv_has ls 6 [(0, .ref (ad 0 23 0)), (1, vI x1), (2, vI x2), (3, vI x3)] → W p l e rmX8_solid s m args below meth c H locs 0 0 (MQ below (QI D ids ad cA A P) args s 0 0 A) (F0 m 16 ls [])) :
    ∀ (n : Nat) (x1 : Int) (x2 : Int) (x3 : Int) (x4 : Int) (σ : Tab) (H : Heap) (locs : List Loc) (ls : Array Slot), wlX8_solid_29 P K4 K16 n x1 x2 x3 x4 σ → ww D ids ad cA A σ s.heap H locs → lv_has ls 6 [(0, .ref (ad 0 23 0)), (1, vI x1), (2, vI x2), (3, vI x3), (4, vI x4)] → W p l e rmX8_solid s m args below meth c H locs 0 0 (MQ below (QI D ids ad cA A P) args s 0 0 A) (F0 m 29 ls []) := by
  intro n
  induction n with
  | zero => intro x1 x2 x3 x4 σ H locs ls hq w hl; exact hq.elim
  | succ n ih =>
    intro x1 x2 x3 x4 σ H locs ls hq w hl
    unfold wlX8_solid_29 at hq
    refine lv_iload X.x X.b dX8_solid_29 (lv_at hl 4 rfl) ?_
    refine lv_aload_n X.x X.b dX8_solid_31 rfl (lv_at hl 0 rfl) ?_
    refine x_get X w (hM 23 (by decide)) rfl in_X8 rfl 1 (by decide) q672 rfl rfl dX8_solid_32 ?_
    obtain ⟨o1, hq⟩ := hq
    obtain ⟨o2, hq⟩ := hq
    refine ra_icmp_ge (tgt := 90) X.x X.b o1 o2 dX8_solid_35 (by decide) (fun c3 => ?_) (fun c3 => ?_)
    · have hq := hq.1 c3
      refine lv_iinc (v := Int32.ofInt (x3 + 1)) (lv' := [(3, vI (x3 + 1)), (0, .ref (ad 0 23 0)), (1, vI x1), (2, vI x2), (4, vI x4)]) X.x X.b dX8_solid_90 hl (k := 3) rfl (Int32.ofInt_add _ _).symm (by decide) rfl (fun ls hl => ?_)
      refine lv_goto (tgt := 16) X.x X.b dX8_solid_93 (by decide) ?_
      exact kk16 x1 x2 (x3 + 1) σ _ _ _ hq w (lv_sub hl [1, 2, 3, 0] rfl)
    · have hq := hq.2 c3
      refine lv_iload X.x X.b dX8_solid_38 (lv_at hl 4 rfl) ?_
      refine ra_iconst X.x X.b dX8_solid_40 ?_
      refine ra_iadd X.x X.b dX8_solid_41 ?_
      refine lv_istore (lv' := [(5, vI (x4 + 1)), (0, .ref (ad 0 23 0)), (1, vI x1), (2, vI x2), (3, vI x3), (4, vI x4)]) X.x X.b dX8_solid_42 hl (by decide) rfl (fun ls hl => ?_)
      obtain ⟨n4, hq⟩ := hq
      exact klX8_solid_44 X hr hM kk4 kk16 (fun a0 a1 a2 a3 τ H L ls q w h => ih a0 a1 a2 a3 τ H L ls q w h) n4 x1 x2 x3 x4 (x4 + 1) σ _ _ _ hq w (lv_sub hl [1, 2, 3, 4, 5, 0] rfl)
set_option maxHeartbeats 4000000 in
set_option maxRecDepth 100000 in
theorem klX8_solid_16 {l : Launch} {p : Program} {e : Env} {s : State} {m : MethodId} {args : Array Value} {below : List Frame} {meth : Method} {c : Code} {D : va_G} {ids : Ids} {ad : Lay} {cA : Nat → ClassId} {A : Nat → Prop}  {P : Int → Tab → Prop} {K4 : Int → Int → Tab → Prop} (X : Cx p m c meth cX8_solid 6 s args RX8 D cA A nwW) (hr : meth.sig.returnType = some .boolean) (hM : HasM ids) (kk4 : ∀ (x1 : Int) (x2 : Int) (σ : Tab) (H : Heap) (locs : List Loc) (ls : Array Slot), K4 x1 x2 σ → ww D ids ad cA A σ s.heap H locs → lv_has ls 6 [(0, .ref (ad 0 23 0)), (1, vI x1), (2, vI x2)] → W p l e rmX8_solid s m args below meth c H locs 0 0 (MQ below (QI D ids ad cA A P) args s 0 0 A) (F0 m 4 ls [])) :
    ∀ (n : Nat) (x1 : Int) (x2 : Int) (x3 : Int) (σ : Tab) (H : Heap) (locs : List Loc) (ls : Array Slot), wlX8_solid_16 P K4 n x1 x2 x3 σ → ww D ids ad cA A σ s.heap H locs → lv_has ls 6 [(0, .ref (ad 0 23 0)), (1, vI x1), (2, vI x2), (3, vI x3)] → W p l e rmX8_solid s m args below meth c H locs 0 0 (MQ below (QI D ids ad cA A P) args s 0 0 A) (F0 m 16 ls []) := by
  intro n
  induction n with
  | zero => intro x1 x2 x3 σ H locs ls hq w hl; exact hq.elim
  | succ n ih =>
    intro x1 x2 x3 σ H locs ls hq w hl
    unfold wlX8_solid_16 at hq
    refine lv_iload_n X.x X.b dX8_solid_16 rfl (lv_at hl 3 rfl) ?_
    refine lv_aload_n X.x X.b dX8_solid_17 rfl (lv_at hl 0 rfl) ?_
    refine x_get X w (hM 23 (by decide)) rfl in_X8 rfl 1 (by decide) q672 rfl rfl dX8_solid_18 ?_
    obtain ⟨o1, hq⟩ := hq
    obtain ⟨o2, hq⟩ := hq
    refine ra_icmp_ge (tgt := 96) X.x X.b o1 o2 dX8_solid_21 (by decide) (fun c3 => ?_) (fun c3 => ?_)
    · have hq := hq.1 c3
      refine lv_iinc (v := Int32.ofInt (x2 + 1)) (lv' := [(2, vI (x2 + 1)), (0, .ref (ad 0 23 0)), (1, vI x1), (3, vI x3)]) X.x X.b dX8_solid_96 hl (k := 2) rfl (Int32.ofInt_add _ _).symm (by decide) rfl (fun ls hl => ?_)
      refine lv_goto (tgt := 4) X.x X.b dX8_solid_99 (by decide) ?_
      exact kk4 x1 (x2 + 1) σ _ _ _ hq w (lv_sub hl [1, 2, 0] rfl)
    · have hq := hq.2 c3
      refine lv_iload_n X.x X.b dX8_solid_24 rfl (lv_at hl 3 rfl) ?_
      refine ra_iconst X.x X.b dX8_solid_25 ?_
      refine ra_iadd X.x X.b dX8_solid_26 ?_
      refine lv_istore (lv' := [(4, vI (x3 + 1)), (0, .ref (ad 0 23 0)), (1, vI x1), (2, vI x2), (3, vI x3)]) X.x X.b dX8_solid_27 hl (by decide) rfl (fun ls hl => ?_)
      obtain ⟨n4, hq⟩ := hq
      exact klX8_solid_29 X hr hM kk4 (fun a0 a1 a2 τ H L ls q w h => ih a0 a1 a2 τ H L ls q w h) n4 x1 x2 x3 (x3 + 1) σ _ _ _ hq w (lv_sub hl [1, 2, 3, 4, 0] rfl)
set_option maxHeartbeats 4000000 in
set_option maxRecDepth 100000 in
theorem klX8_solid_4 {l : Launch} {p : Program} {e : Env} {s : State} {m : MethodId} {args : Array Value} {below : List Frame} {meth : Method} {c : Code} {D : va_G} {ids : Ids} {ad : Lay} {cA : Nat → ClassId} {A : Nat → Prop}  {P : Int → Tab → Prop} (X : Cx p m c meth cX8_solid 6 s args RX8 D cA A nwW) (hr : meth.sig.returnType = some .boolean) (hM : HasM ids) :
    ∀ (n : Nat) (x1 : Int) (x2 : Int) (σ : Tab) (H : Heap) (locs : List Loc) (ls : Array Slot), wlX8_solid_4 P n x1 x2 σ → ww D ids ad cA A σ s.heap H locs → lv_has ls 6 [(0, .ref (ad 0 23 0)), (1, vI x1), (2, vI x2)] → W p l e rmX8_solid s m args below meth c H locs 0 0 (MQ below (QI D ids ad cA A P) args s 0 0 A) (F0 m 4 ls []) := by
  intro n
  induction n with
  | zero => intro x1 x2 σ H locs ls hq w hl; exact hq.elim
  | succ n ih =>
    intro x1 x2 σ H locs ls hq w hl
    unfold wlX8_solid_4 at hq
    refine lv_iload_n X.x X.b dX8_solid_4 rfl (lv_at hl 2 rfl) ?_
    refine lv_aload_n X.x X.b dX8_solid_5 rfl (lv_at hl 0 rfl) ?_
    refine x_get X w (hM 23 (by decide)) rfl in_X8 rfl 1 (by decide) q672 rfl rfl dX8_solid_6 ?_
    obtain ⟨o1, hq⟩ := hq
    obtain ⟨o2, hq⟩ := hq
    refine ra_icmp_ge (tgt := 102) X.x X.b o1 o2 dX8_solid_9 (by decide) (fun c3 => ?_) (fun c3 => ?_)
    · have hq := hq.1 c3
      refine lv_iload_n X.x X.b dX8_solid_102 rfl (lv_at hl 1 rfl) ?_
      obtain ⟨o4, hq⟩ := hq
      exact x_zret X hr w o4 hq dX8_solid_103
    · have hq := hq.2 c3
      refine lv_iload_n X.x X.b dX8_solid_12 rfl (lv_at hl 2 rfl) ?_
      refine ra_iconst X.x X.b dX8_solid_13 ?_
      refine ra_iadd X.x X.b dX8_solid_14 ?_
      refine lv_istore_n (lv' := [(3, vI (x2 + 1)), (0, .ref (ad 0 23 0)), (1, vI x1), (2, vI x2)]) X.x X.b dX8_solid_15 rfl hl (by decide) rfl (fun ls hl => ?_)
      obtain ⟨n5, hq⟩ := hq
      exact klX8_solid_16 X hr hM (fun a0 a1 τ H L ls q w h => ih a0 a1 τ H L ls q w h) n5 x1 x2 (x2 + 1) σ _ _ _ hq w (lv_sub hl [1, 2, 3, 0] rfl)
set_option maxHeartbeats 4000000 in
set_option maxRecDepth 100000 in
theorem mX8_solid (l : Launch) (D : va_G) (ids : Ids) (ad : Lay) (cA : Nat → ClassId) (A : Nat → Prop) (hM : HasM ids) (σ : Tab) (P : Int → Tab → Prop) (hq : wpX8_solid  σ P) : Met l yX8_solid (ws_ yX8_solid cX8_solid 6 (some .boolean)) rmX8_solid (PcW D ids ad cA A σ [.ref (ad 0 23 0)]) (QI D ids ad cA A P) 0 0 A := by
  refine m_entry (own := RX8) (by decide) (Nat.le_of_ble_eq_true rfl) rfl ?_
  intro p e s m below meth c ls X hr w hl
  have hl : lv_has ls 6 [(0, .ref (ad 0 23 0))] := hl
  unfold wpX8_solid at hq
  refine ra_iconst X.x X.b dX8_solid_0 ?_
  refine lv_istore_n (lv' := [(1, vI 0), (0, .ref (ad 0 23 0))]) X.x X.b dX8_solid_1 rfl hl (by decide) rfl (fun ls hl => ?_)
  refine ra_iconst X.x X.b dX8_solid_2 ?_
  refine lv_istore_n (lv' := [(2, vI 0), (1, vI 0), (0, .ref (ad 0 23 0))]) X.x X.b dX8_solid_3 rfl hl (by decide) rfl (fun ls hl => ?_)
  obtain ⟨n1, hq⟩ := hq
  exact klX8_solid_4 X hr hM  n1 0 0 σ _ _ _ hq w (lv_sub hl [2, 1, 0] rfl)
end
