/-! the walk of X8_volume X8_centre X8_middle X8_count (written by wip/D-68248w/tools/genwalk.py) -/
section
def wpX8_volume  (σ : Tab) (P : Int → Tab → Prop) : Prop := wpX8_goes (σ 0 23 0 5) 1 σ (fun z1 σ1 => (inI z1 ∧ ((z1 = 0 → P 0 σ1) ∧ (¬ (z1 = 0) → wpX8_sum (-1) σ1 (fun z4 σ4 => P z4 σ4)))))
abbrev rmX8_volume : Room := { frames := 1, cells := 0, slots := 0, locals := 32 }
set_option maxHeartbeats 4000000 in
set_option maxRecDepth 100000 in
theorem mX8_volume (l : Launch) (D : va_G) (ids : Ids) (ad : Lay) (cA : Nat → ClassId) (A : Nat → Prop) (hM : HasM ids) (σ : Tab) (P : Int → Tab → Prop) (hq : wpX8_volume  σ P) : Met l yX8_volume (ws_ yX8_volume cX8_volume 1 (some .long)) rmX8_volume (PcW D ids ad cA A σ [.ref (ad 0 23 0)]) (QL D ids ad cA A P) 0 0 A := by
  refine m_entry (own := RX8) (by decide) (Nat.le_of_ble_eq_true rfl) rfl ?_
  intro p e s m below meth c ls X hr w hl
  have hl : lv_has ls 1 [(0, .ref (ad 0 23 0))] := hl
  unfold wpX8_volume at hq
  refine lv_aload_n X.x X.b dX8_volume_0 rfl (lv_at hl 0 rfl) ?_
  refine lv_aload_n X.x X.b dX8_volume_1 rfl (lv_at hl 0 rfl) ?_
  refine x_get X w (hM 23 (by decide)) rfl in_X8 rfl 5 (by decide) q676 rfl rfl dX8_volume_2 ?_
  refine ra_iconst X.x X.b dX8_volume_5 ?_
  refine x_callVi (n := 2) (As := [vI (σ 0 23 0 5), vI 1]) (rest := []) X w (hM 23 (by decide)) rfl rfl (mX8_goes l D ids ad cA A hM (σ 0 23 0 5) 1 σ _ hq) (lw_V q769 q771 qs16 q43 q772) ⟨rfl, rfl⟩ (by decide +kernel) ⟨Nat.le_of_ble_eq_true rfl, Nat.le_of_ble_eq_true rfl⟩ ⟨Nat.le_refl _, Nat.le_refl _⟩ rfl hl.1 rfl (Nat.le_of_ble_eq_true rfl) dX8_volume_6 (fun z1 σ1 H locs hq w => ?_)
  obtain ⟨o2, hq⟩ := hq
  refine ra_if_eq (tgt := 20) X.x X.b o2 dX8_volume_9 (by decide) (fun c3 => ?_) (fun c3 => ?_)
  · have hq := hq.1 c3
    refine ra_lconst (z := 0) X.x X.b dX8_volume_20 rfl ?_
    exact x_lret X hr w hq dX8_volume_21
  · have hq := hq.2 c3
    refine lv_aload_n X.x X.b dX8_volume_12 rfl (lv_at hl 0 rfl) ?_
    refine ra_iconst X.x X.b dX8_volume_13 ?_
    refine x_callVl (n := 1) (As := [vI (-1)]) (rest := []) X w (hM 23 (by decide)) rfl rfl (mX8_sum l D ids ad cA A hM (-1) σ1 _ hq) (lw_V q890 q892 qs34 q43 q893) ⟨rfl, rfl⟩ (by decide +kernel) ⟨Nat.le_of_ble_eq_true rfl, Nat.le_of_ble_eq_true rfl⟩ ⟨Nat.le_refl _, Nat.le_refl _⟩ rfl hl.1 rfl (Nat.le_of_ble_eq_true rfl) dX8_volume_14 (fun z4 σ4 H locs hq w => ?_)
    refine lv_goto (tgt := 21) X.x X.b dX8_volume_17 (by decide) ?_
    exact x_lret X hr w hq dX8_volume_21
def wlX8_centre_19  (P : Int → Tab → Prop) (x1 : Int) (y1 : Int) (y2 : Int) (σ : Tab) : Prop := wpX8_goes y1 y2 σ (fun z1 σ1 => (inI z1 ∧ ((z1 = 0 → P 0 σ1) ∧ (¬ (z1 = 0) → wpX8_sum x1 σ1 (fun z4 σ4 => P z4 σ4)))))
def wpX8_centre (x1 : Int) (σ : Tab) (P : Int → Tab → Prop) : Prop := (inI x1 ∧ ((x1 < 0 → wlX8_centre_19 P x1 (σ 0 23 0 5) 0 σ) ∧ (¬ (x1 < 0) → ((2 < x1 → wlX8_centre_19 P x1 (σ 0 23 0 5) 0 σ) ∧ (¬ (2 < x1) → wlX8_centre_19 P x1 (σ 0 23 0 5) 1 σ)))))
abbrev rmX8_centre : Room := { frames := 1, cells := 0, slots := 0, locals := 32 }
set_option maxHeartbeats 4000000 in
set_option maxRecDepth 100000 in
theorem klX8_centre_19 {l : Launch} {p : Program} {e : Env} {s : State} {m : MethodId} {args : Array Value} {below : List Frame} {meth : Method} {c : Code} {D : va_G} {ids : Ids} {ad : Lay} {cA : Nat → ClassId} {A : Nat → Prop}  {P : Int → Tab → Prop} (X : Cx p m c meth cX8_centre 2 s args RX8 D cA A nwW) (hr : meth.sig.returnType = some .long) (hM : HasM ids) :
    ∀ (x1 : Int) (y1 : Int) (y2 : Int) (σ : Tab) (H : Heap) (locs : List Loc) (ls : Array Slot), wlX8_centre_19 P x1 y1 y2 σ → ww D ids ad cA A σ s.heap H locs → lv_has ls 2 [(0, .ref (ad 0 23 0)), (1, vI x1)] → W p l e rmX8_centre s m args below meth c H locs 0 0 (MQ below (QL D ids ad cA A P) args s 0 0 A) (F0 m 19 ls [vI y2, vI y1, .ref (ad 0 23 0)]) := by
  intro x1 y1 y2 σ H locs ls hq w hl
  unfold wlX8_centre_19 at hq
  refine x_callVi (n := 2) (As := [vI y1, vI y2]) (rest := []) X w (hM 23 (by decide)) rfl rfl (mX8_goes l D ids ad cA A hM y1 y2 σ _ hq) (lw_V q769 q771 qs16 q43 q772) ⟨rfl, rfl⟩ (by decide +kernel) ⟨Nat.le_of_ble_eq_true rfl, Nat.le_of_ble_eq_true rfl⟩ ⟨Nat.le_refl _, Nat.le_refl _⟩ rfl hl.1 rfl (Nat.le_of_ble_eq_true rfl) dX8_centre_19 (fun z1 σ1 H locs hq w => ?_)
  obtain ⟨o2, hq⟩ := hq
  refine ra_if_eq (tgt := 33) X.x X.b o2 dX8_centre_22 (by decide) (fun c3 => ?_) (fun c3 => ?_)
  · have hq := hq.1 c3
    refine ra_lconst (z := 0) X.x X.b dX8_centre_33 rfl ?_
    exact x_lret X hr w hq dX8_centre_34
  · have hq := hq.2 c3
    refine lv_aload_n X.x X.b dX8_centre_25 rfl (lv_at hl 0 rfl) ?_
    refine lv_iload_n X.x X.b dX8_centre_26 rfl (lv_at hl 1 rfl) ?_
    refine x_callVl (n := 1) (As := [vI x1]) (rest := []) X w (hM 23 (by decide)) rfl rfl (mX8_sum l D ids ad cA A hM x1 σ1 _ hq) (lw_V q890 q892 qs34 q43 q893) ⟨rfl, rfl⟩ (by decide +kernel) ⟨Nat.le_of_ble_eq_true rfl, Nat.le_of_ble_eq_true rfl⟩ ⟨Nat.le_refl _, Nat.le_refl _⟩ rfl hl.1 rfl (Nat.le_of_ble_eq_true rfl) dX8_centre_27 (fun z4 σ4 H locs hq w => ?_)
    refine lv_goto (tgt := 34) X.x X.b dX8_centre_30 (by decide) ?_
    exact x_lret X hr w hq dX8_centre_34
set_option maxHeartbeats 4000000 in
set_option maxRecDepth 100000 in
theorem mX8_centre (l : Launch) (D : va_G) (ids : Ids) (ad : Lay) (cA : Nat → ClassId) (A : Nat → Prop) (hM : HasM ids) (x1 : Int) (σ : Tab) (P : Int → Tab → Prop) (hq : wpX8_centre x1 σ P) : Met l yX8_centre (ws_ yX8_centre cX8_centre 2 (some .long)) rmX8_centre (PcW D ids ad cA A σ [.ref (ad 0 23 0), vI x1]) (QL D ids ad cA A P) 0 0 A := by
  refine m_entry (own := RX8) (by decide) (Nat.le_of_ble_eq_true rfl) rfl ?_
  intro p e s m below meth c ls X hr w hl
  have hl : lv_has ls 2 [(0, .ref (ad 0 23 0)), (1, vI x1)] := hl
  unfold wpX8_centre at hq
  refine lv_aload_n X.x X.b dX8_centre_0 rfl (lv_at hl 0 rfl) ?_
  refine lv_aload_n X.x X.b dX8_centre_1 rfl (lv_at hl 0 rfl) ?_
  refine x_get X w (hM 23 (by decide)) rfl in_X8 rfl 5 (by decide) q676 rfl rfl dX8_centre_2 ?_
  refine lv_iload_n X.x X.b dX8_centre_5 rfl (lv_at hl 1 rfl) ?_
  obtain ⟨o1, hq⟩ := hq
  refine ra_if_lt (tgt := 18) X.x X.b o1 dX8_centre_6 (by decide) (fun c2 => ?_) (fun c2 => ?_)
  · have hq := hq.1 c2
    refine ra_iconst X.x X.b dX8_centre_18 ?_
    exact klX8_centre_19 X hr hM  x1 (σ 0 23 0 5) 0 σ _ _ _ hq w (lv_sub hl [0, 1] rfl)
  · have hq := hq.2 c2
    refine lv_iload_n X.x X.b dX8_centre_9 rfl (lv_at hl 1 rfl) ?_
    refine ra_iconst X.x X.b dX8_centre_10 ?_
    refine ra_icmp_gt (tgt := 18) X.x X.b o1 ⟨by decide, by decide⟩ dX8_centre_11 (by decide) (fun c3 => ?_) (fun c3 => ?_)
    · have hq := hq.1 c3
      refine ra_iconst X.x X.b dX8_centre_18 ?_
      exact klX8_centre_19 X hr hM  x1 (σ 0 23 0 5) 0 σ _ _ _ hq w (lv_sub hl [0, 1] rfl)
    · have hq := hq.2 c3
      refine ra_iconst X.x X.b dX8_centre_14 ?_
      refine lv_goto (tgt := 19) X.x X.b dX8_centre_15 (by decide) ?_
      exact klX8_centre_19 X hr hM  x1 (σ 0 23 0 5) 1 σ _ _ _ hq w (lv_sub hl [0, 1] rfl)
def wlX8_middle_19  (P : UInt64 → Tab → Prop) (x1 : Int) (y1 : Int) (y2 : Int) (σ : Tab) : Prop := wpX8_goes y1 y2 σ (fun z1 σ1 => (inI z1 ∧ ((z1 ≠ 0 → wpX8_sum x1 σ1 (fun z4 σ4 => wpX8_sum (-1) σ4 (fun z5 σ5 => (vf_n64 (FP.ddiv (FP.l2d (Int64.ofInt z4)) (FP.l2d (Int64.ofInt (4 * z5)))) ∧ P (FP.ddiv (FP.l2d (Int64.ofInt z4)) (FP.l2d (Int64.ofInt (4 * z5)))) σ5)))) ∧ (¬ (z1 ≠ 0) → P 0 σ1))))
def wpX8_middle (x1 : Int) (σ : Tab) (P : UInt64 → Tab → Prop) : Prop := (inI x1 ∧ ((x1 < 0 → wlX8_middle_19 P x1 (σ 0 23 0 5) 0 σ) ∧ (¬ (x1 < 0) → ((2 < x1 → wlX8_middle_19 P x1 (σ 0 23 0 5) 0 σ) ∧ (¬ (2 < x1) → wlX8_middle_19 P x1 (σ 0 23 0 5) 1 σ)))))
abbrev rmX8_middle : Room := { frames := 1, cells := 0, slots := 0, locals := 32 }
set_option maxHeartbeats 4000000 in
set_option maxRecDepth 100000 in
theorem klX8_middle_19 {l : Launch} {p : Program} {e : Env} {s : State} {m : MethodId} {args : Array Value} {below : List Frame} {meth : Method} {c : Code} {D : va_G} {ids : Ids} {ad : Lay} {cA : Nat → ClassId} {A : Nat → Prop}  {P : UInt64 → Tab → Prop} (X : Cx p m c meth cX8_middle 6 s args RX8 D cA A nwW) (hr : meth.sig.returnType = some .double) (hM : HasM ids) :
    ∀ (x1 : Int) (y1 : Int) (y2 : Int) (σ : Tab) (H : Heap) (locs : List Loc) (ls : Array Slot), wlX8_middle_19 P x1 y1 y2 σ → ww D ids ad cA A σ s.heap H locs → lv_has ls 6 [(0, .ref (ad 0 23 0)), (1, vI x1)] → W p l e rmX8_middle s m args below meth c H locs 0 0 (MQ below (QD D ids ad cA A P) args s 0 0 A) (F0 m 19 ls [vI y2, vI y1, .ref (ad 0 23 0)]) := by
  intro x1 y1 y2 σ H locs ls hq w hl
  unfold wlX8_middle_19 at hq
  refine x_callVi (n := 2) (As := [vI y1, vI y2]) (rest := []) X w (hM 23 (by decide)) rfl rfl (mX8_goes l D ids ad cA A hM y1 y2 σ _ hq) (lw_V q769 q771 qs16 q43 q772) ⟨rfl, rfl⟩ (by decide +kernel) ⟨Nat.le_of_ble_eq_true rfl, Nat.le_of_ble_eq_true rfl⟩ ⟨Nat.le_refl _, Nat.le_refl _⟩ rfl hl.1 rfl (Nat.le_of_ble_eq_true rfl) dX8_middle_19 (fun z1 σ1 H locs hq w => ?_)
  obtain ⟨o2, hq⟩ := hq
  refine ra_if_ne (tgt := 27) X.x X.b o2 dX8_middle_22 (by decide) (fun c3 => ?_) (fun c3 => ?_)
  · have hq := hq.1 c3
    refine lv_aload_n X.x X.b dX8_middle_27 rfl (lv_at hl 0 rfl) ?_
    refine lv_iload_n X.x X.b dX8_middle_28 rfl (lv_at hl 1 rfl) ?_
    refine x_callVl (n := 1) (As := [vI x1]) (rest := []) X w (hM 23 (by decide)) rfl rfl (mX8_sum l D ids ad cA A hM x1 σ1 _ hq) (lw_V q890 q892 qs34 q43 q893) ⟨rfl, rfl⟩ (by decide +kernel) ⟨Nat.le_of_ble_eq_true rfl, Nat.le_of_ble_eq_true rfl⟩ ⟨Nat.le_refl _, Nat.le_refl _⟩ rfl hl.1 rfl (Nat.le_of_ble_eq_true rfl) dX8_middle_29 (fun z4 σ4 H locs hq w => ?_)
    refine lv_l2d X.x X.b dX8_middle_32 ?_
    refine lv_dstore_n (lv' := [(2, .double (FP.l2d (Int64.ofInt z4))), (0, .ref (ad 0 23 0)), (1, vI x1)]) X.x X.b dX8_middle_33 rfl hl (by decide) rfl (fun ls hl => ?_)
    refine ra_ldc2Z (z := 4) X.x X.b X.o (X.t _ q902) (by decide) dX8_middle_34 ?_
    refine lv_aload_n X.x X.b dX8_middle_37 rfl (lv_at hl 1 rfl) ?_
    refine ra_iconst X.x X.b dX8_middle_38 ?_
    refine x_callVl (n := 1) (As := [vI (-1)]) (rest := [vL 4]) X w (hM 23 (by decide)) rfl rfl (mX8_sum l D ids ad cA A hM (-1) σ4 _ hq) (lw_V q890 q892 qs34 q43 q893) ⟨rfl, rfl⟩ (by decide +kernel) ⟨Nat.le_of_ble_eq_true rfl, Nat.le_of_ble_eq_true rfl⟩ ⟨Nat.le_refl _, Nat.le_refl _⟩ rfl hl.1 rfl (Nat.le_of_ble_eq_true rfl) dX8_middle_39 (fun z5 σ5 H locs hq w => ?_)
    refine ra_lmul X.x X.b dX8_middle_42 ?_
    refine lv_l2d X.x X.b dX8_middle_43 ?_
    refine lv_dstore (lv' := [(4, .double (FP.l2d (Int64.ofInt (4 * z5)))), (2, .double (FP.l2d (Int64.ofInt z4))), (0, .ref (ad 0 23 0)), (1, vI x1)]) X.x X.b dX8_middle_44 hl (by decide) rfl (fun ls hl => ?_)
    refine lv_dload_n X.x X.b dX8_middle_46 rfl (lv_at hl 1 rfl) ?_
    refine lv_dload X.x X.b dX8_middle_47 (lv_at hl 0 rfl) ?_
    obtain ⟨o6, hq⟩ := hq
    refine lv_ddiv X.x X.b dX8_middle_49 o6 ?_
    exact x_dret X hr w hq dX8_middle_50
  · have hq := hq.2 c3
    refine lv_dconst0 X.x X.b dX8_middle_25 ?_
    exact x_dret X hr w hq dX8_middle_26
set_option maxHeartbeats 4000000 in
set_option maxRecDepth 100000 in
theorem mX8_middle (l : Launch) (D : va_G) (ids : Ids) (ad : Lay) (cA : Nat → ClassId) (A : Nat → Prop) (hM : HasM ids) (x1 : Int) (σ : Tab) (P : UInt64 → Tab → Prop) (hq : wpX8_middle x1 σ P) : Met l yX8_middle (ws_ yX8_middle cX8_middle 6 (some .double)) rmX8_middle (PcW D ids ad cA A σ [.ref (ad 0 23 0), vI x1]) (QD D ids ad cA A P) 0 0 A := by
  refine m_entry (own := RX8) (by decide) (Nat.le_of_ble_eq_true rfl) rfl ?_
  intro p e s m below meth c ls X hr w hl
  have hl : lv_has ls 6 [(0, .ref (ad 0 23 0)), (1, vI x1)] := hl
  unfold wpX8_middle at hq
  refine lv_aload_n X.x X.b dX8_middle_0 rfl (lv_at hl 0 rfl) ?_
  refine lv_aload_n X.x X.b dX8_middle_1 rfl (lv_at hl 0 rfl) ?_
  refine x_get X w (hM 23 (by decide)) rfl in_X8 rfl 5 (by decide) q676 rfl rfl dX8_middle_2 ?_
  refine lv_iload_n X.x X.b dX8_middle_5 rfl (lv_at hl 1 rfl) ?_
  obtain ⟨o1, hq⟩ := hq
  refine ra_if_lt (tgt := 18) X.x X.b o1 dX8_middle_6 (by decide) (fun c2 => ?_) (fun c2 => ?_)
  · have hq := hq.1 c2
    refine ra_iconst X.x X.b dX8_middle_18 ?_
    exact klX8_middle_19 X hr hM  x1 (σ 0 23 0 5) 0 σ _ _ _ hq w (lv_sub hl [0, 1] rfl)
  · have hq := hq.2 c2
    refine lv_iload_n X.x X.b dX8_middle_9 rfl (lv_at hl 1 rfl) ?_
    refine ra_iconst X.x X.b dX8_middle_10 ?_
    refine ra_icmp_gt (tgt := 18) X.x X.b o1 ⟨by decide, by decide⟩ dX8_middle_11 (by decide) (fun c3 => ?_) (fun c3 => ?_)
    · have hq := hq.1 c3
      refine ra_iconst X.x X.b dX8_middle_18 ?_
      exact klX8_middle_19 X hr hM  x1 (σ 0 23 0 5) 0 σ _ _ _ hq w (lv_sub hl [0, 1] rfl)
    · have hq := hq.2 c3
      refine ra_iconst X.x X.b dX8_middle_14 ?_
      refine lv_goto (tgt := 19) X.x X.b dX8_middle_15 (by decide) ?_
      exact klX8_middle_19 X hr hM  x1 (σ 0 23 0 5) 1 σ _ _ _ hq w (lv_sub hl [0, 1] rfl)
def wlX8_count_28  (P : Int → Tab → Prop) : Nat → Int → Int → Int → Tab → Prop
  | 0, _, _, _, _ => False
  | n + 1, x1, x2, x3, σ => (inI x3 ∧ (inI (σ 0 23 0 7) ∧ ((σ 0 23 0 7 ≤ x3 → (inI x1 ∧ (((x1 < 0 ∨ 3 < x1) → P (σ 0 23 0 6) σ) ∧ (¬ (x1 < 0 ∨ 3 < x1) → ((x1 = 0 → P (σ 0 23 0 1) σ) ∧ (¬ (x1 = 0) → ((x1 = 1 → (inI (σ 0 23 0 5) ∧ ((σ 0 23 0 5 = 0 → P 0 σ) ∧ (¬ (σ 0 23 0 5 = 0) → P (σ 0 23 0 11) σ)))) ∧ (¬ (x1 = 1) → ((x1 = 2 → (inI (σ 0 23 0 5) ∧ ((σ 0 23 0 5 = 0 → P 0 σ) ∧ (¬ (σ 0 23 0 5 = 0) → P (σ 0 23 0 19) σ)))) ∧ (¬ (x1 = 2) → ((x1 = 3 → (inI (σ 0 23 0 5) ∧ ((σ 0 23 0 5 = 0 → P 0 σ) ∧ (¬ (σ 0 23 0 5 = 0) → P x2 σ)))) ∧ (¬ (x1 = 3) → True)))))))))))) ∧ (¬ (σ 0 23 0 7 ≤ x3) → wpX8_isCorner x3 σ (fun z16 σ16 => (inI z16 ∧ ((z16 = 0 → wlX8_count_28 P n x1 x2 (x3 + 1) σ16) ∧ (¬ (z16 = 0) → wlX8_count_28 P n x1 (x2 + 1) (x3 + 1) σ16))))))))
def wlX8_count_15  (P : Int → Tab → Prop) (x1 : Int) (y1 : Int) (σ : Tab) : Prop := wpX8_goes y1 1 σ (fun z1 σ1 => (inI z1 ∧ ((z1 ≠ 0 → (∃ k : Nat, wlX8_count_28 P k x1 0 0 σ1)) ∧ (¬ (z1 ≠ 0) → P 0 σ1))))
def wpX8_count (x1 : Int) (σ : Tab) (P : Int → Tab → Prop) : Prop := (inI x1 ∧ ((x1 < 0 → wlX8_count_15 P x1 0 σ) ∧ (¬ (x1 < 0) → ((4 < x1 → wlX8_count_15 P x1 0 σ) ∧ (¬ (4 < x1) → wlX8_count_15 P x1 1 σ)))))
abbrev rmX8_count : Room := { frames := 1, cells := 0, slots := 0, locals := 23 }
set_option maxHeartbeats 4000000 in
set_option maxRecDepth 100000 in
theorem klX8_count_28 {l : Launch} {p : Program} {e : Env} {s : State} {m : MethodId} {args : Array Value} {below : List Frame} {meth : Method} {c : Code} {D : va_G} {ids : Ids} {ad : Lay} {cA : Nat → ClassId} {A : Nat → Prop}  {P : Int → Tab → Prop} (X : Cx p m c meth cX8_count 4 s args RX8 D cA A nwW) (hr : meth.sig.returnType = some .int) (hM : HasM ids) :
    ∀ (n : Nat) (x1 : Int) (x2 : Int) (x3 : Int) (σ : Tab) (H : Heap) (locs : List Loc) (ls : Array Slot), wlX8_count_28 P n x1 x2 x3 σ → ww D ids ad cA A σ s.heap H locs → lv_has ls 4 [(0, .ref (ad 0 23 0)), (1, vI x1), (2, vI x2), (3, vI x3)] → W p l e rmX8_count s m args below meth c H locs 0 0 (MQ below (QI D ids ad cA A P) args s 0 0 A) (F0 m 28 ls []) := by
  intro n
  induction n with
  | zero => intro x1 x2 x3 σ H locs ls hq w hl; exact hq.elim
  | succ n ih =>
    intro x1 x2 x3 σ H locs ls hq w hl
    unfold wlX8_count_28 at hq
    refine lv_iload_n X.x X.b dX8_count_28 rfl (lv_at hl 3 rfl) ?_
    refine lv_aload_n X.x X.b dX8_count_29 rfl (lv_at hl 0 rfl) ?_
    refine x_get X w (hM 23 (by decide)) rfl in_X8 rfl 7 (by decide) q678 rfl rfl dX8_count_30 ?_
    obtain ⟨o1, hq⟩ := hq
    obtain ⟨o2, hq⟩ := hq
    refine ra_icmp_ge (tgt := 58) X.x X.b o1 o2 dX8_count_33 (by decide) (fun c3 => ?_) (fun c3 => ?_)
    · have hq := hq.1 c3
      refine lv_iload_n X.x X.b dX8_count_58 rfl (lv_at hl 1 rfl) ?_
      obtain ⟨o4, hq⟩ := hq
      by_cases c5 : x1 < 0 ∨ 3 < x1
      · have hq := hq.1 c5
        refine lv_tableOut (tgt := 138) X.x X.b dX8_count_59 (by rw [inI_t o4]; exact c5) (by decide) ?_
        refine lv_aload_n X.x X.b dX8_count_138 rfl (lv_at hl 0 rfl) ?_
        refine x_get X w (hM 23 (by decide)) rfl in_X8 rfl 6 (by decide) q677 rfl rfl dX8_count_139 ?_
        exact x_iret X hr w hq dX8_count_142
      · have hq := hq.2 c5
        by_cases c6 : x1 = 0
        · have hq := hq.1 c6
          refine lv_tableIn (off := 29) (tgt := 88) X.x X.b dX8_count_59 (by rw [inI_t o4]; omega) (by rw [inI_t o4]; omega) (by rw [inI_t o4, c6]; rfl) (by decide) ?_
          refine lv_aload_n X.x X.b dX8_count_88 rfl (lv_at hl 0 rfl) ?_
          refine x_get X w (hM 23 (by decide)) rfl in_X8 rfl 1 (by decide) q672 rfl rfl dX8_count_89 ?_
          exact x_iret X hr w hq dX8_count_92
        · have hq := hq.2 c6
          by_cases c7 : x1 = 1
          · have hq := hq.1 c7
            refine lv_tableIn (off := 34) (tgt := 93) X.x X.b dX8_count_59 (by rw [inI_t o4]; omega) (by rw [inI_t o4]; omega) (by rw [inI_t o4, c7]; rfl) (by decide) ?_
            refine lv_aload_n X.x X.b dX8_count_93 rfl (lv_at hl 0 rfl) ?_
            refine x_get X w (hM 23 (by decide)) rfl in_X8 rfl 5 (by decide) q676 rfl rfl dX8_count_94 ?_
            obtain ⟨o8, hq⟩ := hq
            refine ra_if_eq (tgt := 107) X.x X.b o8 dX8_count_97 (by decide) (fun c9 => ?_) (fun c9 => ?_)
            · have hq := hq.1 c9
              refine ra_iconst X.x X.b dX8_count_107 ?_
              exact x_iret X hr w hq dX8_count_108
            · have hq := hq.2 c9
              refine lv_aload_n X.x X.b dX8_count_100 rfl (lv_at hl 0 rfl) ?_
              refine x_get X w (hM 23 (by decide)) rfl in_X8 rfl 11 (by decide) q682 rfl rfl dX8_count_101 ?_
              refine lv_goto (tgt := 108) X.x X.b dX8_count_104 (by decide) ?_
              exact x_iret X hr w hq dX8_count_108
          · have hq := hq.2 c7
            by_cases c10 : x1 = 2
            · have hq := hq.1 c10
              refine lv_tableIn (off := 50) (tgt := 109) X.x X.b dX8_count_59 (by rw [inI_t o4]; omega) (by rw [inI_t o4]; omega) (by rw [inI_t o4, c10]; rfl) (by decide) ?_
              refine lv_aload_n X.x X.b dX8_count_109 rfl (lv_at hl 0 rfl) ?_
              refine x_get X w (hM 23 (by decide)) rfl in_X8 rfl 5 (by decide) q676 rfl rfl dX8_count_110 ?_
              obtain ⟨o11, hq⟩ := hq
              refine ra_if_eq (tgt := 123) X.x X.b o11 dX8_count_113 (by decide) (fun c12 => ?_) (fun c12 => ?_)
              · have hq := hq.1 c12
                refine ra_iconst X.x X.b dX8_count_123 ?_
                exact x_iret X hr w hq dX8_count_124
              · have hq := hq.2 c12
                refine lv_aload_n X.x X.b dX8_count_116 rfl (lv_at hl 0 rfl) ?_
                refine x_get X w (hM 23 (by decide)) rfl in_X8 rfl 19 (by decide) q690 rfl rfl dX8_count_117 ?_
                refine lv_goto (tgt := 124) X.x X.b dX8_count_120 (by decide) ?_
                exact x_iret X hr w hq dX8_count_124
            · have hq := hq.2 c10
              by_cases c13 : x1 = 3
              · have hq := hq.1 c13
                refine lv_tableIn (off := 66) (tgt := 125) X.x X.b dX8_count_59 (by rw [inI_t o4]; omega) (by rw [inI_t o4]; omega) (by rw [inI_t o4, c13]; rfl) (by decide) ?_
                refine lv_aload_n X.x X.b dX8_count_125 rfl (lv_at hl 0 rfl) ?_
                refine x_get X w (hM 23 (by decide)) rfl in_X8 rfl 5 (by decide) q676 rfl rfl dX8_count_126 ?_
                obtain ⟨o14, hq⟩ := hq
                refine ra_if_eq (tgt := 136) X.x X.b o14 dX8_count_129 (by decide) (fun c15 => ?_) (fun c15 => ?_)
                · have hq := hq.1 c15
                  refine ra_iconst X.x X.b dX8_count_136 ?_
                  exact x_iret X hr w hq dX8_count_137
                · have hq := hq.2 c15
                  refine lv_iload_n X.x X.b dX8_count_132 rfl (lv_at hl 2 rfl) ?_
                  refine lv_goto (tgt := 137) X.x X.b dX8_count_133 (by decide) ?_
                  exact x_iret X hr w hq dX8_count_137
              · have hq := hq.2 c13
                exact absurd c5 (by omega)
    · have hq := hq.2 c3
      refine lv_aload_n X.x X.b dX8_count_36 rfl (lv_at hl 0 rfl) ?_
      refine lv_iload_n X.x X.b dX8_count_37 rfl (lv_at hl 3 rfl) ?_
      refine x_callVi (n := 1) (As := [vI x3]) (rest := []) X w (hM 23 (by decide)) rfl rfl (mX8_isCorner l D ids ad cA A hM x3 σ _ hq) (lw_V q874 q876 qs33 q43 q877) ⟨rfl, rfl⟩ (by decide +kernel) ⟨Nat.le_of_ble_eq_true rfl, Nat.le_of_ble_eq_true rfl⟩ ⟨Nat.le_refl _, Nat.le_refl _⟩ rfl hl.1 rfl (Nat.le_of_ble_eq_true rfl) dX8_count_38 (fun z16 σ16 H locs hq w => ?_)
      obtain ⟨o17, hq⟩ := hq
      refine ra_if_eq (tgt := 50) X.x X.b o17 dX8_count_41 (by decide) (fun c18 => ?_) (fun c18 => ?_)
      · have hq := hq.1 c18
        refine lv_iload_n X.x X.b dX8_count_50 rfl (lv_at hl 2 rfl) ?_
        refine lv_istore_n (lv' := [(2, vI x2), (0, .ref (ad 0 23 0)), (1, vI x1), (3, vI x3)]) X.x X.b dX8_count_51 rfl hl (by decide) rfl (fun ls hl => ?_)
        refine lv_iinc (v := Int32.ofInt (x3 + 1)) (lv' := [(3, vI (x3 + 1)), (2, vI x2), (0, .ref (ad 0 23 0)), (1, vI x1)]) X.x X.b dX8_count_52 hl (k := 3) rfl (Int32.ofInt_add _ _).symm (by decide) rfl (fun ls hl => ?_)
        refine lv_goto (tgt := 28) X.x X.b dX8_count_55 (by decide) ?_
        exact ih x1 x2 (x3 + 1) σ16 _ _ _ hq w (lv_sub hl [2, 3, 1, 0] rfl)
      · have hq := hq.2 c18
        refine lv_iload_n X.x X.b dX8_count_44 rfl (lv_at hl 2 rfl) ?_
        refine ra_iconst X.x X.b dX8_count_45 ?_
        refine ra_iadd X.x X.b dX8_count_46 ?_
        refine lv_goto (tgt := 51) X.x X.b dX8_count_47 (by decide) ?_
        refine lv_istore_n (lv' := [(2, vI (x2 + 1)), (0, .ref (ad 0 23 0)), (1, vI x1), (3, vI x3)]) X.x X.b dX8_count_51 rfl hl (by decide) rfl (fun ls hl => ?_)
        refine lv_iinc (v := Int32.ofInt (x3 + 1)) (lv' := [(3, vI (x3 + 1)), (2, vI (x2 + 1)), (0, .ref (ad 0 23 0)), (1, vI x1)]) X.x X.b dX8_count_52 hl (k := 3) rfl (Int32.ofInt_add _ _).symm (by decide) rfl (fun ls hl => ?_)
        refine lv_goto (tgt := 28) X.x X.b dX8_count_55 (by decide) ?_
        exact ih x1 (x2 + 1) (x3 + 1) σ16 _ _ _ hq w (lv_sub hl [2, 3, 1, 0] rfl)
set_option maxHeartbeats 4000000 in
set_option maxRecDepth 100000 in
theorem klX8_count_15 {l : Launch} {p : Program} {e : Env} {s : State} {m : MethodId} {args : Array Value} {below : List Frame} {meth : Method} {c : Code} {D : va_G} {ids : Ids} {ad : Lay} {cA : Nat → ClassId} {A : Nat → Prop}  {P : Int → Tab → Prop} (X : Cx p m c meth cX8_count 4 s args RX8 D cA A nwW) (hr : meth.sig.returnType = some .int) (hM : HasM ids) :
    ∀ (x1 : Int) (y1 : Int) (σ : Tab) (H : Heap) (locs : List Loc) (ls : Array Slot), wlX8_count_15 P x1 y1 σ → ww D ids ad cA A σ s.heap H locs → lv_has ls 4 [(0, .ref (ad 0 23 0)), (1, vI x1)] → W p l e rmX8_count s m args below meth c H locs 0 0 (MQ below (QI D ids ad cA A P) args s 0 0 A) (F0 m 15 ls [vI y1, .ref (ad 0 23 0)]) := by
  intro x1 y1 σ H locs ls hq w hl
  unfold wlX8_count_15 at hq
  refine ra_iconst X.x X.b dX8_count_15 ?_
  refine x_callVi (n := 2) (As := [vI y1, vI 1]) (rest := []) X w (hM 23 (by decide)) rfl rfl (mX8_goes l D ids ad cA A hM y1 1 σ _ hq) (lw_V q769 q771 qs16 q43 q772) ⟨rfl, rfl⟩ (by decide +kernel) ⟨Nat.le_of_ble_eq_true rfl, Nat.le_of_ble_eq_true rfl⟩ ⟨Nat.le_refl _, Nat.le_refl _⟩ rfl hl.1 rfl (Nat.le_of_ble_eq_true rfl) dX8_count_16 (fun z1 σ1 H locs hq w => ?_)
  obtain ⟨o2, hq⟩ := hq
  refine ra_if_ne (tgt := 24) X.x X.b o2 dX8_count_19 (by decide) (fun c3 => ?_) (fun c3 => ?_)
  · have hq := hq.1 c3
    refine ra_iconst X.x X.b dX8_count_24 ?_
    refine lv_istore_n (lv' := [(2, vI 0), (0, .ref (ad 0 23 0)), (1, vI x1)]) X.x X.b dX8_count_25 rfl hl (by decide) rfl (fun ls hl => ?_)
    refine ra_iconst X.x X.b dX8_count_26 ?_
    refine lv_istore_n (lv' := [(3, vI 0), (2, vI 0), (0, .ref (ad 0 23 0)), (1, vI x1)]) X.x X.b dX8_count_27 rfl hl (by decide) rfl (fun ls hl => ?_)
    obtain ⟨n4, hq⟩ := hq
    exact klX8_count_28 X hr hM  n4 x1 0 0 σ1 _ _ _ hq w (lv_sub hl [2, 3, 1, 0] rfl)
  · have hq := hq.2 c3
    refine ra_iconst X.x X.b dX8_count_22 ?_
    exact x_iret X hr w hq dX8_count_23
set_option maxHeartbeats 4000000 in
set_option maxRecDepth 100000 in
theorem mX8_count (l : Launch) (D : va_G) (ids : Ids) (ad : Lay) (cA : Nat → ClassId) (A : Nat → Prop) (hM : HasM ids) (x1 : Int) (σ : Tab) (P : Int → Tab → Prop) (hq : wpX8_count x1 σ P) : Met l yX8_count (ws_ yX8_count cX8_count 4 (some .int)) rmX8_count (PcW D ids ad cA A σ [.ref (ad 0 23 0), vI x1]) (QI D ids ad cA A P) 0 0 A := by
  refine m_entry (own := RX8) (by decide) (Nat.le_of_ble_eq_true rfl) rfl ?_
  intro p e s m below meth c ls X hr w hl
  have hl : lv_has ls 4 [(0, .ref (ad 0 23 0)), (1, vI x1)] := hl
  unfold wpX8_count at hq
  refine lv_aload_n X.x X.b dX8_count_0 rfl (lv_at hl 0 rfl) ?_
  refine lv_iload_n X.x X.b dX8_count_1 rfl (lv_at hl 1 rfl) ?_
  obtain ⟨o1, hq⟩ := hq
  refine ra_if_lt (tgt := 14) X.x X.b o1 dX8_count_2 (by decide) (fun c2 => ?_) (fun c2 => ?_)
  · have hq := hq.1 c2
    refine ra_iconst X.x X.b dX8_count_14 ?_
    exact klX8_count_15 X hr hM  x1 0 σ _ _ _ hq w (lv_sub hl [0, 1] rfl)
  · have hq := hq.2 c2
    refine lv_iload_n X.x X.b dX8_count_5 rfl (lv_at hl 1 rfl) ?_
    refine ra_iconst X.x X.b dX8_count_6 ?_
    refine ra_icmp_gt (tgt := 14) X.x X.b o1 ⟨by decide, by decide⟩ dX8_count_7 (by decide) (fun c3 => ?_) (fun c3 => ?_)
    · have hq := hq.1 c3
      refine ra_iconst X.x X.b dX8_count_14 ?_
      exact klX8_count_15 X hr hM  x1 0 σ _ _ _ hq w (lv_sub hl [0, 1] rfl)
    · have hq := hq.2 c3
      refine ra_iconst X.x X.b dX8_count_10 ?_
      refine lv_goto (tgt := 15) X.x X.b dX8_count_11 (by decide) ?_
      exact klX8_count_15 X hr hM  x1 1 σ _ _ _ hq w (lv_sub hl [0, 1] rfl)
end
