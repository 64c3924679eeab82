/-! the walk of X8_earlier X8_orderFaces X8_faceFrom X8_findEdges X8_build X8_of X8_there X8_face X8_offset X8_corner X8_edge (written by wip/D-68248w/tools/genwalk.py) -/
section
def wpX8_earlier (x1 : Int) (x2 : Int) (σ : Tab) (P : Int → Tab → Prop) : Prop := ((0 ≤ 24 * x1 ∧ 24 * x1 < 1536) ∧ ((0 ≤ (24 * x1) + 1 ∧ (24 * x1) + 1 < 1536) ∧ (∀ y3 : Int, y3 = (32 * (σ 0 35 0 ((24 * x1).toNat))) + (σ 0 35 0 (((24 * x1) + 1).toNat)) → ((0 ≤ 24 * x2 ∧ 24 * x2 < 1536) ∧ ((0 ≤ (24 * x2) + 1 ∧ (24 * x2) + 1 < 1536) ∧ (∀ y6 : Int, y6 = (32 * (σ 0 35 0 ((24 * x2).toNat))) + (σ 0 35 0 (((24 * x2) + 1).toNat)) → (inI y3 ∧ (inI y6 ∧ ((y6 ≤ y3 → P 0 σ) ∧ (¬ (y6 ≤ y3) → P 1 σ))))))))))
abbrev rmX8_earlier : Room := { frames := 0, cells := 0, slots := 0, locals := 0 }
set_option maxHeartbeats 4000000 in
set_option maxRecDepth 100000 in
theorem mX8_earlier (l : Launch) (D : va_G) (ids : Ids) (ad : Lay) (cA : Nat → ClassId) (A : Nat → Prop) (hM : HasM ids) (x1 : Int) (x2 : Int) (σ : Tab) (P : Int → Tab → Prop) (hq : wpX8_earlier x1 x2 σ P) : Met l yX8_earlier (ws_ yX8_earlier cX8_earlier 5 (some .boolean)) rmX8_earlier (PcW D ids ad cA A σ [.ref (ad 0 23 0), vI x1, vI x2]) (QI D ids ad cA A P) 0 0 A := by
  refine m_entry (own := RX8) (by decide) (Nat.le_of_ble_eq_true rfl) rfl ?_
  intro p e s m below meth c ls X hr w hl
  have hl : lv_has ls 5 [(0, .ref (ad 0 23 0)), (1, vI x1), (2, vI x2)] := hl
  unfold wpX8_earlier at hq
  refine ra_bipush X.x X.b dX8_earlier_0 rfl ?_
  refine lv_aload_n X.x X.b dX8_earlier_2 rfl (lv_at hl 0 rfl) ?_
  refine x_get X w (hM 23 (by decide)) rfl in_X8 rfl 17 (by decide) q688 rfl rfl dX8_earlier_3 ?_
  refine ra_bipush X.x X.b dX8_earlier_6 rfl ?_
  refine lv_iload_n X.x X.b dX8_earlier_8 rfl (lv_at hl 1 rfl) ?_
  refine ra_imul X.x X.b dX8_earlier_9 ?_
  obtain ⟨o1, hq⟩ := hq
  refine x_iald X w (hM 35 (by decide)) rfl (by decide) o1.1 o1.2 dX8_earlier_10 ?_
  refine ra_imul X.x X.b dX8_earlier_11 ?_
  refine lv_aload_n X.x X.b dX8_earlier_12 rfl (lv_at hl 0 rfl) ?_
  refine x_get X w (hM 23 (by decide)) rfl in_X8 rfl 17 (by decide) q688 rfl rfl dX8_earlier_13 ?_
  refine ra_bipush X.x X.b dX8_earlier_16 rfl ?_
  refine lv_iload_n X.x X.b dX8_earlier_18 rfl (lv_at hl 1 rfl) ?_
  refine ra_imul X.x X.b dX8_earlier_19 ?_
  refine ra_iconst X.x X.b dX8_earlier_20 ?_
  refine ra_iadd X.x X.b dX8_earlier_21 ?_
  obtain ⟨o2, hq⟩ := hq
  refine x_iald X w (hM 35 (by decide)) rfl (by decide) o2.1 o2.2 dX8_earlier_22 ?_
  refine ra_iadd X.x X.b dX8_earlier_23 ?_
  refine ra_nmI (fun y3 ey3 => ?_)
  have hq := hq y3 ey3
  refine lv_istore_n (lv' := [(3, vI y3), (0, .ref (ad 0 23 0)), (1, vI x1), (2, vI x2)]) X.x X.b dX8_earlier_24 rfl hl (by decide) rfl (fun ls hl => ?_)
  refine ra_bipush X.x X.b dX8_earlier_25 rfl ?_
  refine lv_aload_n X.x X.b dX8_earlier_27 rfl (lv_at hl 1 rfl) ?_
  refine x_get X w (hM 23 (by decide)) rfl in_X8 rfl 17 (by decide) q688 rfl rfl dX8_earlier_28 ?_
  refine ra_bipush X.x X.b dX8_earlier_31 rfl ?_
  refine lv_iload_n X.x X.b dX8_earlier_33 rfl (lv_at hl 3 rfl) ?_
  refine ra_imul X.x X.b dX8_earlier_34 ?_
  obtain ⟨o4, hq⟩ := hq
  refine x_iald X w (hM 35 (by decide)) rfl (by decide) o4.1 o4.2 dX8_earlier_35 ?_
  refine ra_imul X.x X.b dX8_earlier_36 ?_
  refine lv_aload_n X.x X.b dX8_earlier_37 rfl (lv_at hl 1 rfl) ?_
  refine x_get X w (hM 23 (by decide)) rfl in_X8 rfl 17 (by decide) q688 rfl rfl dX8_earlier_38 ?_
  refine ra_bipush X.x X.b dX8_earlier_41 rfl ?_
  refine lv_iload_n X.x X.b dX8_earlier_43 rfl (lv_at hl 3 rfl) ?_
  refine ra_imul X.x X.b dX8_earlier_44 ?_
  refine ra_iconst X.x X.b dX8_earlier_45 ?_
  refine ra_iadd X.x X.b dX8_earlier_46 ?_
  obtain ⟨o5, hq⟩ := hq
  refine x_iald X w (hM 35 (by decide)) rfl (by decide) o5.1 o5.2 dX8_earlier_47 ?_
  refine ra_iadd X.x X.b dX8_earlier_48 ?_
  refine ra_nmI (fun y6 ey6 => ?_)
  have hq := hq y6 ey6
  refine lv_istore (lv' := [(4, vI y6), (3, vI y3), (0, .ref (ad 0 23 0)), (1, vI x1), (2, vI x2)]) X.x X.b dX8_earlier_49 hl (by decide) rfl (fun ls hl => ?_)
  refine lv_iload_n X.x X.b dX8_earlier_51 rfl (lv_at hl 1 rfl) ?_
  refine lv_iload X.x X.b dX8_earlier_52 (lv_at hl 0 rfl) ?_
  obtain ⟨o7, hq⟩ := hq
  obtain ⟨o8, hq⟩ := hq
  refine ra_icmp_ge (tgt := 61) X.x X.b o7 o8 dX8_earlier_54 (by decide) (fun c9 => ?_) (fun c9 => ?_)
  · have hq := hq.1 c9
    refine ra_iconst X.x X.b dX8_earlier_61 ?_
    exact x_zret X hr w (by decide) hq dX8_earlier_62
  · have hq := hq.2 c9
    refine ra_iconst X.x X.b dX8_earlier_57 ?_
    refine lv_goto (tgt := 62) X.x X.b dX8_earlier_58 (by decide) ?_
    exact x_zret X hr w (by decide) hq dX8_earlier_62
def wlX8_orderFaces_52  (P : Tab → Prop) (K2 : Int → Tab → Prop) (x1 : Int) (x2 : Int) (σ : Tab) : Prop := ((0 ≤ x2 ∧ x2 < 64) ∧ (∀ σ2 : Tab, σ2 = st σ 0 36 0 x2.toNat x1 → K2 (x1 + 1) σ2))
def wlX8_orderFaces_12  (P : Tab → Prop) (K2 : Int → Tab → Prop) : Nat → Int → Int → Tab → Prop
  | 0, _, _, _ => False
  | n + 1, x1, x2, σ => (inI x2 ∧ ((x2 ≤ 0 → wlX8_orderFaces_52 P K2 x1 x2 σ) ∧ (¬ (x2 ≤ 0) → ((0 ≤ x2 - 1 ∧ x2 - 1 < 64) ∧ wpX8_earlier x1 (σ 0 36 0 ((x2 - 1).toNat)) σ (fun z4 σ4 => (inI z4 ∧ ((z4 = 0 → wlX8_orderFaces_52 P K2 x1 x2 σ4) ∧ (¬ (z4 = 0) → ((0 ≤ x2 - 1 ∧ x2 - 1 < 64) ∧ ((0 ≤ x2 ∧ x2 < 64) ∧ (∀ σ9 : Tab, σ9 = st σ4 0 36 0 x2.toNat (σ4 0 36 0 ((x2 - 1).toNat)) → wlX8_orderFaces_12 P K2 n x1 (x2 + (-1)) σ9)))))))))))
def wlX8_orderFaces_2  (P : Tab → Prop) : Nat → Int → Tab → Prop
  | 0, _, _ => False
  | n + 1, x1, σ => (inI x1 ∧ (inI (σ 0 23 0 11) ∧ ((σ 0 23 0 11 ≤ x1 → P σ) ∧ (¬ (σ 0 23 0 11 ≤ x1) → (∃ k : Nat, wlX8_orderFaces_12 P (fun x1 τ => wlX8_orderFaces_2 P n x1 τ) k x1 x1 σ)))))
def wpX8_orderFaces  (σ : Tab) (P : Tab → Prop) : Prop := (∃ k : Nat, wlX8_orderFaces_2 P k 0 σ)
abbrev rmX8_orderFaces : Room := { frames := 1, cells := 0, slots := 0, locals := 24 }
set_option maxHeartbeats 4000000 in
set_option maxRecDepth 100000 in
theorem klX8_orderFaces_52 {l : Launch} {p : Program} {e : Env} {s : State} {m : MethodId} {args : Array Value} {below : List Frame} {meth : Method} {c : Code} {D : va_G} {ids : Ids} {ad : Lay} {cA : Nat → ClassId} {A : Nat → Prop}  {P : Tab → Prop} {K2 : Int → Tab → Prop} (X : Cx p m c meth cX8_orderFaces 3 s args RX8 D cA A nwW) (hr : meth.sig.returnType = none) (hM : HasM ids) (kk2 : ∀ (x1 : Int) (σ : Tab) (H : Heap) (locs : List Loc) (ls : Array Slot), K2 x1 σ → ww D ids ad cA A σ s.heap H locs → lv_has ls 3 [(0, .ref (ad 0 23 0)), (1, vI x1)] → W p l e rmX8_orderFaces s m args below meth c H locs 0 0 (MQ below (QV D ids ad cA A P) args s 0 0 A) (F0 m 2 ls [])) :
    ∀ (x1 : Int) (x2 : Int) (σ : Tab) (H : Heap) (locs : List Loc) (ls : Array Slot), wlX8_orderFaces_52 P K2 x1 x2 σ → ww D ids ad cA A σ s.heap H locs → lv_has ls 3 [(0, .ref (ad 0 23 0)), (1, vI x1), (2, vI x2)] → W p l e rmX8_orderFaces s m args below meth c H locs 0 0 (MQ below (QV D ids ad cA A P) args s 0 0 A) (F0 m 52 ls []) := by
  intro x1 x2 σ H locs ls hq w hl
  unfold wlX8_orderFaces_52 at hq
  refine lv_aload_n X.x X.b dX8_orderFaces_52 rfl (lv_at hl 0 rfl) ?_
  refine x_get X w (hM 23 (by decide)) rfl in_X8 rfl 18 (by decide) q689 rfl rfl dX8_orderFaces_53 ?_
  refine lv_iload_n X.x X.b dX8_orderFaces_56 rfl (lv_at hl 2 rfl) ?_
  refine lv_iload_n X.x X.b dX8_orderFaces_57 rfl (lv_at hl 1 rfl) ?_
  obtain ⟨o1, hq⟩ := hq
  refine x_iast X w (hM 36 (by decide)) (fun _ => rfl) (by decide) o1.1 o1.2 dX8_orderFaces_58 (fun σ2 H locs eσ2 w => ?_)
  have hq := hq σ2 eσ2
  refine lv_iinc (v := Int32.ofInt (x1 + 1)) (lv' := [(1, vI (x1 + 1)), (0, .ref (ad 0 23 0)), (2, vI x2)]) X.x X.b dX8_orderFaces_59 hl (k := 1) rfl (Int32.ofInt_add _ _).symm (by decide) rfl (fun ls hl => ?_)
  refine lv_goto (tgt := 2) X.x X.b dX8_orderFaces_62 (by decide) ?_
  exact kk2 (x1 + 1) σ2 _ _ _ hq w (lv_sub hl [1, 0] rfl)
set_option maxHeartbeats 4000000 in
set_option maxRecDepth 100000 in
theorem klX8_orderFaces_12 {l : Launch} {p : Program} {e : Env} {s : State} {m : MethodId} {args : Array Value} {below : List Frame} {meth : Method} {c : Code} {D : va_G} {ids : Ids} {ad : Lay} {cA : Nat → ClassId} {A : Nat → Prop}  {P : Tab → Prop} {K2 : Int → Tab → Prop} (X : Cx p m c meth cX8_orderFaces 3 s args RX8 D cA A nwW) (hr : meth.sig.returnType = none) (hM : HasM ids) (kk2 : ∀ (x1 : Int) (σ : Tab) (H : Heap) (locs : List Loc) (ls : Array Slot), K2 x1 σ → ww D ids ad cA A σ s.heap H locs → lv_has ls 3 [(0, .ref (ad 0 23 0)), (1, vI x1)] → W p l e rmX8_orderFaces s m args below meth c H locs 0 0 (MQ below (QV D ids ad cA A P) args s 0 0 A) (F0 m 2 ls [])) :
    ∀ (n : Nat) (x1 : Int) (x2 : Int) (σ : Tab) (H : Heap) (locs : List Loc) (ls : Array Slot), wlX8_orderFaces_12 P K2 n x1 x2 σ → ww D ids ad cA A σ s.heap H locs → lv_has ls 3 [(0, .ref (ad 0 23 0)), (1, vI x1), (2, vI x2)] → W p l e rmX8_orderFaces s m args below meth c H locs 0 0 (MQ below (QV D ids ad cA A P) args s 0 0 A) (F0 m 12 ls []) := by
  intro n
  induction n with
  | zero => intro x1 x2 σ H locs ls hq w hl; exact hq.elim
  | succ n ih =>
    intro x1 x2 σ H locs ls hq w hl
    unfold wlX8_orderFaces_12 at hq
    refine lv_iload_n X.x X.b dX8_orderFaces_12 rfl (lv_at hl 2 rfl) ?_
    obtain ⟨o1, hq⟩ := hq
    refine ra_if_le (tgt := 52) X.x X.b o1 dX8_orderFaces_13 (by decide) (fun c2 => ?_) (fun c2 => ?_)
    · have hq := hq.1 c2
      exact klX8_orderFaces_52 X hr hM kk2 x1 x2 σ _ _ _ hq w (lv_sub hl [0, 1, 2] rfl)
    · have hq := hq.2 c2
      refine lv_aload_n X.x X.b dX8_orderFaces_16 rfl (lv_at hl 0 rfl) ?_
      refine lv_iload_n X.x X.b dX8_orderFaces_17 rfl (lv_at hl 1 rfl) ?_
      refine lv_aload_n X.x X.b dX8_orderFaces_18 rfl (lv_at hl 0 rfl) ?_
      refine x_get X w (hM 23 (by decide)) rfl in_X8 rfl 18 (by decide) q689 rfl rfl dX8_orderFaces_19 ?_
      refine lv_iload_n X.x X.b dX8_orderFaces_22 rfl (lv_at hl 2 rfl) ?_
      refine ra_iconst X.x X.b dX8_orderFaces_23 ?_
      refine ra_isub X.x X.b dX8_orderFaces_24 ?_
      obtain ⟨o3, hq⟩ := hq
      refine x_iald X w (hM 36 (by decide)) rfl (by decide) o3.1 o3.2 dX8_orderFaces_25 ?_
      refine x_callVi (n := 2) (As := [vI x1, vI (σ 0 36 0 ((x2 - 1).toNat))]) (rest := []) X w (hM 23 (by decide)) rfl rfl (mX8_earlier l D ids ad cA A hM x1 (σ 0 36 0 ((x2 - 1).toNat)) σ _ hq) (lw_V q833 q835 qs29 q43 q836) ⟨rfl, rfl⟩ (by decide +kernel) ⟨Nat.le_of_ble_eq_true rfl, Nat.le_of_ble_eq_true rfl⟩ ⟨Nat.le_refl _, Nat.le_refl _⟩ rfl hl.1 rfl (Nat.le_of_ble_eq_true rfl) dX8_orderFaces_26 (fun z4 σ4 H locs hq w => ?_)
      obtain ⟨o5, hq⟩ := hq
      refine ra_if_eq (tgt := 52) X.x X.b o5 dX8_orderFaces_29 (by decide) (fun c6 => ?_) (fun c6 => ?_)
      · have hq := hq.1 c6
        exact klX8_orderFaces_52 X hr hM kk2 x1 x2 σ4 _ _ _ hq w (lv_sub hl [0, 1, 2] rfl)
      · have hq := hq.2 c6
        refine lv_aload_n X.x X.b dX8_orderFaces_32 rfl (lv_at hl 0 rfl) ?_
        refine x_get X w (hM 23 (by decide)) rfl in_X8 rfl 18 (by decide) q689 rfl rfl dX8_orderFaces_33 ?_
        refine lv_iload_n X.x X.b dX8_orderFaces_36 rfl (lv_at hl 2 rfl) ?_
        refine lv_aload_n X.x X.b dX8_orderFaces_37 rfl (lv_at hl 0 rfl) ?_
        refine x_get X w (hM 23 (by decide)) rfl in_X8 rfl 18 (by decide) q689 rfl rfl dX8_orderFaces_38 ?_
        refine lv_iload_n X.x X.b dX8_orderFaces_41 rfl (lv_at hl 2 rfl) ?_
        refine ra_iconst X.x X.b dX8_orderFaces_42 ?_
        refine ra_isub X.x X.b dX8_orderFaces_43 ?_
        obtain ⟨o7, hq⟩ := hq
        refine x_iald X w (hM 36 (by decide)) rfl (by decide) o7.1 o7.2 dX8_orderFaces_44 ?_
        obtain ⟨o8, hq⟩ := hq
        refine x_iast X w (hM 36 (by decide)) (fun _ => rfl) (by decide) o8.1 o8.2 dX8_orderFaces_45 (fun σ9 H locs eσ9 w => ?_)
        have hq := hq σ9 eσ9
        refine lv_iinc (v := Int32.ofInt (x2 + (-1))) (lv' := [(2, vI (x2 + (-1))), (0, .ref (ad 0 23 0)), (1, vI x1)]) X.x X.b dX8_orderFaces_46 hl (k := 2) rfl (Int32.ofInt_add _ _).symm (by decide) rfl (fun ls hl => ?_)
        refine lv_goto (tgt := 12) X.x X.b dX8_orderFaces_49 (by decide) ?_
        exact ih x1 (x2 + (-1)) σ9 _ _ _ hq w (lv_sub hl [1, 2, 0] rfl)
set_option maxHeartbeats 4000000 in
set_option maxRecDepth 100000 in
theorem klX8_orderFaces_2 {l : Launch} {p : Program} {e : Env} {s : State} {m : MethodId} {args : Array Value} {below : List Frame} {meth : Method} {c : Code} {D : va_G} {ids : Ids} {ad : Lay} {cA : Nat → ClassId} {A : Nat → Prop}  {P : Tab → Prop} (X : Cx p m c meth cX8_orderFaces 3 s args RX8 D cA A nwW) (hr : meth.sig.returnType = none) (hM : HasM ids) :
    ∀ (n : Nat) (x1 : Int) (σ : Tab) (H : Heap) (locs : List Loc) (ls : Array Slot), wlX8_orderFaces_2 P n x1 σ → ww D ids ad cA A σ s.heap H locs → lv_has ls 3 [(0, .ref (ad 0 23 0)), (1, vI x1)] → W p l e rmX8_orderFaces s m args below meth c H locs 0 0 (MQ below (QV D ids ad cA A P) args s 0 0 A) (F0 m 2 ls []) := by
  intro n
  induction n with
  | zero => intro x1 σ H locs ls hq w hl; exact hq.elim
  | succ n ih =>
    intro x1 σ H locs ls hq w hl
    unfold wlX8_orderFaces_2 at hq
    refine lv_iload_n X.x X.b dX8_orderFaces_2 rfl (lv_at hl 1 rfl) ?_
    refine lv_aload_n X.x X.b dX8_orderFaces_3 rfl (lv_at hl 0 rfl) ?_
    refine x_get X w (hM 23 (by decide)) rfl in_X8 rfl 11 (by decide) q682 rfl rfl dX8_orderFaces_4 ?_
    obtain ⟨o1, hq⟩ := hq
    obtain ⟨o2, hq⟩ := hq
    refine ra_icmp_ge (tgt := 65) X.x X.b o1 o2 dX8_orderFaces_7 (by decide) (fun c3 => ?_) (fun c3 => ?_)
    · have hq := hq.1 c3
      exact x_vret X hr w hq dX8_orderFaces_65
    · have hq := hq.2 c3
      refine lv_iload_n X.x X.b dX8_orderFaces_10 rfl (lv_at hl 1 rfl) ?_
      refine lv_istore_n (lv' := [(2, vI x1), (0, .ref (ad 0 23 0)), (1, vI x1)]) X.x X.b dX8_orderFaces_11 rfl hl (by decide) rfl (fun ls hl => ?_)
      obtain ⟨n4, hq⟩ := hq
      exact klX8_orderFaces_12 X hr hM (fun a0 τ H L ls q w h => ih a0 τ H L ls q w h) n4 x1 x1 σ _ _ _ hq w (lv_sub hl [1, 2, 0] rfl)
set_option maxHeartbeats 4000000 in
set_option maxRecDepth 100000 in
theorem mX8_orderFaces (l : Launch) (D : va_G) (ids : Ids) (ad : Lay) (cA : Nat → ClassId) (A : Nat → Prop) (hM : HasM ids) (σ : Tab) (P : Tab → Prop) (hq : wpX8_orderFaces  σ P) : Met l yX8_orderFaces (ws_ yX8_orderFaces cX8_orderFaces 3 (none)) rmX8_orderFaces (PcW D ids ad cA A σ [.ref (ad 0 23 0)]) (QV D ids ad cA A P) 0 0 A := by
  refine m_entry (own := RX8) (by decide) (Nat.le_of_ble_eq_true rfl) rfl ?_
  intro p e s m below meth c ls X hr w hl
  have hl : lv_has ls 3 [(0, .ref (ad 0 23 0))] := hl
  unfold wpX8_orderFaces at hq
  refine ra_iconst X.x X.b dX8_orderFaces_0 ?_
  refine lv_istore_n (lv' := [(1, vI 0), (0, .ref (ad 0 23 0))]) X.x X.b dX8_orderFaces_1 rfl hl (by decide) rfl (fun ls hl => ?_)
  obtain ⟨n1, hq⟩ := hq
  exact klX8_orderFaces_2 X hr hM  n1 0 σ _ _ _ hq w (lv_sub hl [1, 0] rfl)
def wlX8_faceFrom_87  (P : Int → Tab → Prop) (K5 : Int → Int → Int → Int → Tab → Prop) (K26 : Int → Int → Int → Int → Int → Int → Tab → Prop) (x1 : Int) (x2 : Int) (x3 : Int) (x4 : Int) (x5 : Int) (x6 : Int) (y0 : Int) (σ : Tab) : Prop := (inI y0 ∧ ((y0 = 0 → K26 x1 x2 x3 x4 x5 (x6 + 1) σ) ∧ (¬ (y0 = 0) → K26 x1 x2 x4 x4 x5 (x6 + 1) σ)))
def wlX8_faceFrom_26  (P : Int → Tab → Prop) (K5 : Int → Int → Int → Int → Tab → Prop) : Nat → Int → Int → Int → Int → Int → Int → Tab → Prop
  | 0, _, _, _, _, _, _, _ => False
  | n + 1, x1, x2, x3, x4, x5, x6, σ => ((0 ≤ x5 ∧ x5 < 64) ∧ (inI x6 ∧ (inI (σ 0 34 0 x5.toNat) ∧ ((σ 0 34 0 x5.toNat ≤ x6 → K5 x1 x2 x3 (x4 + 1) σ) ∧ (¬ (σ 0 34 0 x5.toNat ≤ x6) → ((0 ≤ (24 * x5) + x6 ∧ (24 * x5) + x6 < 1536) ∧ (inI (σ 0 35 0 (((24 * x5) + x6).toNat)) ∧ (inI x1 ∧ ((σ 0 35 0 (((24 * x5) + x6).toNat) ≠ x1 → wlX8_faceFrom_87 P K5 (fun x1 x2 x3 x4 x5 x6 τ => wlX8_faceFrom_26 P K5 n x1 x2 x3 x4 x5 x6 τ) x1 x2 x3 x4 x5 x6 0 σ) ∧ (¬ (σ 0 35 0 (((24 * x5) + x6).toNat) ≠ x1) → (inI (x6 + 1) ∧ (σ 0 34 0 x5.toNat ≠ 0 ∧ ((0 ≤ (24 * x5) + ((x6 + 1).tmod (σ 0 34 0 x5.toNat)) ∧ (24 * x5) + ((x6 + 1).tmod (σ 0 34 0 x5.toNat)) < 1536) ∧ (inI (σ 0 35 0 (((24 * x5) + ((x6 + 1).tmod (σ 0 34 0 x5.toNat))).toNat)) ∧ (inI x2 ∧ ((σ 0 35 0 (((24 * x5) + ((x6 + 1).tmod (σ 0 34 0 x5.toNat))).toNat) ≠ x2 → wlX8_faceFrom_87 P K5 (fun x1 x2 x3 x4 x5 x6 τ => wlX8_faceFrom_26 P K5 n x1 x2 x3 x4 x5 x6 τ) x1 x2 x3 x4 x5 x6 0 σ) ∧ (¬ (σ 0 35 0 (((24 * x5) + ((x6 + 1).tmod (σ 0 34 0 x5.toNat))).toNat) ≠ x2) → wlX8_faceFrom_87 P K5 (fun x1 x2 x3 x4 x5 x6 τ => wlX8_faceFrom_26 P K5 n x1 x2 x3 x4 x5 x6 τ) x1 x2 x3 x4 x5 x6 1 σ)))))))))))))))))
def wlX8_faceFrom_5  (P : Int → Tab → Prop) : Nat → Int → Int → Int → Int → Tab → Prop
  | 0, _, _, _, _, _ => False
  | n + 1, x1, x2, x3, x4, σ => (inI x4 ∧ (inI (σ 0 23 0 11) ∧ ((σ 0 23 0 11 ≤ x4 → P x3 σ) ∧ (¬ (σ 0 23 0 11 ≤ x4) → ((0 ≤ x4 ∧ x4 < 64) ∧ (∀ y5 : Int, y5 = σ 0 36 0 x4.toNat → (∃ k : Nat, wlX8_faceFrom_26 P (fun x1 x2 x3 x4 τ => wlX8_faceFrom_5 P n x1 x2 x3 x4 τ) k x1 x2 x3 x4 y5 0 σ)))))))
def wpX8_faceFrom (x1 : Int) (x2 : Int) (σ : Tab) (P : Int → Tab → Prop) : Prop := (∃ k : Nat, wlX8_faceFrom_5 P k x1 x2 (-1) 0 σ)
abbrev rmX8_faceFrom : Room := { frames := 0, cells := 0, slots := 0, locals := 0 }
set_option maxHeartbeats 4000000 in
set_option maxRecDepth 100000 in
theorem klX8_faceFrom_87 {l : Launch} {p : Program} {e : Env} {s : State} {m : MethodId} {args : Array Value} {below : List Frame} {meth : Method} {c : Code} {D : va_G} {ids : Ids} {ad : Lay} {cA : Nat → ClassId} {A : Nat → Prop}  {P : Int → Tab → Prop} {K5 : Int → Int → Int → Int → Tab → Prop} {K26 : Int → Int → Int → Int → Int → Int → Tab → Prop} (X : Cx p m c meth cX8_faceFrom 8 s args RX8 D cA A nwW) (hr : meth.sig.returnType = some .int) (hM : HasM ids) (kk5 : ∀ (x1 : Int) (x2 : Int) (x3 : Int) (x4 : Int) (σ : Tab) (H : Heap) (locs : List Loc) (ls : Array Slot), K5 x1 x2 x3 x4 σ → ww D ids ad cA A σ s.heap H locs → lv_has ls 8 [(0, .ref (ad 0 23 0)), (1, vI x1), (2, vI x2), (3, vI x3), (4, vI x4)] → W p l e rmX8_faceFrom s m args below meth c H locs 0 0 (MQ below (QI D ids ad cA A P) args s 0 0 A) (F0 m 5 ls [])) (kk26 : ∀ (x1 : Int) (x2 : Int) (x3 : Int) (x4 : Int) (x5 : Int) (x6 : Int) (σ : Tab) (H : Heap) (locs : List Loc) (ls : Array Slot), K26 x1 x2 x3 x4 x5 x6 σ → ww D ids ad cA A σ s.heap H locs → lv_has ls 8 [(0, .ref (ad 0 23 0)), (1, vI x1), (2, vI x2), (3, vI x3), (4, vI x4), (5, vI x5), (6, vI x6)] → W p l e rmX8_faceFrom s m args below meth c H locs 0 0 (MQ below (QI D ids ad cA A P) args s 0 0 A) (F0 m 26 ls [])) :
    ∀ (x1 : Int) (x2 : Int) (x3 : Int) (x4 : Int) (x5 : Int) (x6 : Int) (y0 : Int) (σ : Tab) (H : Heap) (locs : List Loc) (ls : Array Slot), wlX8_faceFrom_87 P K5 K26 x1 x2 x3 x4 x5 x6 y0 σ → ww D ids ad cA A σ s.heap H locs → lv_has ls 8 [(0, .ref (ad 0 23 0)), (1, vI x1), (2, vI x2), (3, vI x3), (4, vI x4), (5, vI x5), (6, vI x6)] → W p l e rmX8_faceFrom s m args below meth c H locs 0 0 (MQ below (QI D ids ad cA A P) args s 0 0 A) (F0 m 87 ls [vI y0]) := by
  intro x1 x2 x3 x4 x5 x6 y0 σ H locs ls hq w hl
  unfold wlX8_faceFrom_87 at hq
  refine lv_istore (lv' := [(7, vI y0), (0, .ref (ad 0 23 0)), (1, vI x1), (2, vI x2), (3, vI x3), (4, vI x4), (5, vI x5), (6, vI x6)]) X.x X.b dX8_faceFrom_87 hl (by decide) rfl (fun ls hl => ?_)
  refine lv_iload X.x X.b dX8_faceFrom_89 (lv_at hl 0 rfl) ?_
  obtain ⟨o1, hq⟩ := hq
  refine ra_if_eq (tgt := 99) X.x X.b o1 dX8_faceFrom_91 (by decide) (fun c2 => ?_) (fun c2 => ?_)
  · have hq := hq.1 c2
    refine lv_iload_n X.x X.b dX8_faceFrom_99 rfl (lv_at hl 4 rfl) ?_
    refine lv_istore_n (lv' := [(3, vI x3), (7, vI y0), (0, .ref (ad 0 23 0)), (1, vI x1), (2, vI x2), (4, vI x4), (5, vI x5), (6, vI x6)]) X.x X.b dX8_faceFrom_100 rfl hl (by decide) rfl (fun ls hl => ?_)
    refine lv_iinc (v := Int32.ofInt (x6 + 1)) (lv' := [(6, vI (x6 + 1)), (3, vI x3), (7, vI y0), (0, .ref (ad 0 23 0)), (1, vI x1), (2, vI x2), (4, vI x4), (5, vI x5)]) X.x X.b dX8_faceFrom_101 hl (k := 7) rfl (Int32.ofInt_add _ _).symm (by decide) rfl (fun ls hl => ?_)
    refine lv_goto (tgt := 26) X.x X.b dX8_faceFrom_104 (by decide) ?_
    exact kk26 x1 x2 x3 x4 x5 (x6 + 1) σ _ _ _ hq w (lv_sub hl [3, 4, 5, 1, 6, 7, 0] rfl)
  · have hq := hq.2 c2
    refine lv_iload X.x X.b dX8_faceFrom_94 (lv_at hl 5 rfl) ?_
    refine lv_goto (tgt := 100) X.x X.b dX8_faceFrom_96 (by decide) ?_
    refine lv_istore_n (lv' := [(3, vI x4), (7, vI y0), (0, .ref (ad 0 23 0)), (1, vI x1), (2, vI x2), (4, vI x4), (5, vI x5), (6, vI x6)]) X.x X.b dX8_faceFrom_100 rfl hl (by decide) rfl (fun ls hl => ?_)
    refine lv_iinc (v := Int32.ofInt (x6 + 1)) (lv' := [(6, vI (x6 + 1)), (3, vI x4), (7, vI y0), (0, .ref (ad 0 23 0)), (1, vI x1), (2, vI x2), (4, vI x4), (5, vI x5)]) X.x X.b dX8_faceFrom_101 hl (k := 7) rfl (Int32.ofInt_add _ _).symm (by decide) rfl (fun ls hl => ?_)
    refine lv_goto (tgt := 26) X.x X.b dX8_faceFrom_104 (by decide) ?_
    exact kk26 x1 x2 x4 x4 x5 (x6 + 1) σ _ _ _ hq w (lv_sub hl [3, 4, 5, 1, 6, 7, 0] rfl)
set_option maxHeartbeats 4000000 in
set_option maxRecDepth 100000 in
theorem klX8_faceFrom_26 {l : Launch} {p : Program} {e : Env} {s : State} {m : MethodId} {args : Array Value} {below : List Frame} {meth : Method} {c : Code} {D : va_G} {ids : Ids} {ad : Lay} {cA : Nat → ClassId} {A : Nat → Prop}  {P : Int → Tab → Prop} {K5 : Int → Int → Int → Int → Tab → Prop} (X : Cx p m c meth cX8_faceFrom 8 s args RX8 D cA A nwW) (hr : meth.sig.returnType = some .int) (hM : HasM ids) (kk5 : ∀ (x1 : Int) (x2 : Int) (x3 : Int) (x4 : Int) (σ : Tab) (H : Heap) (locs : List Loc) (ls : Array Slot), K5 x1 x2 x3 x4 σ → ww D ids ad cA A σ s.heap H locs → lv_has ls 8 [(0, .ref (ad 0 23 0)), (1, vI x1), (2, vI x2), (3, vI x3), (4, vI x4)] → W p l e rmX8_faceFrom s m args below meth c H locs 0 0 (MQ below (QI D ids ad cA A P) args s 0 0 A) (F0 m 5 ls [])) :
    ∀ (n : Nat) (x1 : Int) (x2 : Int) (x3 : Int) (x4 : Int) (x5 : Int) (x6 : Int) (σ : Tab) (H : Heap) (locs : List Loc) (ls : Array Slot), wlX8_faceFrom_26 P K5 n x1 x2 x3 x4 x5 x6 σ → ww D ids ad cA A σ s.heap H locs → lv_has ls 8 [(0, .ref (ad 0 23 0)), (1, vI x1), (2, vI x2), (3, vI x3), (4, vI x4), (5, vI x5), (6, vI x6)] → W p l e rmX8_faceFrom s m args below meth c H locs 0 0 (MQ below (QI D ids ad cA A P) args s 0 0 A) (F0 m 26 ls []) := by
  intro n
  induction n with
  | zero => intro x1 x2 x3 x4 x5 x6 σ H locs ls hq w hl; exact hq.elim
  | succ n ih =>
    intro x1 x2 x3 x4 x5 x6 σ H locs ls hq w hl
    unfold wlX8_faceFrom_26 at hq
    refine lv_iload X.x X.b dX8_faceFrom_26 (lv_at hl 6 rfl) ?_
    refine lv_aload_n X.x X.b dX8_faceFrom_28 rfl (lv_at hl 0 rfl) ?_
    refine x_get X w (hM 23 (by decide)) rfl in_X8 rfl 16 (by decide) q687 rfl rfl dX8_faceFrom_29 ?_
    refine lv_iload X.x X.b dX8_faceFrom_32 (lv_at hl 5 rfl) ?_
    obtain ⟨o1, hq⟩ := hq
    refine x_iald X w (hM 34 (by decide)) rfl (by decide) o1.1 o1.2 dX8_faceFrom_34 ?_
    obtain ⟨o2, hq⟩ := hq
    obtain ⟨o3, hq⟩ := hq
    refine ra_icmp_ge (tgt := 107) X.x X.b o2 o3 dX8_faceFrom_35 (by decide) (fun c4 => ?_) (fun c4 => ?_)
    · have hq := hq.1 c4
      refine lv_iinc (v := Int32.ofInt (x4 + 1)) (lv' := [(4, vI (x4 + 1)), (0, .ref (ad 0 23 0)), (1, vI x1), (2, vI x2), (3, vI x3), (5, vI x5), (6, vI x6)]) X.x X.b dX8_faceFrom_107 hl (k := 4) rfl (Int32.ofInt_add _ _).symm (by decide) rfl (fun ls hl => ?_)
      refine lv_goto (tgt := 5) X.x X.b dX8_faceFrom_110 (by decide) ?_
      exact kk5 x1 x2 x3 (x4 + 1) σ _ _ _ hq w (lv_sub hl [1, 2, 3, 4, 0] rfl)
    · have hq := hq.2 c4
      refine lv_aload_n X.x X.b dX8_faceFrom_38 rfl (lv_at hl 0 rfl) ?_
      refine x_get X w (hM 23 (by decide)) rfl in_X8 rfl 17 (by decide) q688 rfl rfl dX8_faceFrom_39 ?_
      refine ra_bipush X.x X.b dX8_faceFrom_42 rfl ?_
      refine lv_iload X.x X.b dX8_faceFrom_44 (lv_at hl 5 rfl) ?_
      refine ra_imul X.x X.b dX8_faceFrom_46 ?_
      refine lv_iload X.x X.b dX8_faceFrom_47 (lv_at hl 6 rfl) ?_
      refine ra_iadd X.x X.b dX8_faceFrom_49 ?_
      obtain ⟨o5, hq⟩ := hq
      refine x_iald X w (hM 35 (by decide)) rfl (by decide) o5.1 o5.2 dX8_faceFrom_50 ?_
      refine lv_iload_n X.x X.b dX8_faceFrom_51 rfl (lv_at hl 1 rfl) ?_
      obtain ⟨o6, hq⟩ := hq
      obtain ⟨o7, hq⟩ := hq
      refine ra_icmp_ne (tgt := 86) X.x X.b o6 o7 dX8_faceFrom_52 (by decide) (fun c8 => ?_) (fun c8 => ?_)
      · have hq := hq.1 c8
        refine ra_iconst X.x X.b dX8_faceFrom_86 ?_
        exact klX8_faceFrom_87 X hr hM kk5 (fun a0 a1 a2 a3 a4 a5 τ H L ls q w h => ih a0 a1 a2 a3 a4 a5 τ H L ls q w h) x1 x2 x3 x4 x5 x6 0 σ _ _ _ hq w (lv_sub hl [0, 1, 2, 3, 4, 5, 6] rfl)
      · have hq := hq.2 c8
        refine lv_aload_n X.x X.b dX8_faceFrom_55 rfl (lv_at hl 0 rfl) ?_
        refine x_get X w (hM 23 (by decide)) rfl in_X8 rfl 17 (by decide) q688 rfl rfl dX8_faceFrom_56 ?_
        refine ra_bipush X.x X.b dX8_faceFrom_59 rfl ?_
        refine lv_iload X.x X.b dX8_faceFrom_61 (lv_at hl 5 rfl) ?_
        refine ra_imul X.x X.b dX8_faceFrom_63 ?_
        refine lv_iload X.x X.b dX8_faceFrom_64 (lv_at hl 6 rfl) ?_
        refine ra_iconst X.x X.b dX8_faceFrom_66 ?_
        refine ra_iadd X.x X.b dX8_faceFrom_67 ?_
        refine lv_aload_n X.x X.b dX8_faceFrom_68 rfl (lv_at hl 0 rfl) ?_
        refine x_get X w (hM 23 (by decide)) rfl in_X8 rfl 16 (by decide) q687 rfl rfl dX8_faceFrom_69 ?_
        refine lv_iload X.x X.b dX8_faceFrom_72 (lv_at hl 5 rfl) ?_
        refine x_iald X w (hM 34 (by decide)) rfl (by decide) o1.1 o1.2 dX8_faceFrom_74 ?_
        obtain ⟨o9, hq⟩ := hq
        obtain ⟨o10, hq⟩ := hq
        refine ra_irem X.x X.b o9 o3 o10 dX8_faceFrom_75 ?_
        refine ra_iadd X.x X.b dX8_faceFrom_76 ?_
        obtain ⟨o11, hq⟩ := hq
        refine x_iald X w (hM 35 (by decide)) rfl (by decide) o11.1 o11.2 dX8_faceFrom_77 ?_
        refine lv_iload_n X.x X.b dX8_faceFrom_78 rfl (lv_at hl 2 rfl) ?_
        obtain ⟨o12, hq⟩ := hq
        obtain ⟨o13, hq⟩ := hq
        refine ra_icmp_ne (tgt := 86) X.x X.b o12 o13 dX8_faceFrom_79 (by decide) (fun c14 => ?_) (fun c14 => ?_)
        · have hq := hq.1 c14
          refine ra_iconst X.x X.b dX8_faceFrom_86 ?_
          exact klX8_faceFrom_87 X hr hM kk5 (fun a0 a1 a2 a3 a4 a5 τ H L ls q w h => ih a0 a1 a2 a3 a4 a5 τ H L ls q w h) x1 x2 x3 x4 x5 x6 0 σ _ _ _ hq w (lv_sub hl [0, 1, 2, 3, 4, 5, 6] rfl)
        · have hq := hq.2 c14
          refine ra_iconst X.x X.b dX8_faceFrom_82 ?_
          refine lv_goto (tgt := 87) X.x X.b dX8_faceFrom_83 (by decide) ?_
          exact klX8_faceFrom_87 X hr hM kk5 (fun a0 a1 a2 a3 a4 a5 τ H L ls q w h => ih a0 a1 a2 a3 a4 a5 τ H L ls q w h) x1 x2 x3 x4 x5 x6 1 σ _ _ _ hq w (lv_sub hl [0, 1, 2, 3, 4, 5, 6] rfl)
set_option maxHeartbeats 4000000 in
set_option maxRecDepth 100000 in
theorem klX8_faceFrom_5 {l : Launch} {p : Program} {e : Env} {s : State} {m : MethodId} {args : Array Value} {below : List Frame} {meth : Method} {c : Code} {D : va_G} {ids : Ids} {ad : Lay} {cA : Nat → ClassId} {A : Nat → Prop}  {P : Int → Tab → Prop} (X : Cx p m c meth cX8_faceFrom 8 s args RX8 D cA A nwW) (hr : meth.sig.returnType = some .int) (hM : HasM ids) :
    ∀ (n : Nat) (x1 : Int) (x2 : Int) (x3 : Int) (x4 : Int) (σ : Tab) (H : Heap) (locs : List Loc) (ls : Array Slot), wlX8_faceFrom_5 P n x1 x2 x3 x4 σ → ww D ids ad cA A σ s.heap H locs → lv_has ls 8 [(0, .ref (ad 0 23 0)), (1, vI x1), (2, vI x2), (3, vI x3), (4, vI x4)] → W p l e rmX8_faceFrom s m args below meth c H locs 0 0 (MQ below (QI D ids ad cA A P) args s 0 0 A) (F0 m 5 ls []) := by
  intro n
  induction n with
  | zero => intro x1 x2 x3 x4 σ H locs ls hq w hl; exact hq.elim
  | succ n ih =>
    intro x1 x2 x3 x4 σ H locs ls hq w hl
    unfold wlX8_faceFrom_5 at hq
    refine lv_iload X.x X.b dX8_faceFrom_5 (lv_at hl 4 rfl) ?_
    refine lv_aload_n X.x X.b dX8_faceFrom_7 rfl (lv_at hl 0 rfl) ?_
    refine x_get X w (hM 23 (by decide)) rfl in_X8 rfl 11 (by decide) q682 rfl rfl dX8_faceFrom_8 ?_
    obtain ⟨o1, hq⟩ := hq
    obtain ⟨o2, hq⟩ := hq
    refine ra_icmp_ge (tgt := 113) X.x X.b o1 o2 dX8_faceFrom_11 (by decide) (fun c3 => ?_) (fun c3 => ?_)
    · have hq := hq.1 c3
      refine lv_iload_n X.x X.b dX8_faceFrom_113 rfl (lv_at hl 3 rfl) ?_
      exact x_iret X hr w hq dX8_faceFrom_114
    · have hq := hq.2 c3
      refine lv_aload_n X.x X.b dX8_faceFrom_14 rfl (lv_at hl 0 rfl) ?_
      refine x_get X w (hM 23 (by decide)) rfl in_X8 rfl 18 (by decide) q689 rfl rfl dX8_faceFrom_15 ?_
      refine lv_iload X.x X.b dX8_faceFrom_18 (lv_at hl 4 rfl) ?_
      obtain ⟨o4, hq⟩ := hq
      refine x_iald X w (hM 36 (by decide)) rfl (by decide) o4.1 o4.2 dX8_faceFrom_20 ?_
      refine ra_nmI (fun y5 ey5 => ?_)
      have hq := hq y5 ey5
      refine lv_istore (lv' := [(5, vI y5), (0, .ref (ad 0 23 0)), (1, vI x1), (2, vI x2), (3, vI x3), (4, vI x4)]) X.x X.b dX8_faceFrom_21 hl (by decide) rfl (fun ls hl => ?_)
      refine ra_iconst X.x X.b dX8_faceFrom_23 ?_
      refine lv_istore (lv' := [(6, vI 0), (5, vI y5), (0, .ref (ad 0 23 0)), (1, vI x1), (2, vI x2), (3, vI x3), (4, vI x4)]) X.x X.b dX8_faceFrom_24 hl (by decide) rfl (fun ls hl => ?_)
      obtain ⟨n6, hq⟩ := hq
      exact klX8_faceFrom_26 X hr hM (fun a0 a1 a2 a3 τ H L ls q w h => ih a0 a1 a2 a3 τ H L ls q w h) n6 x1 x2 x3 x4 y5 0 σ _ _ _ hq w (lv_sub hl [2, 3, 4, 5, 6, 1, 0] rfl)
set_option maxHeartbeats 4000000 in
set_option maxRecDepth 100000 in
theorem mX8_faceFrom (l : Launch) (D : va_G) (ids : Ids) (ad : Lay) (cA : Nat → ClassId) (A : Nat → Prop) (hM : HasM ids) (x1 : Int) (x2 : Int) (σ : Tab) (P : Int → Tab → Prop) (hq : wpX8_faceFrom x1 x2 σ P) : Met l yX8_faceFrom (ws_ yX8_faceFrom cX8_faceFrom 8 (some .int)) rmX8_faceFrom (PcW D ids ad cA A σ [.ref (ad 0 23 0), vI x1, vI x2]) (QI D ids ad cA A P) 0 0 A := by
  refine m_entry (own := RX8) (by decide) (Nat.le_of_ble_eq_true rfl) rfl ?_
  intro p e s m below meth c ls X hr w hl
  have hl : lv_has ls 8 [(0, .ref (ad 0 23 0)), (1, vI x1), (2, vI x2)] := hl
  unfold wpX8_faceFrom at hq
  refine ra_iconst X.x X.b dX8_faceFrom_0 ?_
  refine lv_istore_n (lv' := [(3, vI (-1)), (0, .ref (ad 0 23 0)), (1, vI x1), (2, vI x2)]) X.x X.b dX8_faceFrom_1 rfl hl (by decide) rfl (fun ls hl => ?_)
  refine ra_iconst X.x X.b dX8_faceFrom_2 ?_
  refine lv_istore (lv' := [(4, vI 0), (3, vI (-1)), (0, .ref (ad 0 23 0)), (1, vI x1), (2, vI x2)]) X.x X.b dX8_faceFrom_3 hl (by decide) rfl (fun ls hl => ?_)
  obtain ⟨n1, hq⟩ := hq
  exact klX8_faceFrom_5 X hr hM  n1 x1 x2 (-1) 0 σ _ _ _ hq w (lv_sub hl [2, 3, 4, 1, 0] rfl)
def wlX8_findEdges_19  (P : Tab → Prop) (K7 : Int → Tab → Prop) : Nat → Int → Int → Tab → Prop
  | 0, _, _, _ => False
  | n + 1, x1, x2, σ => (inI x2 ∧ (inI (σ 0 23 0 7) ∧ ((σ 0 23 0 7 ≤ x2 → K7 (x1 + 1) σ) ∧ (¬ (σ 0 23 0 7 ≤ x2) → wpX8_faceFrom x1 x2 σ (fun z4 σ4 => (inI z4 ∧ ((z4 < 0 → wlX8_findEdges_19 P K7 n x1 (x2 + 1) σ4) ∧ (¬ (z4 < 0) → ((0 ≤ σ4 0 23 0 19 ∧ σ4 0 23 0 19 < 128) ∧ (∀ σ8 : Tab, σ8 = st σ4 0 37 0 ((σ4 0 23 0 19).toNat) ((32 * x1) + x2) → ((0 ≤ σ8 0 23 0 19 ∧ σ8 0 23 0 19 < 128) ∧ (∀ σ10 : Tab, σ10 = st σ8 0 38 0 ((σ8 0 23 0 19).toNat) z4 → wpX8_faceFrom x2 x1 σ10 (fun z11 σ11 => ((0 ≤ σ10 0 23 0 19 ∧ σ10 0 23 0 19 < 128) ∧ (∀ σ13 : Tab, σ13 = st σ11 0 39 0 ((σ10 0 23 0 19).toNat) z11 → (∀ σ14 : Tab, σ14 = st σ13 0 23 0 19 ((σ13 0 23 0 19) + 1) → wlX8_findEdges_19 P K7 n x1 (x2 + 1) σ14))))))))))))))))
def wlX8_findEdges_7  (P : Tab → Prop) : Nat → Int → Tab → Prop
  | 0, _, _ => False
  | n + 1, x1, σ => (inI x1 ∧ (inI (σ 0 23 0 7) ∧ ((σ 0 23 0 7 ≤ x1 → P σ) ∧ (¬ (σ 0 23 0 7 ≤ x1) → (∃ k : Nat, wlX8_findEdges_19 P (fun x1 τ => wlX8_findEdges_7 P n x1 τ) k x1 (x1 + 1) σ)))))
def wpX8_findEdges  (σ : Tab) (P : Tab → Prop) : Prop := (∀ σ1 : Tab, σ1 = st σ 0 23 0 19 0 → (∃ k : Nat, wlX8_findEdges_7 P k 0 σ1))
abbrev rmX8_findEdges : Room := { frames := 1, cells := 0, slots := 0, locals := 27 }
set_option maxHeartbeats 4000000 in
set_option maxRecDepth 100000 in
theorem klX8_findEdges_19 {l : Launch} {p : Program} {e : Env} {s : State} {m : MethodId} {args : Array Value} {below : List Frame} {meth : Method} {c : Code} {D : va_G} {ids : Ids} {ad : Lay} {cA : Nat → ClassId} {A : Nat → Prop}  {P : Tab → Prop} {K7 : Int → Tab → Prop} (X : Cx p m c meth cX8_findEdges 4 s args RX8 D cA A nwW) (hr : meth.sig.returnType = none) (hM : HasM ids) (kk7 : ∀ (x1 : Int) (σ : Tab) (H : Heap) (locs : List Loc) (ls : Array Slot), K7 x1 σ → ww D ids ad cA A σ s.heap H locs → lv_has ls 4 [(0, .ref (ad 0 23 0)), (1, vI x1)] → W p l e rmX8_findEdges s m args below meth c H locs 0 0 (MQ below (QV D ids ad cA A P) args s 0 0 A) (F0 m 7 ls [])) :
    ∀ (n : Nat) (x1 : Int) (x2 : Int) (σ : Tab) (H : Heap) (locs : List Loc) (ls : Array Slot), wlX8_findEdges_19 P K7 n x1 x2 σ → ww D ids ad cA A σ s.heap H locs → lv_has ls 4 [(0, .ref (ad 0 23 0)), (1, vI x1), (2, vI x2)] → W p l e rmX8_findEdges s m args below meth c H locs 0 0 (MQ below (QV D ids ad cA A P) args s 0 0 A) (F0 m 19 ls []) := by
  intro n
  induction n with
  | zero => intro x1 x2 σ H locs ls hq w hl; exact hq.elim
  | succ n ih =>
    intro x1 x2 σ H locs ls hq w hl
    unfold wlX8_findEdges_19 at hq
    refine lv_iload_n X.x X.b dX8_findEdges_19 rfl (lv_at hl 2 rfl) ?_
    refine lv_aload_n X.x X.b dX8_findEdges_20 rfl (lv_at hl 0 rfl) ?_
    refine x_get X w (hM 23 (by decide)) rfl in_X8 rfl 7 (by decide) q678 rfl rfl dX8_findEdges_21 ?_
    obtain ⟨o1, hq⟩ := hq
    obtain ⟨o2, hq⟩ := hq
    refine ra_icmp_ge (tgt := 94) X.x X.b o1 o2 dX8_findEdges_24 (by decide) (fun c3 => ?_) (fun c3 => ?_)
    · have hq := hq.1 c3
      refine lv_iinc (v := Int32.ofInt (x1 + 1)) (lv' := [(1, vI (x1 + 1)), (0, .ref (ad 0 23 0)), (2, vI x2)]) X.x X.b dX8_findEdges_94 hl (k := 1) rfl (Int32.ofInt_add _ _).symm (by decide) rfl (fun ls hl => ?_)
      refine lv_goto (tgt := 7) X.x X.b dX8_findEdges_97 (by decide) ?_
      exact kk7 (x1 + 1) σ _ _ _ hq w (lv_sub hl [1, 0] rfl)
    · have hq := hq.2 c3
      refine lv_aload_n X.x X.b dX8_findEdges_27 rfl (lv_at hl 0 rfl) ?_
      refine lv_iload_n X.x X.b dX8_findEdges_28 rfl (lv_at hl 1 rfl) ?_
      refine lv_iload_n X.x X.b dX8_findEdges_29 rfl (lv_at hl 2 rfl) ?_
      refine x_callVi (n := 2) (As := [vI x1, vI x2]) (rest := []) X w (hM 23 (by decide)) rfl rfl (mX8_faceFrom l D ids ad cA A hM x1 x2 σ _ hq) (lw_V q841 q843 qs31 q43 q844) ⟨rfl, rfl⟩ (by decide +kernel) ⟨Nat.le_of_ble_eq_true rfl, Nat.le_of_ble_eq_true rfl⟩ ⟨Nat.le_refl _, Nat.le_refl _⟩ rfl hl.1 rfl (Nat.le_of_ble_eq_true rfl) dX8_findEdges_30 (fun z4 σ4 H locs hq w => ?_)
      refine lv_istore_n (lv' := [(3, vI z4), (0, .ref (ad 0 23 0)), (1, vI x1), (2, vI x2)]) X.x X.b dX8_findEdges_33 rfl hl (by decide) rfl (fun ls hl => ?_)
      refine lv_iload_n X.x X.b dX8_findEdges_34 rfl (lv_at hl 0 rfl) ?_
      obtain ⟨o5, hq⟩ := hq
      refine ra_if_lt (tgt := 88) X.x X.b o5 dX8_findEdges_35 (by decide) (fun c6 => ?_) (fun c6 => ?_)
      · have hq := hq.1 c6
        refine lv_iinc (v := Int32.ofInt (x2 + 1)) (lv' := [(2, vI (x2 + 1)), (3, vI z4), (0, .ref (ad 0 23 0)), (1, vI x1)]) X.x X.b dX8_findEdges_88 hl (k := 3) rfl (Int32.ofInt_add _ _).symm (by decide) rfl (fun ls hl => ?_)
        refine lv_goto (tgt := 19) X.x X.b dX8_findEdges_91 (by decide) ?_
        exact ih x1 (x2 + 1) σ4 _ _ _ hq w (lv_sub hl [2, 3, 0] rfl)
      · have hq := hq.2 c6
        refine lv_aload_n X.x X.b dX8_findEdges_38 rfl (lv_at hl 1 rfl) ?_
        refine x_get X w (hM 23 (by decide)) rfl in_X8 rfl 20 (by decide) q691 rfl rfl dX8_findEdges_39 ?_
        refine lv_aload_n X.x X.b dX8_findEdges_42 rfl (lv_at hl 1 rfl) ?_
        refine x_get X w (hM 23 (by decide)) rfl in_X8 rfl 19 (by decide) q690 rfl rfl dX8_findEdges_43 ?_
        refine ra_bipush X.x X.b dX8_findEdges_46 rfl ?_
        refine lv_iload_n X.x X.b dX8_findEdges_48 rfl (lv_at hl 2 rfl) ?_
        refine ra_imul X.x X.b dX8_findEdges_49 ?_
        refine lv_iload_n X.x X.b dX8_findEdges_50 rfl (lv_at hl 3 rfl) ?_
        refine ra_iadd X.x X.b dX8_findEdges_51 ?_
        obtain ⟨o7, hq⟩ := hq
        refine x_iast X w (hM 37 (by decide)) (fun _ => rfl) (by decide) o7.1 o7.2 dX8_findEdges_52 (fun σ8 H locs eσ8 w => ?_)
        have hq := hq σ8 eσ8
        refine lv_aload_n X.x X.b dX8_findEdges_53 rfl (lv_at hl 1 rfl) ?_
        refine x_get X w (hM 23 (by decide)) rfl in_X8 rfl 21 (by decide) q692 rfl rfl dX8_findEdges_54 ?_
        refine lv_aload_n X.x X.b dX8_findEdges_57 rfl (lv_at hl 1 rfl) ?_
        refine x_get X w (hM 23 (by decide)) rfl in_X8 rfl 19 (by decide) q690 rfl rfl dX8_findEdges_58 ?_
        refine lv_iload_n X.x X.b dX8_findEdges_61 rfl (lv_at hl 0 rfl) ?_
        obtain ⟨o9, hq⟩ := hq
        refine x_iast X w (hM 38 (by decide)) (fun _ => rfl) (by decide) o9.1 o9.2 dX8_findEdges_62 (fun σ10 H locs eσ10 w => ?_)
        have hq := hq σ10 eσ10
        refine lv_aload_n X.x X.b dX8_findEdges_63 rfl (lv_at hl 1 rfl) ?_
        refine x_get X w (hM 23 (by decide)) rfl in_X8 rfl 22 (by decide) q693 rfl rfl dX8_findEdges_64 ?_
        refine lv_aload_n X.x X.b dX8_findEdges_67 rfl (lv_at hl 1 rfl) ?_
        refine x_get X w (hM 23 (by decide)) rfl in_X8 rfl 19 (by decide) q690 rfl rfl dX8_findEdges_68 ?_
        refine lv_aload_n X.x X.b dX8_findEdges_71 rfl (lv_at hl 1 rfl) ?_
        refine lv_iload_n X.x X.b dX8_findEdges_72 rfl (lv_at hl 3 rfl) ?_
        refine lv_iload_n X.x X.b dX8_findEdges_73 rfl (lv_at hl 2 rfl) ?_
        refine x_callVi (n := 2) (As := [vI x2, vI x1]) (rest := [vI (σ10 0 23 0 19), .ref (ad 0 39 0)]) X w (hM 23 (by decide)) rfl rfl (mX8_faceFrom l D ids ad cA A hM x2 x1 σ10 _ hq) (lw_V q841 q843 qs31 q43 q844) ⟨rfl, rfl⟩ (by decide +kernel) ⟨Nat.le_of_ble_eq_true rfl, Nat.le_of_ble_eq_true rfl⟩ ⟨Nat.le_refl _, Nat.le_refl _⟩ rfl hl.1 rfl (Nat.le_of_ble_eq_true rfl) dX8_findEdges_74 (fun z11 σ11 H locs hq w => ?_)
        obtain ⟨o12, hq⟩ := hq
        refine x_iast X w (hM 39 (by decide)) (fun _ => rfl) (by decide) o12.1 o12.2 dX8_findEdges_77 (fun σ13 H locs eσ13 w => ?_)
        have hq := hq σ13 eσ13
        refine lv_aload_n X.x X.b dX8_findEdges_78 rfl (lv_at hl 1 rfl) ?_
        refine lv_dup X.x X.b dX8_findEdges_79 rfl ?_
        refine x_get X w (hM 23 (by decide)) rfl in_X8 rfl 19 (by decide) q690 rfl rfl dX8_findEdges_80 ?_
        refine ra_iconst X.x X.b dX8_findEdges_83 ?_
        refine ra_iadd X.x X.b dX8_findEdges_84 ?_
        refine x_put (z := ((σ13 0 23 0 19) + 1)) X w (hM 23 (by decide)) rfl in_X8 tyX8 tyX8_ok nmX8 rfl 19 (by decide) q690 rfl rfl rfl rfl (Nat.le_of_ble_eq_true rfl) rfl dX8_findEdges_85 (fun σ14 H locs eσ14 w => ?_)
        have hq := hq σ14 eσ14
        refine lv_iinc (v := Int32.ofInt (x2 + 1)) (lv' := [(2, vI (x2 + 1)), (3, vI z4), (0, .ref (ad 0 23 0)), (1, vI x1)]) X.x X.b dX8_findEdges_88 hl (k := 3) rfl (Int32.ofInt_add _ _).symm (by decide) rfl (fun ls hl => ?_)
        refine lv_goto (tgt := 19) X.x X.b dX8_findEdges_91 (by decide) ?_
        exact ih x1 (x2 + 1) σ14 _ _ _ hq w (lv_sub hl [2, 3, 0] rfl)
set_option maxHeartbeats 4000000 in
set_option maxRecDepth 100000 in
theorem klX8_findEdges_7 {l : Launch} {p : Program} {e : Env} {s : State} {m : MethodId} {args : Array Value} {below : List Frame} {meth : Method} {c : Code} {D : va_G} {ids : Ids} {ad : Lay} {cA : Nat → ClassId} {A : Nat → Prop}  {P : Tab → Prop} (X : Cx p m c meth cX8_findEdges 4 s args RX8 D cA A nwW) (hr : meth.sig.returnType = none) (hM : HasM ids) :
    ∀ (n : Nat) (x1 : Int) (σ : Tab) (H : Heap) (locs : List Loc) (ls : Array Slot), wlX8_findEdges_7 P n x1 σ → ww D ids ad cA A σ s.heap H locs → lv_has ls 4 [(0, .ref (ad 0 23 0)), (1, vI x1)] → W p l e rmX8_findEdges s m args below meth c H locs 0 0 (MQ below (QV D ids ad cA A P) args s 0 0 A) (F0 m 7 ls []) := by
  intro n
  induction n with
  | zero => intro x1 σ H locs ls hq w hl; exact hq.elim
  | succ n ih =>
    intro x1 σ H locs ls hq w hl
    unfold wlX8_findEdges_7 at hq
    refine lv_iload_n X.x X.b dX8_findEdges_7 rfl (lv_at hl 1 rfl) ?_
    refine lv_aload_n X.x X.b dX8_findEdges_8 rfl (lv_at hl 0 rfl) ?_
    refine x_get X w (hM 23 (by decide)) rfl in_X8 rfl 7 (by decide) q678 rfl rfl dX8_findEdges_9 ?_
    obtain ⟨o1, hq⟩ := hq
    obtain ⟨o2, hq⟩ := hq
    refine ra_icmp_ge (tgt := 100) X.x X.b o1 o2 dX8_findEdges_12 (by decide) (fun c3 => ?_) (fun c3 => ?_)
    · have hq := hq.1 c3
      exact x_vret X hr w hq dX8_findEdges_100
    · have hq := hq.2 c3
      refine lv_iload_n X.x X.b dX8_findEdges_15 rfl (lv_at hl 1 rfl) ?_
      refine ra_iconst X.x X.b dX8_findEdges_16 ?_
      refine ra_iadd X.x X.b dX8_findEdges_17 ?_
      refine lv_istore_n (lv' := [(2, vI (x1 + 1)), (0, .ref (ad 0 23 0)), (1, vI x1)]) X.x X.b dX8_findEdges_18 rfl hl (by decide) rfl (fun ls hl => ?_)
      obtain ⟨n4, hq⟩ := hq
      exact klX8_findEdges_19 X hr hM (fun a0 τ H L ls q w h => ih a0 τ H L ls q w h) n4 x1 (x1 + 1) σ _ _ _ hq w (lv_sub hl [1, 2, 0] rfl)
set_option maxHeartbeats 4000000 in
set_option maxRecDepth 100000 in
theorem mX8_findEdges (l : Launch) (D : va_G) (ids : Ids) (ad : Lay) (cA : Nat → ClassId) (A : Nat → Prop) (hM : HasM ids) (σ : Tab) (P : Tab → Prop) (hq : wpX8_findEdges  σ P) : Met l yX8_findEdges (ws_ yX8_findEdges cX8_findEdges 4 (none)) rmX8_findEdges (PcW D ids ad cA A σ [.ref (ad 0 23 0)]) (QV D ids ad cA A P) 0 0 A := by
  refine m_entry (own := RX8) (by decide) (Nat.le_of_ble_eq_true rfl) rfl ?_
  intro p e s m below meth c ls X hr w hl
  have hl : lv_has ls 4 [(0, .ref (ad 0 23 0))] := hl
  unfold wpX8_findEdges at hq
  refine lv_aload_n X.x X.b dX8_findEdges_0 rfl (lv_at hl 0 rfl) ?_
  refine ra_iconst X.x X.b dX8_findEdges_1 ?_
  refine x_put (z := 0) X w (hM 23 (by decide)) rfl in_X8 tyX8 tyX8_ok nmX8 rfl 19 (by decide) q690 rfl rfl rfl rfl (Nat.le_of_ble_eq_true rfl) rfl dX8_findEdges_2 (fun σ1 H locs eσ1 w => ?_)
  have hq := hq σ1 eσ1
  refine ra_iconst X.x X.b dX8_findEdges_5 ?_
  refine lv_istore_n (lv' := [(1, vI 0), (0, .ref (ad 0 23 0))]) X.x X.b dX8_findEdges_6 rfl hl (by decide) rfl (fun ls hl => ?_)
  obtain ⟨n2, hq⟩ := hq
  exact klX8_findEdges_7 X hr hM  n2 0 σ1 _ _ _ hq w (lv_sub hl [1, 0] rfl)
def wlX8_build_145  (P : Int → Tab → Prop) : Nat → Int → Tab → Prop
  | 0, _, _ => False
  | n + 1, x1, σ => (inI x1 ∧ (inI (σ 0 23 0 11) ∧ ((σ 0 23 0 11 ≤ x1 → wpX8_orderFaces  σ (fun σ4 => wpX8_findEdges  σ4 (fun σ5 => (∀ σ6 : Tab, σ6 = st σ5 0 23 0 5 1 → (∀ σ7 : Tab, σ7 = st σ6 0 23 0 6 ((σ6 0 23 0 6) + 1) → P (σ7 0 23 0 11) σ7))))) ∧ (¬ (σ 0 23 0 11 ≤ x1) → wpX8_walk x1 σ (fun σ8 => wlX8_build_145 P n (x1 + 1) σ8)))))
def wlX8_build_108  (P : Int → Tab → Prop) (K84 : Int → Tab → Prop) (K96 : Int → Int → Tab → Prop) : Nat → Int → Int → Int → Tab → Prop
  | 0, _, _, _, _ => False
  | n + 1, x1, x2, x3, σ => (inI x3 ∧ (inI (σ 0 23 0 7) ∧ ((σ 0 23 0 7 ≤ x3 → K96 x1 (x2 + 1) σ) ∧ (¬ (σ 0 23 0 7 ≤ x3) → wpX8_tries x1 x2 x3 σ (fun z4 σ4 => wlX8_build_108 P K84 K96 n x1 x2 (x3 + 1) σ4)))))
def wlX8_build_96  (P : Int → Tab → Prop) (K84 : Int → Tab → Prop) : Nat → Int → Int → Tab → Prop
  | 0, _, _, _ => False
  | n + 1, x1, x2, σ => (inI x2 ∧ (inI (σ 0 23 0 7) ∧ ((σ 0 23 0 7 ≤ x2 → K84 (x1 + 1) σ) ∧ (¬ (σ 0 23 0 7 ≤ x2) → (∃ k : Nat, wlX8_build_108 P K84 (fun x1 x2 τ => wlX8_build_96 P K84 n x1 x2 τ) k x1 x2 (x2 + 1) σ)))))
def wlX8_build_84  (P : Int → Tab → Prop) : Nat → Int → Tab → Prop
  | 0, _, _ => False
  | n + 1, x1, σ => (inI x1 ∧ (inI (σ 0 23 0 7) ∧ ((σ 0 23 0 7 ≤ x1 → (∃ k : Nat, wlX8_build_145 P k 0 σ)) ∧ (¬ (σ 0 23 0 7 ≤ x1) → (∃ k : Nat, wlX8_build_96 P (fun x1 τ => wlX8_build_84 P n x1 τ) k x1 (x1 + 1) σ)))))
def wlX8_build_24  (P : Int → Tab → Prop) : Nat → Int → Tab → Prop
  | 0, _, _ => False
  | n + 1, x1, σ => (inI x1 ∧ (inI (σ 0 23 0 1) ∧ ((σ 0 23 0 1 ≤ x1 → (∀ σ4 : Tab, σ4 = st σ 0 23 0 11 0 → (∃ k : Nat, wlX8_build_84 P k 0 σ4))) ∧ (¬ (σ 0 23 0 1 ≤ x1) → ((0 ≤ x1 ∧ x1 < 24) ∧ (inI (σ 0 24 0 x1.toNat) ∧ (∀ σ8 : Tab, σ8 = st σ 0 27 0 x1.toNat (σ 0 24 0 x1.toNat) → (inI (σ8 0 25 0 x1.toNat) ∧ (∀ σ10 : Tab, σ10 = st σ8 0 28 0 x1.toNat (σ8 0 25 0 x1.toNat) → (inI (σ10 0 26 0 x1.toNat) ∧ (∀ σ12 : Tab, σ12 = st σ10 0 29 0 x1.toNat (σ10 0 26 0 x1.toNat) → wlX8_build_24 P n (x1 + 1) σ12)))))))))))
def wpX8_build  (σ : Tab) (P : Int → Tab → Prop) : Prop := wpX8_solid  σ (fun z1 σ1 => wpX8_goes z1 1 σ1 (fun z2 σ2 => (inI z2 ∧ ((z2 ≠ 0 → (∀ σ5 : Tab, σ5 = st σ2 0 23 0 7 (σ2 0 23 0 1) → (∃ k : Nat, wlX8_build_24 P k 0 σ5))) ∧ (¬ (z2 ≠ 0) → P 0 σ2)))))
abbrev rmX8_build : Room := { frames := 4, cells := 0, slots := 0, locals := 112 }
set_option maxHeartbeats 4000000 in
set_option maxRecDepth 100000 in
theorem klX8_build_145 {l : Launch} {p : Program} {e : Env} {s : State} {m : MethodId} {args : Array Value} {below : List Frame} {meth : Method} {c : Code} {D : va_G} {ids : Ids} {ad : Lay} {cA : Nat → ClassId} {A : Nat → Prop}  {P : Int → Tab → Prop} (X : Cx p m c meth cX8_build 5 s args RX8 D cA A nwW) (hr : meth.sig.returnType = some .int) (hM : HasM ids) :
    ∀ (n : Nat) (x1 : Int) (σ : Tab) (H : Heap) (locs : List Loc) (ls : Array Slot), wlX8_build_145 P n x1 σ → ww D ids ad cA A σ s.heap H locs → lv_has ls 5 [(0, .ref (ad 0 23 0)), (1, vI x1)] → W p l e rmX8_build s m args below meth c H locs 0 0 (MQ below (QI D ids ad cA A P) args s 0 0 A) (F0 m 145 ls []) := by
  intro n
  induction n with
  | zero => intro x1 σ H locs ls hq w hl; exact hq.elim
  | succ n ih =>
    intro x1 σ H locs ls hq w hl
    unfold wlX8_build_145 at hq
    refine lv_iload_n X.x X.b dX8_build_145 rfl (lv_at hl 1 rfl) ?_
    refine lv_aload_n X.x X.b dX8_build_146 rfl (lv_at hl 0 rfl) ?_
    refine x_get X w (hM 23 (by decide)) rfl in_X8 rfl 11 (by decide) q682 rfl rfl dX8_build_147 ?_
    obtain ⟨o1, hq⟩ := hq
    obtain ⟨o2, hq⟩ := hq
    refine ra_icmp_ge (tgt := 164) X.x X.b o1 o2 dX8_build_150 (by decide) (fun c3 => ?_) (fun c3 => ?_)
    · have hq := hq.1 c3
      refine lv_aload_n X.x X.b dX8_build_164 rfl (lv_at hl 0 rfl) ?_
      refine x_callVv (n := 0) (As := []) (rest := []) X w (hM 23 (by decide)) rfl rfl (mX8_orderFaces l D ids ad cA A hM σ _ hq) (lw_V q829 q831 qs28 q43 q832) ⟨rfl, rfl⟩ (by decide +kernel) ⟨Nat.le_of_ble_eq_true rfl, Nat.le_of_ble_eq_true rfl⟩ ⟨Nat.le_refl _, Nat.le_refl _⟩ rfl hl.1 rfl (Nat.le_of_ble_eq_true rfl) dX8_build_165 (fun σ4 H locs hq w => ?_)
      refine lv_aload_n X.x X.b dX8_build_168 rfl (lv_at hl 0 rfl) ?_
      refine x_callVv (n := 0) (As := []) (rest := []) X w (hM 23 (by decide)) rfl rfl (mX8_findEdges l D ids ad cA A hM σ4 _ hq) (lw_V q837 q839 qs30 q43 q840) ⟨rfl, rfl⟩ (by decide +kernel) ⟨Nat.le_of_ble_eq_true rfl, Nat.le_of_ble_eq_true rfl⟩ ⟨Nat.le_refl _, Nat.le_refl _⟩ rfl hl.1 rfl (Nat.le_of_ble_eq_true rfl) dX8_build_169 (fun σ5 H locs hq w => ?_)
      refine lv_aload_n X.x X.b dX8_build_172 rfl (lv_at hl 0 rfl) ?_
      refine ra_iconst X.x X.b dX8_build_173 ?_
      refine x_put (z := 1) X w (hM 23 (by decide)) rfl in_X8 tyX8 tyX8_ok nmX8 rfl 5 (by decide) q676 rfl rfl (by decide) (by decide) (Nat.le_of_ble_eq_true rfl) rfl dX8_build_174 (fun σ6 H locs eσ6 w => ?_)
      have hq := hq σ6 eσ6
      refine lv_aload_n X.x X.b dX8_build_177 rfl (lv_at hl 0 rfl) ?_
      refine lv_dup X.x X.b dX8_build_178 rfl ?_
      refine x_get X w (hM 23 (by decide)) rfl in_X8 rfl 6 (by decide) q677 rfl rfl dX8_build_179 ?_
      refine ra_iconst X.x X.b dX8_build_182 ?_
      refine ra_iadd X.x X.b dX8_build_183 ?_
      refine x_put (z := ((σ6 0 23 0 6) + 1)) X w (hM 23 (by decide)) rfl in_X8 tyX8 tyX8_ok nmX8 rfl 6 (by decide) q677 rfl rfl rfl rfl (Nat.le_of_ble_eq_true rfl) rfl dX8_build_184 (fun σ7 H locs eσ7 w => ?_)
      have hq := hq σ7 eσ7
      refine lv_aload_n X.x X.b dX8_build_187 rfl (lv_at hl 0 rfl) ?_
      refine x_get X w (hM 23 (by decide)) rfl in_X8 rfl 11 (by decide) q682 rfl rfl dX8_build_188 ?_
      exact x_iret X hr w hq dX8_build_191
    · have hq := hq.2 c3
      refine lv_aload_n X.x X.b dX8_build_153 rfl (lv_at hl 0 rfl) ?_
      refine lv_iload_n X.x X.b dX8_build_154 rfl (lv_at hl 1 rfl) ?_
      refine x_callVv (n := 1) (As := [vI x1]) (rest := []) X w (hM 23 (by decide)) rfl rfl (mX8_walk l D ids ad cA A hM x1 σ _ hq) (lw_V q813 q815 qs24 q43 q816) ⟨rfl, rfl⟩ (by decide +kernel) ⟨Nat.le_of_ble_eq_true rfl, Nat.le_of_ble_eq_true rfl⟩ ⟨Nat.le_refl _, Nat.le_refl _⟩ rfl hl.1 rfl (Nat.le_of_ble_eq_true rfl) dX8_build_155 (fun σ8 H locs hq w => ?_)
      refine lv_iinc (v := Int32.ofInt (x1 + 1)) (lv' := [(1, vI (x1 + 1)), (0, .ref (ad 0 23 0))]) X.x X.b dX8_build_158 hl (k := 1) rfl (Int32.ofInt_add _ _).symm (by decide) rfl (fun ls hl => ?_)
      refine lv_goto (tgt := 145) X.x X.b dX8_build_161 (by decide) ?_
      exact ih (x1 + 1) σ8 _ _ _ hq w (lv_sub hl [1, 0] rfl)
set_option maxHeartbeats 4000000 in
set_option maxRecDepth 100000 in
theorem klX8_build_108 {l : Launch} {p : Program} {e : Env} {s : State} {m : MethodId} {args : Array Value} {below : List Frame} {meth : Method} {c : Code} {D : va_G} {ids : Ids} {ad : Lay} {cA : Nat → ClassId} {A : Nat → Prop}  {P : Int → Tab → Prop} {K84 : Int → Tab → Prop} {K96 : Int → Int → Tab → Prop} (X : Cx p m c meth cX8_build 5 s args RX8 D cA A nwW) (hr : meth.sig.returnType = some .int) (hM : HasM ids) (kk84 : ∀ (x1 : Int) (σ : Tab) (H : Heap) (locs : List Loc) (ls : Array Slot), K84 x1 σ → ww D ids ad cA A σ s.heap H locs → lv_has ls 5 [(0, .ref (ad 0 23 0)), (1, vI x1)] → W p l e rmX8_build s m args below meth c H locs 0 0 (MQ below (QI D ids ad cA A P) args s 0 0 A) (F0 m 84 ls [])) (kk96 : ∀ (x1 : Int) (x2 : Int) (σ : Tab) (H : Heap) (locs : List Loc) (ls : Array Slot), K96 x1 x2 σ → ww D ids ad cA A σ s.heap H locs → lv_has ls 5 [(0, .ref (ad 0 23 0)), (1, vI x1), (2, vI x2)] → W p l e rmX8_build s m args below meth c H locs 0 0 (MQ below (QI D ids ad cA A P) args s 0 0 A) (F0 m 96 ls [])) :
    ∀ (n : Nat) (x1 : Int) (x2 : Int) (x3 : Int) (σ : Tab) (H : Heap) (locs : List Loc) (ls : Array Slot), wlX8_build_108 P K84 K96 n x1 x2 x3 σ → ww D ids ad cA A σ s.heap H locs → lv_has ls 5 [(0, .ref (ad 0 23 0)), (1, vI x1), (2, vI x2), (3, vI x3)] → W p l e rmX8_build s m args below meth c H locs 0 0 (MQ below (QI D ids ad cA A P) args s 0 0 A) (F0 m 108 ls []) := by
  intro n
  induction n with
  | zero => intro x1 x2 x3 σ H locs ls hq w hl; exact hq.elim
  | succ n ih =>
    intro x1 x2 x3 σ H locs ls hq w hl
    unfold wlX8_build_108 at hq
    refine lv_iload_n X.x X.b dX8_build_108 rfl (lv_at hl 3 rfl) ?_
    refine lv_aload_n X.x X.b dX8_build_109 rfl (lv_at hl 0 rfl) ?_
    refine x_get X w (hM 23 (by decide)) rfl in_X8 rfl 7 (by decide) q678 rfl rfl dX8_build_110 ?_
    obtain ⟨o1, hq⟩ := hq
    obtain ⟨o2, hq⟩ := hq
    refine ra_icmp_ge (tgt := 131) X.x X.b o1 o2 dX8_build_113 (by decide) (fun c3 => ?_) (fun c3 => ?_)
    · have hq := hq.1 c3
      refine lv_iinc (v := Int32.ofInt (x2 + 1)) (lv' := [(2, vI (x2 + 1)), (0, .ref (ad 0 23 0)), (1, vI x1), (3, vI x3)]) X.x X.b dX8_build_131 hl (k := 2) rfl (Int32.ofInt_add _ _).symm (by decide) rfl (fun ls hl => ?_)
      refine lv_goto (tgt := 96) X.x X.b dX8_build_134 (by decide) ?_
      exact kk96 x1 (x2 + 1) σ _ _ _ hq w (lv_sub hl [1, 2, 0] rfl)
    · have hq := hq.2 c3
      refine lv_aload_n X.x X.b dX8_build_116 rfl (lv_at hl 0 rfl) ?_
      refine lv_iload_n X.x X.b dX8_build_117 rfl (lv_at hl 1 rfl) ?_
      refine lv_iload_n X.x X.b dX8_build_118 rfl (lv_at hl 2 rfl) ?_
      refine lv_iload_n X.x X.b dX8_build_119 rfl (lv_at hl 3 rfl) ?_
      refine x_callVi (n := 3) (As := [vI x1, vI x2, vI x3]) (rest := []) X w (hM 23 (by decide)) rfl rfl (mX8_tries l D ids ad cA A hM x1 x2 x3 σ _ hq) (lw_V q789 q791 qs19 q43 q792) ⟨rfl, rfl⟩ (by decide +kernel) ⟨Nat.le_of_ble_eq_true rfl, Nat.le_of_ble_eq_true rfl⟩ ⟨Nat.le_refl _, Nat.le_refl _⟩ rfl hl.1 rfl (Nat.le_of_ble_eq_true rfl) dX8_build_120 (fun z4 σ4 H locs hq w => ?_)
      refine lv_istore (lv' := [(4, vI z4), (0, .ref (ad 0 23 0)), (1, vI x1), (2, vI x2), (3, vI x3)]) X.x X.b dX8_build_123 hl (by decide) rfl (fun ls hl => ?_)
      refine lv_iinc (v := Int32.ofInt (x3 + 1)) (lv' := [(3, vI (x3 + 1)), (4, vI z4), (0, .ref (ad 0 23 0)), (1, vI x1), (2, vI x2)]) X.x X.b dX8_build_125 hl (k := 4) rfl (Int32.ofInt_add _ _).symm (by decide) rfl (fun ls hl => ?_)
      refine lv_goto (tgt := 108) X.x X.b dX8_build_128 (by decide) ?_
      exact ih x1 x2 (x3 + 1) σ4 _ _ _ hq w (lv_sub hl [2, 3, 4, 0] rfl)
set_option maxHeartbeats 4000000 in
set_option maxRecDepth 100000 in
theorem klX8_build_96 {l : Launch} {p : Program} {e : Env} {s : State} {m : MethodId} {args : Array Value} {below : List Frame} {meth : Method} {c : Code} {D : va_G} {ids : Ids} {ad : Lay} {cA : Nat → ClassId} {A : Nat → Prop}  {P : Int → Tab → Prop} {K84 : Int → Tab → Prop} (X : Cx p m c meth cX8_build 5 s args RX8 D cA A nwW) (hr : meth.sig.returnType = some .int) (hM : HasM ids) (kk84 : ∀ (x1 : Int) (σ : Tab) (H : Heap) (locs : List Loc) (ls : Array Slot), K84 x1 σ → ww D ids ad cA A σ s.heap H locs → lv_has ls 5 [(0, .ref (ad 0 23 0)), (1, vI x1)] → W p l e rmX8_build s m args below meth c H locs 0 0 (MQ below (QI D ids ad cA A P) args s 0 0 A) (F0 m 84 ls [])) :
    ∀ (n : Nat) (x1 : Int) (x2 : Int) (σ : Tab) (H : Heap) (locs : List Loc) (ls : Array Slot), wlX8_build_96 P K84 n x1 x2 σ → ww D ids ad cA A σ s.heap H locs → lv_has ls 5 [(0, .ref (ad 0 23 0)), (1, vI x1), (2, vI x2)] → W p l e rmX8_build s m args below meth c H locs 0 0 (MQ below (QI D ids ad cA A P) args s 0 0 A) (F0 m 96 ls []) := by
  intro n
  induction n with
  | zero => intro x1 x2 σ H locs ls hq w hl; exact hq.elim
  | succ n ih =>
    intro x1 x2 σ H locs ls hq w hl
    unfold wlX8_build_96 at hq
    refine lv_iload_n X.x X.b dX8_build_96 rfl (lv_at hl 2 rfl) ?_
    refine lv_aload_n X.x X.b dX8_build_97 rfl (lv_at hl 0 rfl) ?_
    refine x_get X w (hM 23 (by decide)) rfl in_X8 rfl 7 (by decide) q678 rfl rfl dX8_build_98 ?_
    obtain ⟨o1, hq⟩ := hq
    obtain ⟨o2, hq⟩ := hq
    refine ra_icmp_ge (tgt := 137) X.x X.b o1 o2 dX8_build_101 (by decide) (fun c3 => ?_) (fun c3 => ?_)
    · have hq := hq.1 c3
      refine lv_iinc (v := Int32.ofInt (x1 + 1)) (lv' := [(1, vI (x1 + 1)), (0, .ref (ad 0 23 0)), (2, vI x2)]) X.x X.b dX8_build_137 hl (k := 1) rfl (Int32.ofInt_add _ _).symm (by decide) rfl (fun ls hl => ?_)
      refine lv_goto (tgt := 84) X.x X.b dX8_build_140 (by decide) ?_
      exact kk84 (x1 + 1) σ _ _ _ hq w (lv_sub hl [1, 0] rfl)
    · have hq := hq.2 c3
      refine lv_iload_n X.x X.b dX8_build_104 rfl (lv_at hl 2 rfl) ?_
      refine ra_iconst X.x X.b dX8_build_105 ?_
      refine ra_iadd X.x X.b dX8_build_106 ?_
      refine lv_istore_n (lv' := [(3, vI (x2 + 1)), (0, .ref (ad 0 23 0)), (1, vI x1), (2, vI x2)]) X.x X.b dX8_build_107 rfl hl (by decide) rfl (fun ls hl => ?_)
      obtain ⟨n4, hq⟩ := hq
      exact klX8_build_108 X hr hM kk84 (fun a0 a1 τ H L ls q w h => ih a0 a1 τ H L ls q w h) n4 x1 x2 (x2 + 1) σ _ _ _ hq w (lv_sub hl [1, 2, 3, 0] rfl)
set_option maxHeartbeats 4000000 in
set_option maxRecDepth 100000 in
theorem klX8_build_84 {l : Launch} {p : Program} {e : Env} {s : State} {m : MethodId} {args : Array Value} {below : List Frame} {meth : Method} {c : Code} {D : va_G} {ids : Ids} {ad : Lay} {cA : Nat → ClassId} {A : Nat → Prop}  {P : Int → Tab → Prop} (X : Cx p m c meth cX8_build 5 s args RX8 D cA A nwW) (hr : meth.sig.returnType = some .int) (hM : HasM ids) :
    ∀ (n : Nat) (x1 : Int) (σ : Tab) (H : Heap) (locs : List Loc) (ls : Array Slot), wlX8_build_84 P n x1 σ → ww D ids ad cA A σ s.heap H locs → lv_has ls 5 [(0, .ref (ad 0 23 0)), (1, vI x1)] → W p l e rmX8_build s m args below meth c H locs 0 0 (MQ below (QI D ids ad cA A P) args s 0 0 A) (F0 m 84 ls []) := by
  intro n
  induction n with
  | zero => intro x1 σ H locs ls hq w hl; exact hq.elim
  | succ n ih =>
    intro x1 σ H locs ls hq w hl
    unfold wlX8_build_84 at hq
    refine lv_iload_n X.x X.b dX8_build_84 rfl (lv_at hl 1 rfl) ?_
    refine lv_aload_n X.x X.b dX8_build_85 rfl (lv_at hl 0 rfl) ?_
    refine x_get X w (hM 23 (by decide)) rfl in_X8 rfl 7 (by decide) q678 rfl rfl dX8_build_86 ?_
    obtain ⟨o1, hq⟩ := hq
    obtain ⟨o2, hq⟩ := hq
    refine ra_icmp_ge (tgt := 143) X.x X.b o1 o2 dX8_build_89 (by decide) (fun c3 => ?_) (fun c3 => ?_)
    · have hq := hq.1 c3
      refine ra_iconst X.x X.b dX8_build_143 ?_
      refine lv_istore_n (lv' := [(1, vI 0), (0, .ref (ad 0 23 0))]) X.x X.b dX8_build_144 rfl hl (by decide) rfl (fun ls hl => ?_)
      obtain ⟨n4, hq⟩ := hq
      exact klX8_build_145 X hr hM  n4 0 σ _ _ _ hq w (lv_sub hl [1, 0] rfl)
    · have hq := hq.2 c3
      refine lv_iload_n X.x X.b dX8_build_92 rfl (lv_at hl 1 rfl) ?_
      refine ra_iconst X.x X.b dX8_build_93 ?_
      refine ra_iadd X.x X.b dX8_build_94 ?_
      refine lv_istore_n (lv' := [(2, vI (x1 + 1)), (0, .ref (ad 0 23 0)), (1, vI x1)]) X.x X.b dX8_build_95 rfl hl (by decide) rfl (fun ls hl => ?_)
      obtain ⟨n5, hq⟩ := hq
      exact klX8_build_96 X hr hM (fun a0 τ H L ls q w h => ih a0 τ H L ls q w h) n5 x1 (x1 + 1) σ _ _ _ hq w (lv_sub hl [1, 2, 0] rfl)
set_option maxHeartbeats 4000000 in
set_option maxRecDepth 100000 in
theorem klX8_build_24 {l : Launch} {p : Program} {e : Env} {s : State} {m : MethodId} {args : Array Value} {below : List Frame} {meth : Method} {c : Code} {D : va_G} {ids : Ids} {ad : Lay} {cA : Nat → ClassId} {A : Nat → Prop}  {P : Int → Tab → Prop} (X : Cx p m c meth cX8_build 5 s args RX8 D cA A nwW) (hr : meth.sig.returnType = some .int) (hM : HasM ids) :
    ∀ (n : Nat) (x1 : Int) (σ : Tab) (H : Heap) (locs : List Loc) (ls : Array Slot), wlX8_build_24 P n x1 σ → ww D ids ad cA A σ s.heap H locs → lv_has ls 5 [(0, .ref (ad 0 23 0)), (1, vI x1)] → W p l e rmX8_build s m args below meth c H locs 0 0 (MQ below (QI D ids ad cA A P) args s 0 0 A) (F0 m 24 ls []) := by
  intro n
  induction n with
  | zero => intro x1 σ H locs ls hq w hl; exact hq.elim
  | succ n ih =>
    intro x1 σ H locs ls hq w hl
    unfold wlX8_build_24 at hq
    refine lv_iload_n X.x X.b dX8_build_24 rfl (lv_at hl 1 rfl) ?_
    refine lv_aload_n X.x X.b dX8_build_25 rfl (lv_at hl 0 rfl) ?_
    refine x_get X w (hM 23 (by decide)) rfl in_X8 rfl 1 (by decide) q672 rfl rfl dX8_build_26 ?_
    obtain ⟨o1, hq⟩ := hq
    obtain ⟨o2, hq⟩ := hq
    refine ra_icmp_ge (tgt := 77) X.x X.b o1 o2 dX8_build_29 (by decide) (fun c3 => ?_) (fun c3 => ?_)
    · have hq := hq.1 c3
      refine lv_aload_n X.x X.b dX8_build_77 rfl (lv_at hl 0 rfl) ?_
      refine ra_iconst X.x X.b dX8_build_78 ?_
      refine x_put (z := 0) X w (hM 23 (by decide)) rfl in_X8 tyX8 tyX8_ok nmX8 rfl 11 (by decide) q682 rfl rfl rfl rfl (Nat.le_of_ble_eq_true rfl) rfl dX8_build_79 (fun σ4 H locs eσ4 w => ?_)
      have hq := hq σ4 eσ4
      refine ra_iconst X.x X.b dX8_build_82 ?_
      refine lv_istore_n (lv' := [(1, vI 0), (0, .ref (ad 0 23 0))]) X.x X.b dX8_build_83 rfl hl (by decide) rfl (fun ls hl => ?_)
      obtain ⟨n5, hq⟩ := hq
      exact klX8_build_84 X hr hM  n5 0 σ4 _ _ _ hq w (lv_sub hl [1, 0] rfl)
    · have hq := hq.2 c3
      refine lv_aload_n X.x X.b dX8_build_32 rfl (lv_at hl 0 rfl) ?_
      refine x_get X w (hM 23 (by decide)) rfl in_X8 rfl 8 (by decide) q679 rfl rfl dX8_build_33 ?_
      refine lv_iload_n X.x X.b dX8_build_36 rfl (lv_at hl 1 rfl) ?_
      refine lv_aload_n X.x X.b dX8_build_37 rfl (lv_at hl 0 rfl) ?_
      refine x_get X w (hM 23 (by decide)) rfl in_X8 rfl 2 (by decide) q673 rfl rfl dX8_build_38 ?_
      refine lv_iload_n X.x X.b dX8_build_41 rfl (lv_at hl 1 rfl) ?_
      obtain ⟨o6, hq⟩ := hq
      refine x_iald X w (hM 24 (by decide)) rfl (by decide) o6.1 o6.2 dX8_build_42 ?_
      obtain ⟨o7, hq⟩ := hq
      refine ra_i2l X.x X.b o7 dX8_build_43 ?_
      refine x_last X w (hM 27 (by decide)) (fun _ => rfl) (by decide) o6.1 o6.2 dX8_build_44 (fun σ8 H locs eσ8 w => ?_)
      have hq := hq σ8 eσ8
      refine lv_aload_n X.x X.b dX8_build_45 rfl (lv_at hl 0 rfl) ?_
      refine x_get X w (hM 23 (by decide)) rfl in_X8 rfl 9 (by decide) q680 rfl rfl dX8_build_46 ?_
      refine lv_iload_n X.x X.b dX8_build_49 rfl (lv_at hl 1 rfl) ?_
      refine lv_aload_n X.x X.b dX8_build_50 rfl (lv_at hl 0 rfl) ?_
      refine x_get X w (hM 23 (by decide)) rfl in_X8 rfl 3 (by decide) q674 rfl rfl dX8_build_51 ?_
      refine lv_iload_n X.x X.b dX8_build_54 rfl (lv_at hl 1 rfl) ?_
      refine x_iald X w (hM 25 (by decide)) rfl (by decide) o6.1 o6.2 dX8_build_55 ?_
      obtain ⟨o9, hq⟩ := hq
      refine ra_i2l X.x X.b o9 dX8_build_56 ?_
      refine x_last X w (hM 28 (by decide)) (fun _ => rfl) (by decide) o6.1 o6.2 dX8_build_57 (fun σ10 H locs eσ10 w => ?_)
      have hq := hq σ10 eσ10
      refine lv_aload_n X.x X.b dX8_build_58 rfl (lv_at hl 0 rfl) ?_
      refine x_get X w (hM 23 (by decide)) rfl in_X8 rfl 10 (by decide) q681 rfl rfl dX8_build_59 ?_
      refine lv_iload_n X.x X.b dX8_build_62 rfl (lv_at hl 1 rfl) ?_
      refine lv_aload_n X.x X.b dX8_build_63 rfl (lv_at hl 0 rfl) ?_
      refine x_get X w (hM 23 (by decide)) rfl in_X8 rfl 4 (by decide) q675 rfl rfl dX8_build_64 ?_
      refine lv_iload_n X.x X.b dX8_build_67 rfl (lv_at hl 1 rfl) ?_
      refine x_iald X w (hM 26 (by decide)) rfl (by decide) o6.1 o6.2 dX8_build_68 ?_
      obtain ⟨o11, hq⟩ := hq
      refine ra_i2l X.x X.b o11 dX8_build_69 ?_
      refine x_last X w (hM 29 (by decide)) (fun _ => rfl) (by decide) o6.1 o6.2 dX8_build_70 (fun σ12 H locs eσ12 w => ?_)
      have hq := hq σ12 eσ12
      refine lv_iinc (v := Int32.ofInt (x1 + 1)) (lv' := [(1, vI (x1 + 1)), (0, .ref (ad 0 23 0))]) X.x X.b dX8_build_71 hl (k := 1) rfl (Int32.ofInt_add _ _).symm (by decide) rfl (fun ls hl => ?_)
      refine lv_goto (tgt := 24) X.x X.b dX8_build_74 (by decide) ?_
      exact ih (x1 + 1) σ12 _ _ _ hq w (lv_sub hl [1, 0] rfl)
set_option maxHeartbeats 4000000 in
set_option maxRecDepth 100000 in
theorem mX8_build (l : Launch) (D : va_G) (ids : Ids) (ad : Lay) (cA : Nat → ClassId) (A : Nat → Prop) (hM : HasM ids) (σ : Tab) (P : Int → Tab → Prop) (hq : wpX8_build  σ P) : Met l yX8_build (ws_ yX8_build cX8_build 5 (some .int)) rmX8_build (PcW D ids ad cA A σ [.ref (ad 0 23 0)]) (QI D ids ad cA A P) 0 0 A := by
  refine m_entry (own := RX8) (by decide) (Nat.le_of_ble_eq_true rfl) rfl ?_
  intro p e s m below meth c ls X hr w hl
  have hl : lv_has ls 5 [(0, .ref (ad 0 23 0))] := hl
  unfold wpX8_build at hq
  refine lv_aload_n X.x X.b dX8_build_0 rfl (lv_at hl 0 rfl) ?_
  refine lv_aload_n X.x X.b dX8_build_1 rfl (lv_at hl 0 rfl) ?_
  refine x_callVi (n := 0) (As := []) (rest := [.ref (ad 0 23 0)]) X w (hM 23 (by decide)) rfl rfl (mX8_solid l D ids ad cA A hM σ _ hq) (lw_V q781 q783 qs17 q43 q784) ⟨rfl, rfl⟩ (by decide +kernel) ⟨Nat.le_of_ble_eq_true rfl, Nat.le_of_ble_eq_true rfl⟩ ⟨Nat.le_refl _, Nat.le_refl _⟩ rfl hl.1 rfl (Nat.le_of_ble_eq_true rfl) dX8_build_2 (fun z1 σ1 H locs hq w => ?_)
  refine ra_iconst X.x X.b dX8_build_5 ?_
  refine x_callVi (n := 2) (As := [vI z1, vI 1]) (rest := []) X w (hM 23 (by decide)) rfl rfl (mX8_goes l D ids ad cA A hM z1 1 σ1 _ hq) (lw_V q769 q771 qs16 q43 q772) ⟨rfl, rfl⟩ (by decide +kernel) ⟨Nat.le_of_ble_eq_true rfl, Nat.le_of_ble_eq_true rfl⟩ ⟨Nat.le_refl _, Nat.le_refl _⟩ rfl hl.1 rfl (Nat.le_of_ble_eq_true rfl) dX8_build_6 (fun z2 σ2 H locs hq w => ?_)
  obtain ⟨o3, hq⟩ := hq
  refine ra_if_ne (tgt := 14) X.x X.b o3 dX8_build_9 (by decide) (fun c4 => ?_) (fun c4 => ?_)
  · have hq := hq.1 c4
    refine lv_aload_n X.x X.b dX8_build_14 rfl (lv_at hl 0 rfl) ?_
    refine lv_aload_n X.x X.b dX8_build_15 rfl (lv_at hl 0 rfl) ?_
    refine x_get X w (hM 23 (by decide)) rfl in_X8 rfl 1 (by decide) q672 rfl rfl dX8_build_16 ?_
    refine x_put (z := (σ2 0 23 0 1)) X w (hM 23 (by decide)) rfl in_X8 tyX8 tyX8_ok nmX8 rfl 7 (by decide) q678 rfl rfl rfl rfl (Nat.le_of_ble_eq_true rfl) rfl dX8_build_19 (fun σ5 H locs eσ5 w => ?_)
    have hq := hq σ5 eσ5
    refine ra_iconst X.x X.b dX8_build_22 ?_
    refine lv_istore_n (lv' := [(1, vI 0), (0, .ref (ad 0 23 0))]) X.x X.b dX8_build_23 rfl hl (by decide) rfl (fun ls hl => ?_)
    obtain ⟨n6, hq⟩ := hq
    exact klX8_build_24 X hr hM  n6 0 σ5 _ _ _ hq w (lv_sub hl [1, 0] rfl)
  · have hq := hq.2 c4
    refine ra_iconst X.x X.b dX8_build_12 ?_
    exact x_iret X hr w hq dX8_build_13
def wlX8_of_27  (P : Int → Tab → Prop) (x1 : Int) (x2 : Int) (y1 : Int) (σ : Tab) : Prop := wpX8_goes y1 1 σ (fun z1 σ1 => (inI z1 ∧ ((z1 ≠ 0 → (inI x2 ∧ ((x2 ≠ 0 → ((x2 ≠ 1 → ((0 ≤ x1 ∧ x1 < 24) ∧ P (σ1 0 26 0 x1.toNat) σ1)) ∧ (¬ (x2 ≠ 1) → ((0 ≤ x1 ∧ x1 < 24) ∧ P (σ1 0 25 0 x1.toNat) σ1)))) ∧ (¬ (x2 ≠ 0) → ((0 ≤ x1 ∧ x1 < 24) ∧ P (σ1 0 24 0 x1.toNat) σ1))))) ∧ (¬ (z1 ≠ 0) → P 0 σ1))))
def wpX8_of (x1 : Int) (x2 : Int) (σ : Tab) (P : Int → Tab → Prop) : Prop := (inI x1 ∧ ((x1 < 0 → wlX8_of_27 P x1 x2 0 σ) ∧ (¬ (x1 < 0) → (inI (σ 0 23 0 1) ∧ ((σ 0 23 0 1 ≤ x1 → wlX8_of_27 P x1 x2 0 σ) ∧ (¬ (σ 0 23 0 1 ≤ x1) → (inI x2 ∧ ((x2 < 0 → wlX8_of_27 P x1 x2 0 σ) ∧ (¬ (x2 < 0) → ((2 < x2 → wlX8_of_27 P x1 x2 0 σ) ∧ (¬ (2 < x2) → wlX8_of_27 P x1 x2 1 σ)))))))))))
abbrev rmX8_of : Room := { frames := 1, cells := 0, slots := 0, locals := 22 }
set_option maxHeartbeats 4000000 in
set_option maxRecDepth 100000 in
theorem klX8_of_27 {l : Launch} {p : Program} {e : Env} {s : State} {m : MethodId} {args : Array Value} {below : List Frame} {meth : Method} {c : Code} {D : va_G} {ids : Ids} {ad : Lay} {cA : Nat → ClassId} {A : Nat → Prop}  {P : Int → Tab → Prop} (X : Cx p m c meth cX8_of 3 s args RX8 D cA A nwW) (hr : meth.sig.returnType = some .int) (hM : HasM ids) :
    ∀ (x1 : Int) (x2 : Int) (y1 : Int) (σ : Tab) (H : Heap) (locs : List Loc) (ls : Array Slot), wlX8_of_27 P x1 x2 y1 σ → ww D ids ad cA A σ s.heap H locs → lv_has ls 3 [(0, .ref (ad 0 23 0)), (1, vI x1), (2, vI x2)] → W p l e rmX8_of s m args below meth c H locs 0 0 (MQ below (QI D ids ad cA A P) args s 0 0 A) (F0 m 27 ls [vI y1, .ref (ad 0 23 0)]) := by
  intro x1 x2 y1 σ H locs ls hq w hl
  unfold wlX8_of_27 at hq
  refine ra_iconst X.x X.b dX8_of_27 ?_
  refine x_callVi (n := 2) (As := [vI y1, vI 1]) (rest := []) X w (hM 23 (by decide)) rfl rfl (mX8_goes l D ids ad cA A hM y1 1 σ _ hq) (lw_V q769 q771 qs16 q43 q772) ⟨rfl, rfl⟩ (by decide +kernel) ⟨Nat.le_of_ble_eq_true rfl, Nat.le_of_ble_eq_true rfl⟩ ⟨Nat.le_refl _, Nat.le_refl _⟩ rfl hl.1 rfl (Nat.le_of_ble_eq_true rfl) dX8_of_28 (fun z1 σ1 H locs hq w => ?_)
  obtain ⟨o2, hq⟩ := hq
  refine ra_if_ne (tgt := 36) X.x X.b o2 dX8_of_31 (by decide) (fun c3 => ?_) (fun c3 => ?_)
  · have hq := hq.1 c3
    refine lv_iload_n X.x X.b dX8_of_36 rfl (lv_at hl 2 rfl) ?_
    obtain ⟨o4, hq⟩ := hq
    refine ra_if_ne (tgt := 49) X.x X.b o4 dX8_of_37 (by decide) (fun c5 => ?_) (fun c5 => ?_)
    · have hq := hq.1 c5
      refine lv_iload_n X.x X.b dX8_of_49 rfl (lv_at hl 2 rfl) ?_
      refine ra_iconst X.x X.b dX8_of_50 ?_
      refine ra_icmp_ne (tgt := 63) X.x X.b o4 ⟨by decide, by decide⟩ dX8_of_51 (by decide) (fun c6 => ?_) (fun c6 => ?_)
      · have hq := hq.1 c6
        refine lv_aload_n X.x X.b dX8_of_63 rfl (lv_at hl 0 rfl) ?_
        refine x_get X w (hM 23 (by decide)) rfl in_X8 rfl 4 (by decide) q675 rfl rfl dX8_of_64 ?_
        refine lv_iload_n X.x X.b dX8_of_67 rfl (lv_at hl 1 rfl) ?_
        obtain ⟨o7, hq⟩ := hq
        refine x_iald X w (hM 26 (by decide)) rfl (by decide) o7.1 o7.2 dX8_of_68 ?_
        exact x_iret X hr w hq dX8_of_69
      · have hq := hq.2 c6
        refine lv_aload_n X.x X.b dX8_of_54 rfl (lv_at hl 0 rfl) ?_
        refine x_get X w (hM 23 (by decide)) rfl in_X8 rfl 3 (by decide) q674 rfl rfl dX8_of_55 ?_
        refine lv_iload_n X.x X.b dX8_of_58 rfl (lv_at hl 1 rfl) ?_
        obtain ⟨o8, hq⟩ := hq
        refine x_iald X w (hM 25 (by decide)) rfl (by decide) o8.1 o8.2 dX8_of_59 ?_
        refine lv_goto (tgt := 69) X.x X.b dX8_of_60 (by decide) ?_
        exact x_iret X hr w hq dX8_of_69
    · have hq := hq.2 c5
      refine lv_aload_n X.x X.b dX8_of_40 rfl (lv_at hl 0 rfl) ?_
      refine x_get X w (hM 23 (by decide)) rfl in_X8 rfl 2 (by decide) q673 rfl rfl dX8_of_41 ?_
      refine lv_iload_n X.x X.b dX8_of_44 rfl (lv_at hl 1 rfl) ?_
      obtain ⟨o9, hq⟩ := hq
      refine x_iald X w (hM 24 (by decide)) rfl (by decide) o9.1 o9.2 dX8_of_45 ?_
      refine lv_goto (tgt := 69) X.x X.b dX8_of_46 (by decide) ?_
      exact x_iret X hr w hq dX8_of_69
  · have hq := hq.2 c3
    refine ra_iconst X.x X.b dX8_of_34 ?_
    exact x_iret X hr w hq dX8_of_35
set_option maxHeartbeats 4000000 in
set_option maxRecDepth 100000 in
theorem mX8_of (l : Launch) (D : va_G) (ids : Ids) (ad : Lay) (cA : Nat → ClassId) (A : Nat → Prop) (hM : HasM ids) (x1 : Int) (x2 : Int) (σ : Tab) (P : Int → Tab → Prop) (hq : wpX8_of x1 x2 σ P) : Met l yX8_of (ws_ yX8_of cX8_of 3 (some .int)) rmX8_of (PcW D ids ad cA A σ [.ref (ad 0 23 0), vI x1, vI x2]) (QI D ids ad cA A P) 0 0 A := by
  refine m_entry (own := RX8) (by decide) (Nat.le_of_ble_eq_true rfl) rfl ?_
  intro p e s m below meth c ls X hr w hl
  have hl : lv_has ls 3 [(0, .ref (ad 0 23 0)), (1, vI x1), (2, vI x2)] := hl
  unfold wpX8_of at hq
  refine lv_aload_n X.x X.b dX8_of_0 rfl (lv_at hl 0 rfl) ?_
  refine lv_iload_n X.x X.b dX8_of_1 rfl (lv_at hl 1 rfl) ?_
  obtain ⟨o1, hq⟩ := hq
  refine ra_if_lt (tgt := 26) X.x X.b o1 dX8_of_2 (by decide) (fun c2 => ?_) (fun c2 => ?_)
  · have hq := hq.1 c2
    refine ra_iconst X.x X.b dX8_of_26 ?_
    exact klX8_of_27 X hr hM  x1 x2 0 σ _ _ _ hq w (lv_sub hl [0, 1, 2] rfl)
  · have hq := hq.2 c2
    refine lv_iload_n X.x X.b dX8_of_5 rfl (lv_at hl 1 rfl) ?_
    refine lv_aload_n X.x X.b dX8_of_6 rfl (lv_at hl 0 rfl) ?_
    refine x_get X w (hM 23 (by decide)) rfl in_X8 rfl 1 (by decide) q672 rfl rfl dX8_of_7 ?_
    obtain ⟨o3, hq⟩ := hq
    refine ra_icmp_ge (tgt := 26) X.x X.b o1 o3 dX8_of_10 (by decide) (fun c4 => ?_) (fun c4 => ?_)
    · have hq := hq.1 c4
      refine ra_iconst X.x X.b dX8_of_26 ?_
      exact klX8_of_27 X hr hM  x1 x2 0 σ _ _ _ hq w (lv_sub hl [0, 1, 2] rfl)
    · have hq := hq.2 c4
      refine lv_iload_n X.x X.b dX8_of_13 rfl (lv_at hl 2 rfl) ?_
      obtain ⟨o5, hq⟩ := hq
      refine ra_if_lt (tgt := 26) X.x X.b o5 dX8_of_14 (by decide) (fun c6 => ?_) (fun c6 => ?_)
      · have hq := hq.1 c6
        refine ra_iconst X.x X.b dX8_of_26 ?_
        exact klX8_of_27 X hr hM  x1 x2 0 σ _ _ _ hq w (lv_sub hl [0, 1, 2] rfl)
      · have hq := hq.2 c6
        refine lv_iload_n X.x X.b dX8_of_17 rfl (lv_at hl 2 rfl) ?_
        refine ra_iconst X.x X.b dX8_of_18 ?_
        refine ra_icmp_gt (tgt := 26) X.x X.b o5 ⟨by decide, by decide⟩ dX8_of_19 (by decide) (fun c7 => ?_) (fun c7 => ?_)
        · have hq := hq.1 c7
          refine ra_iconst X.x X.b dX8_of_26 ?_
          exact klX8_of_27 X hr hM  x1 x2 0 σ _ _ _ hq w (lv_sub hl [0, 1, 2] rfl)
        · have hq := hq.2 c7
          refine ra_iconst X.x X.b dX8_of_22 ?_
          refine lv_goto (tgt := 27) X.x X.b dX8_of_23 (by decide) ?_
          exact klX8_of_27 X hr hM  x1 x2 1 σ _ _ _ hq w (lv_sub hl [0, 1, 2] rfl)
def wpX8_there (x1 : Int) (σ : Tab) (P : Int → Tab → Prop) : Prop := (inI x1 ∧ ((x1 < 0 → P 0 σ) ∧ (¬ (x1 < 0) → (inI (σ 0 23 0 11) ∧ ((σ 0 23 0 11 ≤ x1 → P 0 σ) ∧ (¬ (σ 0 23 0 11 ≤ x1) → P 1 σ))))))
abbrev rmX8_there : Room := { frames := 0, cells := 0, slots := 0, locals := 0 }
set_option maxHeartbeats 4000000 in
set_option maxRecDepth 100000 in
theorem mX8_there (l : Launch) (D : va_G) (ids : Ids) (ad : Lay) (cA : Nat → ClassId) (A : Nat → Prop) (hM : HasM ids) (x1 : Int) (σ : Tab) (P : Int → Tab → Prop) (hq : wpX8_there x1 σ P) : Met l yX8_there (ws_ yX8_there cX8_there 2 (some .boolean)) rmX8_there (PcW D ids ad cA A σ [.ref (ad 0 23 0), vI x1]) (QI D ids ad cA A P) 0 0 A := by
  refine m_entry (own := RX8) (by decide) (Nat.le_of_ble_eq_true rfl) rfl ?_
  intro p e s m below meth c ls X hr w hl
  have hl : lv_has ls 2 [(0, .ref (ad 0 23 0)), (1, vI x1)] := hl
  unfold wpX8_there at hq
  refine lv_iload_n X.x X.b dX8_there_0 rfl (lv_at hl 1 rfl) ?_
  obtain ⟨o1, hq⟩ := hq
  refine ra_if_lt (tgt := 16) X.x X.b o1 dX8_there_1 (by decide) (fun c2 => ?_) (fun c2 => ?_)
  · have hq := hq.1 c2
    refine ra_iconst X.x X.b dX8_there_16 ?_
    exact x_zret X hr w (by decide) hq dX8_there_17
  · have hq := hq.2 c2
    refine lv_iload_n X.x X.b dX8_there_4 rfl (lv_at hl 1 rfl) ?_
    refine lv_aload_n X.x X.b dX8_there_5 rfl (lv_at hl 0 rfl) ?_
    refine x_get X w (hM 23 (by decide)) rfl in_X8 rfl 11 (by decide) q682 rfl rfl dX8_there_6 ?_
    obtain ⟨o3, hq⟩ := hq
    refine ra_icmp_ge (tgt := 16) X.x X.b o1 o3 dX8_there_9 (by decide) (fun c4 => ?_) (fun c4 => ?_)
    · have hq := hq.1 c4
      refine ra_iconst X.x X.b dX8_there_16 ?_
      exact x_zret X hr w (by decide) hq dX8_there_17
    · have hq := hq.2 c4
      refine ra_iconst X.x X.b dX8_there_12 ?_
      refine lv_goto (tgt := 17) X.x X.b dX8_there_13 (by decide) ?_
      exact x_zret X hr w (by decide) hq dX8_there_17
def wlX8_face_27  (P : Int → Tab → Prop) (x1 : Int) (x2 : Int) (y1 : Int) (y2 : Int) (σ : Tab) : Prop := wpX8_goes y1 y2 σ (fun z1 σ1 => (inI z1 ∧ ((z1 ≠ 0 → ((0 ≤ x1 ∧ x1 < 64) ∧ (∀ y5 : Int, y5 = σ1 0 36 0 x1.toNat → (inI x2 ∧ ((x2 ≠ 0 → ((x2 ≠ 1 → ((x2 ≠ 2 → ((0 ≤ y5 ∧ y5 < 64) ∧ P (σ1 0 32 0 y5.toNat) σ1)) ∧ (¬ (x2 ≠ 2) → ((0 ≤ y5 ∧ y5 < 64) ∧ P (σ1 0 31 0 y5.toNat) σ1)))) ∧ (¬ (x2 ≠ 1) → ((0 ≤ y5 ∧ y5 < 64) ∧ P (σ1 0 30 0 y5.toNat) σ1)))) ∧ (¬ (x2 ≠ 0) → ((0 ≤ y5 ∧ y5 < 64) ∧ P (σ1 0 34 0 y5.toNat) σ1))))))) ∧ (¬ (z1 ≠ 0) → P 0 σ1))))
def wpX8_face (x1 : Int) (x2 : Int) (σ : Tab) (P : Int → Tab → Prop) : Prop := wpX8_there x1 σ (fun z1 σ1 => (inI z1 ∧ ((z1 = 0 → wlX8_face_27 P x1 x2 (σ 0 23 0 5) 0 σ1) ∧ (¬ (z1 = 0) → (inI x2 ∧ ((x2 < 0 → wlX8_face_27 P x1 x2 (σ 0 23 0 5) 0 σ1) ∧ (¬ (x2 < 0) → ((3 < x2 → wlX8_face_27 P x1 x2 (σ 0 23 0 5) 0 σ1) ∧ (¬ (3 < x2) → wlX8_face_27 P x1 x2 (σ 0 23 0 5) 1 σ1)))))))))
abbrev rmX8_face : Room := { frames := 1, cells := 0, slots := 0, locals := 22 }
set_option maxHeartbeats 4000000 in
set_option maxRecDepth 100000 in
theorem klX8_face_27 {l : Launch} {p : Program} {e : Env} {s : State} {m : MethodId} {args : Array Value} {below : List Frame} {meth : Method} {c : Code} {D : va_G} {ids : Ids} {ad : Lay} {cA : Nat → ClassId} {A : Nat → Prop}  {P : Int → Tab → Prop} (X : Cx p m c meth cX8_face 4 s args RX8 D cA A nwW) (hr : meth.sig.returnType = some .int) (hM : HasM ids) :
    ∀ (x1 : Int) (x2 : Int) (y1 : Int) (y2 : Int) (σ : Tab) (H : Heap) (locs : List Loc) (ls : Array Slot), wlX8_face_27 P x1 x2 y1 y2 σ → ww D ids ad cA A σ s.heap H locs → lv_has ls 4 [(0, .ref (ad 0 23 0)), (1, vI x1), (2, vI x2)] → W p l e rmX8_face s m args below meth c H locs 0 0 (MQ below (QI D ids ad cA A P) args s 0 0 A) (F0 m 27 ls [vI y2, vI y1, .ref (ad 0 23 0)]) := by
  intro x1 x2 y1 y2 σ H locs ls hq w hl
  unfold wlX8_face_27 at hq
  refine x_callVi (n := 2) (As := [vI y1, vI y2]) (rest := []) X w (hM 23 (by decide)) rfl rfl (mX8_goes l D ids ad cA A hM y1 y2 σ _ hq) (lw_V q769 q771 qs16 q43 q772) ⟨rfl, rfl⟩ (by decide +kernel) ⟨Nat.le_of_ble_eq_true rfl, Nat.le_of_ble_eq_true rfl⟩ ⟨Nat.le_refl _, Nat.le_refl _⟩ rfl hl.1 rfl (Nat.le_of_ble_eq_true rfl) dX8_face_27 (fun z1 σ1 H locs hq w => ?_)
  obtain ⟨o2, hq⟩ := hq
  refine ra_if_ne (tgt := 35) X.x X.b o2 dX8_face_30 (by decide) (fun c3 => ?_) (fun c3 => ?_)
  · have hq := hq.1 c3
    refine lv_aload_n X.x X.b dX8_face_35 rfl (lv_at hl 0 rfl) ?_
    refine x_get X w (hM 23 (by decide)) rfl in_X8 rfl 18 (by decide) q689 rfl rfl dX8_face_36 ?_
    refine lv_iload_n X.x X.b dX8_face_39 rfl (lv_at hl 1 rfl) ?_
    obtain ⟨o4, hq⟩ := hq
    refine x_iald X w (hM 36 (by decide)) rfl (by decide) o4.1 o4.2 dX8_face_40 ?_
    refine ra_nmI (fun y5 ey5 => ?_)
    have hq := hq y5 ey5
    refine lv_istore_n (lv' := [(3, vI y5), (0, .ref (ad 0 23 0)), (1, vI x1), (2, vI x2)]) X.x X.b dX8_face_41 rfl hl (by decide) rfl (fun ls hl => ?_)
    refine lv_iload_n X.x X.b dX8_face_42 rfl (lv_at hl 3 rfl) ?_
    obtain ⟨o6, hq⟩ := hq
    refine ra_if_ne (tgt := 55) X.x X.b o6 dX8_face_43 (by decide) (fun c7 => ?_) (fun c7 => ?_)
    · have hq := hq.1 c7
      refine lv_iload_n X.x X.b dX8_face_55 rfl (lv_at hl 3 rfl) ?_
      refine ra_iconst X.x X.b dX8_face_56 ?_
      refine ra_icmp_ne (tgt := 69) X.x X.b o6 ⟨by decide, by decide⟩ dX8_face_57 (by decide) (fun c8 => ?_) (fun c8 => ?_)
      · have hq := hq.1 c8
        refine lv_iload_n X.x X.b dX8_face_69 rfl (lv_at hl 3 rfl) ?_
        refine ra_iconst X.x X.b dX8_face_70 ?_
        refine ra_icmp_ne (tgt := 83) X.x X.b o6 ⟨by decide, by decide⟩ dX8_face_71 (by decide) (fun c9 => ?_) (fun c9 => ?_)
        · have hq := hq.1 c9
          refine lv_aload_n X.x X.b dX8_face_83 rfl (lv_at hl 1 rfl) ?_
          refine x_get X w (hM 23 (by decide)) rfl in_X8 rfl 14 (by decide) q685 rfl rfl dX8_face_84 ?_
          refine lv_iload_n X.x X.b dX8_face_87 rfl (lv_at hl 0 rfl) ?_
          obtain ⟨o10, hq⟩ := hq
          refine x_lald X w (hM 32 (by decide)) rfl (by decide) o10.1 o10.2 dX8_face_88 ?_
          refine ra_l2i X.x X.b dX8_face_89 ?_
          exact x_iret X hr w hq dX8_face_90
        · have hq := hq.2 c9
          refine lv_aload_n X.x X.b dX8_face_74 rfl (lv_at hl 1 rfl) ?_
          refine x_get X w (hM 23 (by decide)) rfl in_X8 rfl 13 (by decide) q684 rfl rfl dX8_face_75 ?_
          refine lv_iload_n X.x X.b dX8_face_78 rfl (lv_at hl 0 rfl) ?_
          obtain ⟨o11, hq⟩ := hq
          refine x_lald X w (hM 31 (by decide)) rfl (by decide) o11.1 o11.2 dX8_face_79 ?_
          refine lv_goto (tgt := 89) X.x X.b dX8_face_80 (by decide) ?_
          refine ra_l2i X.x X.b dX8_face_89 ?_
          exact x_iret X hr w hq dX8_face_90
      · have hq := hq.2 c8
        refine lv_aload_n X.x X.b dX8_face_60 rfl (lv_at hl 1 rfl) ?_
        refine x_get X w (hM 23 (by decide)) rfl in_X8 rfl 12 (by decide) q683 rfl rfl dX8_face_61 ?_
        refine lv_iload_n X.x X.b dX8_face_64 rfl (lv_at hl 0 rfl) ?_
        obtain ⟨o12, hq⟩ := hq
        refine x_lald X w (hM 30 (by decide)) rfl (by decide) o12.1 o12.2 dX8_face_65 ?_
        refine lv_goto (tgt := 89) X.x X.b dX8_face_66 (by decide) ?_
        refine ra_l2i X.x X.b dX8_face_89 ?_
        exact x_iret X hr w hq dX8_face_90
    · have hq := hq.2 c7
      refine lv_aload_n X.x X.b dX8_face_46 rfl (lv_at hl 1 rfl) ?_
      refine x_get X w (hM 23 (by decide)) rfl in_X8 rfl 16 (by decide) q687 rfl rfl dX8_face_47 ?_
      refine lv_iload_n X.x X.b dX8_face_50 rfl (lv_at hl 0 rfl) ?_
      obtain ⟨o13, hq⟩ := hq
      refine x_iald X w (hM 34 (by decide)) rfl (by decide) o13.1 o13.2 dX8_face_51 ?_
      refine lv_goto (tgt := 90) X.x X.b dX8_face_52 (by decide) ?_
      exact x_iret X hr w hq dX8_face_90
  · have hq := hq.2 c3
    refine ra_iconst X.x X.b dX8_face_33 ?_
    exact x_iret X hr w hq dX8_face_34
set_option maxHeartbeats 4000000 in
set_option maxRecDepth 100000 in
theorem mX8_face (l : Launch) (D : va_G) (ids : Ids) (ad : Lay) (cA : Nat → ClassId) (A : Nat → Prop) (hM : HasM ids) (x1 : Int) (x2 : Int) (σ : Tab) (P : Int → Tab → Prop) (hq : wpX8_face x1 x2 σ P) : Met l yX8_face (ws_ yX8_face cX8_face 4 (some .int)) rmX8_face (PcW D ids ad cA A σ [.ref (ad 0 23 0), vI x1, vI x2]) (QI D ids ad cA A P) 0 0 A := by
  refine m_entry (own := RX8) (by decide) (Nat.le_of_ble_eq_true rfl) rfl ?_
  intro p e s m below meth c ls X hr w hl
  have hl : lv_has ls 4 [(0, .ref (ad 0 23 0)), (1, vI x1), (2, vI x2)] := hl
  unfold wpX8_face at hq
  refine lv_aload_n X.x X.b dX8_face_0 rfl (lv_at hl 0 rfl) ?_
  refine lv_aload_n X.x X.b dX8_face_1 rfl (lv_at hl 0 rfl) ?_
  refine x_get X w (hM 23 (by decide)) rfl in_X8 rfl 5 (by decide) q676 rfl rfl dX8_face_2 ?_
  refine lv_aload_n X.x X.b dX8_face_5 rfl (lv_at hl 0 rfl) ?_
  refine lv_iload_n X.x X.b dX8_face_6 rfl (lv_at hl 1 rfl) ?_
  refine x_callVi (n := 1) (As := [vI x1]) (rest := [vI (σ 0 23 0 5), .ref (ad 0 23 0)]) X w (hM 23 (by decide)) rfl rfl (mX8_there l D ids ad cA A hM x1 σ _ hq) (lw_V q853 q855 qs32 q43 q856) ⟨rfl, rfl⟩ (by decide +kernel) ⟨Nat.le_of_ble_eq_true rfl, Nat.le_of_ble_eq_true rfl⟩ ⟨Nat.le_refl _, Nat.le_refl _⟩ rfl hl.1 rfl (Nat.le_of_ble_eq_true rfl) dX8_face_7 (fun z1 σ1 H locs hq w => ?_)
  obtain ⟨o2, hq⟩ := hq
  refine ra_if_eq (tgt := 26) X.x X.b o2 dX8_face_10 (by decide) (fun c3 => ?_) (fun c3 => ?_)
  · have hq := hq.1 c3
    refine ra_iconst X.x X.b dX8_face_26 ?_
    exact klX8_face_27 X hr hM  x1 x2 (σ 0 23 0 5) 0 σ1 _ _ _ hq w (lv_sub hl [0, 1, 2] rfl)
  · have hq := hq.2 c3
    refine lv_iload_n X.x X.b dX8_face_13 rfl (lv_at hl 2 rfl) ?_
    obtain ⟨o4, hq⟩ := hq
    refine ra_if_lt (tgt := 26) X.x X.b o4 dX8_face_14 (by decide) (fun c5 => ?_) (fun c5 => ?_)
    · have hq := hq.1 c5
      refine ra_iconst X.x X.b dX8_face_26 ?_
      exact klX8_face_27 X hr hM  x1 x2 (σ 0 23 0 5) 0 σ1 _ _ _ hq w (lv_sub hl [0, 1, 2] rfl)
    · have hq := hq.2 c5
      refine lv_iload_n X.x X.b dX8_face_17 rfl (lv_at hl 2 rfl) ?_
      refine ra_iconst X.x X.b dX8_face_18 ?_
      refine ra_icmp_gt (tgt := 26) X.x X.b o4 ⟨by decide, by decide⟩ dX8_face_19 (by decide) (fun c6 => ?_) (fun c6 => ?_)
      · have hq := hq.1 c6
        refine ra_iconst X.x X.b dX8_face_26 ?_
        exact klX8_face_27 X hr hM  x1 x2 (σ 0 23 0 5) 0 σ1 _ _ _ hq w (lv_sub hl [0, 1, 2] rfl)
      · have hq := hq.2 c6
        refine ra_iconst X.x X.b dX8_face_22 ?_
        refine lv_goto (tgt := 27) X.x X.b dX8_face_23 (by decide) ?_
        exact klX8_face_27 X hr hM  x1 x2 (σ 0 23 0 5) 1 σ1 _ _ _ hq w (lv_sub hl [0, 1, 2] rfl)
def wpX8_offset (x1 : Int) (σ : Tab) (P : Int → Tab → Prop) : Prop := wpX8_there x1 σ (fun z1 σ1 => wpX8_goes (σ 0 23 0 5) z1 σ1 (fun z2 σ2 => (inI z2 ∧ ((z2 = 0 → P 0 σ2) ∧ (¬ (z2 = 0) → ((0 ≤ x1 ∧ x1 < 64) ∧ ((0 ≤ σ2 0 36 0 x1.toNat ∧ σ2 0 36 0 x1.toNat < 64) ∧ P (σ2 0 33 0 ((σ2 0 36 0 x1.toNat).toNat)) σ2)))))))
abbrev rmX8_offset : Room := { frames := 1, cells := 0, slots := 0, locals := 22 }
set_option maxHeartbeats 4000000 in
set_option maxRecDepth 100000 in
theorem mX8_offset (l : Launch) (D : va_G) (ids : Ids) (ad : Lay) (cA : Nat → ClassId) (A : Nat → Prop) (hM : HasM ids) (x1 : Int) (σ : Tab) (P : Int → Tab → Prop) (hq : wpX8_offset x1 σ P) : Met l yX8_offset (ws_ yX8_offset cX8_offset 2 (some .long)) rmX8_offset (PcW D ids ad cA A σ [.ref (ad 0 23 0), vI x1]) (QL D ids ad cA A P) 0 0 A := by
  refine m_entry (own := RX8) (by decide) (Nat.le_of_ble_eq_true rfl) rfl ?_
  intro p e s m below meth c ls X hr w hl
  have hl : lv_has ls 2 [(0, .ref (ad 0 23 0)), (1, vI x1)] := hl
  unfold wpX8_offset at hq
  refine lv_aload_n X.x X.b dX8_offset_0 rfl (lv_at hl 0 rfl) ?_
  refine lv_aload_n X.x X.b dX8_offset_1 rfl (lv_at hl 0 rfl) ?_
  refine x_get X w (hM 23 (by decide)) rfl in_X8 rfl 5 (by decide) q676 rfl rfl dX8_offset_2 ?_
  refine lv_aload_n X.x X.b dX8_offset_5 rfl (lv_at hl 0 rfl) ?_
  refine lv_iload_n X.x X.b dX8_offset_6 rfl (lv_at hl 1 rfl) ?_
  refine x_callVi (n := 1) (As := [vI x1]) (rest := [vI (σ 0 23 0 5), .ref (ad 0 23 0)]) X w (hM 23 (by decide)) rfl rfl (mX8_there l D ids ad cA A hM x1 σ _ hq) (lw_V q853 q855 qs32 q43 q856) ⟨rfl, rfl⟩ (by decide +kernel) ⟨Nat.le_of_ble_eq_true rfl, Nat.le_of_ble_eq_true rfl⟩ ⟨Nat.le_refl _, Nat.le_refl _⟩ rfl hl.1 rfl (Nat.le_of_ble_eq_true rfl) dX8_offset_7 (fun z1 σ1 H locs hq w => ?_)
  refine x_callVi (n := 2) (As := [vI (σ 0 23 0 5), vI z1]) (rest := []) X w (hM 23 (by decide)) rfl rfl (mX8_goes l D ids ad cA A hM (σ 0 23 0 5) z1 σ1 _ hq) (lw_V q769 q771 qs16 q43 q772) ⟨rfl, rfl⟩ (by decide +kernel) ⟨Nat.le_of_ble_eq_true rfl, Nat.le_of_ble_eq_true rfl⟩ ⟨Nat.le_refl _, Nat.le_refl _⟩ rfl hl.1 rfl (Nat.le_of_ble_eq_true rfl) dX8_offset_10 (fun z2 σ2 H locs hq w => ?_)
  obtain ⟨o3, hq⟩ := hq
  refine ra_if_eq (tgt := 30) X.x X.b o3 dX8_offset_13 (by decide) (fun c4 => ?_) (fun c4 => ?_)
  · have hq := hq.1 c4
    refine ra_lconst (z := 0) X.x X.b dX8_offset_30 rfl ?_
    exact x_lret X hr w hq dX8_offset_31
  · have hq := hq.2 c4
    refine lv_aload_n X.x X.b dX8_offset_16 rfl (lv_at hl 0 rfl) ?_
    refine x_get X w (hM 23 (by decide)) rfl in_X8 rfl 15 (by decide) q686 rfl rfl dX8_offset_17 ?_
    refine lv_aload_n X.x X.b dX8_offset_20 rfl (lv_at hl 0 rfl) ?_
    refine x_get X w (hM 23 (by decide)) rfl in_X8 rfl 18 (by decide) q689 rfl rfl dX8_offset_21 ?_
    refine lv_iload_n X.x X.b dX8_offset_24 rfl (lv_at hl 1 rfl) ?_
    obtain ⟨o5, hq⟩ := hq
    refine x_iald X w (hM 36 (by decide)) rfl (by decide) o5.1 o5.2 dX8_offset_25 ?_
    obtain ⟨o6, hq⟩ := hq
    refine x_lald X w (hM 33 (by decide)) rfl (by decide) o6.1 o6.2 dX8_offset_26 ?_
    refine lv_goto (tgt := 31) X.x X.b dX8_offset_27 (by decide) ?_
    exact x_lret X hr w hq dX8_offset_31
def wlX8_corner_37  (P : Int → Tab → Prop) (x1 : Int) (x2 : Int) (y1 : Int) (y2 : Int) (σ : Tab) : Prop := wpX8_goes y1 y2 σ (fun z1 σ1 => (inI z1 ∧ ((z1 ≠ 0 → ((0 ≤ x1 ∧ x1 < 64) ∧ ((0 ≤ (24 * (σ1 0 36 0 x1.toNat)) + x2 ∧ (24 * (σ1 0 36 0 x1.toNat)) + x2 < 1536) ∧ P (σ1 0 35 0 (((24 * (σ1 0 36 0 x1.toNat)) + x2).toNat)) σ1))) ∧ (¬ (z1 ≠ 0) → P 0 σ1))))
def wpX8_corner (x1 : Int) (x2 : Int) (σ : Tab) (P : Int → Tab → Prop) : Prop := wpX8_there x1 σ (fun z1 σ1 => (inI z1 ∧ ((z1 = 0 → wlX8_corner_37 P x1 x2 (σ 0 23 0 5) 0 σ1) ∧ (¬ (z1 = 0) → (inI x2 ∧ ((x2 < 0 → wlX8_corner_37 P x1 x2 (σ 0 23 0 5) 0 σ1) ∧ (¬ (x2 < 0) → ((0 ≤ x1 ∧ x1 < 64) ∧ ((0 ≤ σ1 0 36 0 x1.toNat ∧ σ1 0 36 0 x1.toNat < 64) ∧ (inI (σ1 0 34 0 ((σ1 0 36 0 x1.toNat).toNat)) ∧ ((σ1 0 34 0 ((σ1 0 36 0 x1.toNat).toNat) ≤ x2 → wlX8_corner_37 P x1 x2 (σ 0 23 0 5) 0 σ1) ∧ (¬ (σ1 0 34 0 ((σ1 0 36 0 x1.toNat).toNat) ≤ x2) → wlX8_corner_37 P x1 x2 (σ 0 23 0 5) 1 σ1))))))))))))
abbrev rmX8_corner : Room := { frames := 1, cells := 0, slots := 0, locals := 22 }
set_option maxHeartbeats 4000000 in
set_option maxRecDepth 100000 in
theorem klX8_corner_37 {l : Launch} {p : Program} {e : Env} {s : State} {m : MethodId} {args : Array Value} {below : List Frame} {meth : Method} {c : Code} {D : va_G} {ids : Ids} {ad : Lay} {cA : Nat → ClassId} {A : Nat → Prop}  {P : Int → Tab → Prop} (X : Cx p m c meth cX8_corner 3 s args RX8 D cA A nwW) (hr : meth.sig.returnType = some .int) (hM : HasM ids) :
    ∀ (x1 : Int) (x2 : Int) (y1 : Int) (y2 : Int) (σ : Tab) (H : Heap) (locs : List Loc) (ls : Array Slot), wlX8_corner_37 P x1 x2 y1 y2 σ → ww D ids ad cA A σ s.heap H locs → lv_has ls 3 [(0, .ref (ad 0 23 0)), (1, vI x1), (2, vI x2)] → W p l e rmX8_corner s m args below meth c H locs 0 0 (MQ below (QI D ids ad cA A P) args s 0 0 A) (F0 m 37 ls [vI y2, vI y1, .ref (ad 0 23 0)]) := by
  intro x1 x2 y1 y2 σ H locs ls hq w hl
  unfold wlX8_corner_37 at hq
  refine x_callVi (n := 2) (As := [vI y1, vI y2]) (rest := []) X w (hM 23 (by decide)) rfl rfl (mX8_goes l D ids ad cA A hM y1 y2 σ _ hq) (lw_V q769 q771 qs16 q43 q772) ⟨rfl, rfl⟩ (by decide +kernel) ⟨Nat.le_of_ble_eq_true rfl, Nat.le_of_ble_eq_true rfl⟩ ⟨Nat.le_refl _, Nat.le_refl _⟩ rfl hl.1 rfl (Nat.le_of_ble_eq_true rfl) dX8_corner_37 (fun z1 σ1 H locs hq w => ?_)
  obtain ⟨o2, hq⟩ := hq
  refine ra_if_ne (tgt := 45) X.x X.b o2 dX8_corner_40 (by decide) (fun c3 => ?_) (fun c3 => ?_)
  · have hq := hq.1 c3
    refine lv_aload_n X.x X.b dX8_corner_45 rfl (lv_at hl 0 rfl) ?_
    refine x_get X w (hM 23 (by decide)) rfl in_X8 rfl 17 (by decide) q688 rfl rfl dX8_corner_46 ?_
    refine ra_bipush X.x X.b dX8_corner_49 rfl ?_
    refine lv_aload_n X.x X.b dX8_corner_51 rfl (lv_at hl 0 rfl) ?_
    refine x_get X w (hM 23 (by decide)) rfl in_X8 rfl 18 (by decide) q689 rfl rfl dX8_corner_52 ?_
    refine lv_iload_n X.x X.b dX8_corner_55 rfl (lv_at hl 1 rfl) ?_
    obtain ⟨o4, hq⟩ := hq
    refine x_iald X w (hM 36 (by decide)) rfl (by decide) o4.1 o4.2 dX8_corner_56 ?_
    refine ra_imul X.x X.b dX8_corner_57 ?_
    refine lv_iload_n X.x X.b dX8_corner_58 rfl (lv_at hl 2 rfl) ?_
    refine ra_iadd X.x X.b dX8_corner_59 ?_
    obtain ⟨o5, hq⟩ := hq
    refine x_iald X w (hM 35 (by decide)) rfl (by decide) o5.1 o5.2 dX8_corner_60 ?_
    exact x_iret X hr w hq dX8_corner_61
  · have hq := hq.2 c3
    refine ra_iconst X.x X.b dX8_corner_43 ?_
    exact x_iret X hr w hq dX8_corner_44
set_option maxHeartbeats 4000000 in
set_option maxRecDepth 100000 in
theorem mX8_corner (l : Launch) (D : va_G) (ids : Ids) (ad : Lay) (cA : Nat → ClassId) (A : Nat → Prop) (hM : HasM ids) (x1 : Int) (x2 : Int) (σ : Tab) (P : Int → Tab → Prop) (hq : wpX8_corner x1 x2 σ P) : Met l yX8_corner (ws_ yX8_corner cX8_corner 3 (some .int)) rmX8_corner (PcW D ids ad cA A σ [.ref (ad 0 23 0), vI x1, vI x2]) (QI D ids ad cA A P) 0 0 A := by
  refine m_entry (own := RX8) (by decide) (Nat.le_of_ble_eq_true rfl) rfl ?_
  intro p e s m below meth c ls X hr w hl
  have hl : lv_has ls 3 [(0, .ref (ad 0 23 0)), (1, vI x1), (2, vI x2)] := hl
  unfold wpX8_corner at hq
  refine lv_aload_n X.x X.b dX8_corner_0 rfl (lv_at hl 0 rfl) ?_
  refine lv_aload_n X.x X.b dX8_corner_1 rfl (lv_at hl 0 rfl) ?_
  refine x_get X w (hM 23 (by decide)) rfl in_X8 rfl 5 (by decide) q676 rfl rfl dX8_corner_2 ?_
  refine lv_aload_n X.x X.b dX8_corner_5 rfl (lv_at hl 0 rfl) ?_
  refine lv_iload_n X.x X.b dX8_corner_6 rfl (lv_at hl 1 rfl) ?_
  refine x_callVi (n := 1) (As := [vI x1]) (rest := [vI (σ 0 23 0 5), .ref (ad 0 23 0)]) X w (hM 23 (by decide)) rfl rfl (mX8_there l D ids ad cA A hM x1 σ _ hq) (lw_V q853 q855 qs32 q43 q856) ⟨rfl, rfl⟩ (by decide +kernel) ⟨Nat.le_of_ble_eq_true rfl, Nat.le_of_ble_eq_true rfl⟩ ⟨Nat.le_refl _, Nat.le_refl _⟩ rfl hl.1 rfl (Nat.le_of_ble_eq_true rfl) dX8_corner_7 (fun z1 σ1 H locs hq w => ?_)
  obtain ⟨o2, hq⟩ := hq
  refine ra_if_eq (tgt := 36) X.x X.b o2 dX8_corner_10 (by decide) (fun c3 => ?_) (fun c3 => ?_)
  · have hq := hq.1 c3
    refine ra_iconst X.x X.b dX8_corner_36 ?_
    exact klX8_corner_37 X hr hM  x1 x2 (σ 0 23 0 5) 0 σ1 _ _ _ hq w (lv_sub hl [0, 1, 2] rfl)
  · have hq := hq.2 c3
    refine lv_iload_n X.x X.b dX8_corner_13 rfl (lv_at hl 2 rfl) ?_
    obtain ⟨o4, hq⟩ := hq
    refine ra_if_lt (tgt := 36) X.x X.b o4 dX8_corner_14 (by decide) (fun c5 => ?_) (fun c5 => ?_)
    · have hq := hq.1 c5
      refine ra_iconst X.x X.b dX8_corner_36 ?_
      exact klX8_corner_37 X hr hM  x1 x2 (σ 0 23 0 5) 0 σ1 _ _ _ hq w (lv_sub hl [0, 1, 2] rfl)
    · have hq := hq.2 c5
      refine lv_iload_n X.x X.b dX8_corner_17 rfl (lv_at hl 2 rfl) ?_
      refine lv_aload_n X.x X.b dX8_corner_18 rfl (lv_at hl 0 rfl) ?_
      refine x_get X w (hM 23 (by decide)) rfl in_X8 rfl 16 (by decide) q687 rfl rfl dX8_corner_19 ?_
      refine lv_aload_n X.x X.b dX8_corner_22 rfl (lv_at hl 0 rfl) ?_
      refine x_get X w (hM 23 (by decide)) rfl in_X8 rfl 18 (by decide) q689 rfl rfl dX8_corner_23 ?_
      refine lv_iload_n X.x X.b dX8_corner_26 rfl (lv_at hl 1 rfl) ?_
      obtain ⟨o6, hq⟩ := hq
      refine x_iald X w (hM 36 (by decide)) rfl (by decide) o6.1 o6.2 dX8_corner_27 ?_
      obtain ⟨o7, hq⟩ := hq
      refine x_iald X w (hM 34 (by decide)) rfl (by decide) o7.1 o7.2 dX8_corner_28 ?_
      obtain ⟨o8, hq⟩ := hq
      refine ra_icmp_ge (tgt := 36) X.x X.b o4 o8 dX8_corner_29 (by decide) (fun c9 => ?_) (fun c9 => ?_)
      · have hq := hq.1 c9
        refine ra_iconst X.x X.b dX8_corner_36 ?_
        exact klX8_corner_37 X hr hM  x1 x2 (σ 0 23 0 5) 0 σ1 _ _ _ hq w (lv_sub hl [0, 1, 2] rfl)
      · have hq := hq.2 c9
        refine ra_iconst X.x X.b dX8_corner_32 ?_
        refine lv_goto (tgt := 37) X.x X.b dX8_corner_33 (by decide) ?_
        exact klX8_corner_37 X hr hM  x1 x2 (σ 0 23 0 5) 1 σ1 _ _ _ hq w (lv_sub hl [0, 1, 2] rfl)
def wlX8_edge_31  (P : Int → Tab → Prop) (x1 : Int) (x2 : Int) (y1 : Int) (y2 : Int) (σ : Tab) : Prop := wpX8_goes y1 y2 σ (fun z1 σ1 => (inI z1 ∧ ((z1 ≠ 0 → (inI x2 ∧ ((x2 ≠ 0 → ((x2 ≠ 1 → ((x2 ≠ 2 → ((0 ≤ x1 ∧ x1 < 128) ∧ P (σ1 0 39 0 x1.toNat) σ1)) ∧ (¬ (x2 ≠ 2) → ((0 ≤ x1 ∧ x1 < 128) ∧ P (σ1 0 38 0 x1.toNat) σ1)))) ∧ (¬ (x2 ≠ 1) → ((0 ≤ x1 ∧ x1 < 128) ∧ (inI (σ1 0 37 0 x1.toNat) ∧ P ((σ1 0 37 0 x1.toNat).tmod 32) σ1))))) ∧ (¬ (x2 ≠ 0) → ((0 ≤ x1 ∧ x1 < 128) ∧ (inI (σ1 0 37 0 x1.toNat) ∧ P ((σ1 0 37 0 x1.toNat).tdiv 32) σ1)))))) ∧ (¬ (z1 ≠ 0) → P 0 σ1))))
def wpX8_edge (x1 : Int) (x2 : Int) (σ : Tab) (P : Int → Tab → Prop) : Prop := (inI x1 ∧ ((x1 < 0 → wlX8_edge_31 P x1 x2 (σ 0 23 0 5) 0 σ) ∧ (¬ (x1 < 0) → (inI (σ 0 23 0 19) ∧ ((σ 0 23 0 19 ≤ x1 → wlX8_edge_31 P x1 x2 (σ 0 23 0 5) 0 σ) ∧ (¬ (σ 0 23 0 19 ≤ x1) → (inI x2 ∧ ((x2 < 0 → wlX8_edge_31 P x1 x2 (σ 0 23 0 5) 0 σ) ∧ (¬ (x2 < 0) → ((3 < x2 → wlX8_edge_31 P x1 x2 (σ 0 23 0 5) 0 σ) ∧ (¬ (3 < x2) → wlX8_edge_31 P x1 x2 (σ 0 23 0 5) 1 σ)))))))))))
abbrev rmX8_edge : Room := { frames := 1, cells := 0, slots := 0, locals := 22 }
set_option maxHeartbeats 4000000 in
set_option maxRecDepth 100000 in
theorem klX8_edge_31 {l : Launch} {p : Program} {e : Env} {s : State} {m : MethodId} {args : Array Value} {below : List Frame} {meth : Method} {c : Code} {D : va_G} {ids : Ids} {ad : Lay} {cA : Nat → ClassId} {A : Nat → Prop}  {P : Int → Tab → Prop} (X : Cx p m c meth cX8_edge 3 s args RX8 D cA A nwW) (hr : meth.sig.returnType = some .int) (hM : HasM ids) :
    ∀ (x1 : Int) (x2 : Int) (y1 : Int) (y2 : Int) (σ : Tab) (H : Heap) (locs : List Loc) (ls : Array Slot), wlX8_edge_31 P x1 x2 y1 y2 σ → ww D ids ad cA A σ s.heap H locs → lv_has ls 3 [(0, .ref (ad 0 23 0)), (1, vI x1), (2, vI x2)] → W p l e rmX8_edge s m args below meth c H locs 0 0 (MQ below (QI D ids ad cA A P) args s 0 0 A) (F0 m 31 ls [vI y2, vI y1, .ref (ad 0 23 0)]) := by
  intro x1 x2 y1 y2 σ H locs ls hq w hl
  unfold wlX8_edge_31 at hq
  refine x_callVi (n := 2) (As := [vI y1, vI y2]) (rest := []) X w (hM 23 (by decide)) rfl rfl (mX8_goes l D ids ad cA A hM y1 y2 σ _ hq) (lw_V q769 q771 qs16 q43 q772) ⟨rfl, rfl⟩ (by decide +kernel) ⟨Nat.le_of_ble_eq_true rfl, Nat.le_of_ble_eq_true rfl⟩ ⟨Nat.le_refl _, Nat.le_refl _⟩ rfl hl.1 rfl (Nat.le_of_ble_eq_true rfl) dX8_edge_31 (fun z1 σ1 H locs hq w => ?_)
  obtain ⟨o2, hq⟩ := hq
  refine ra_if_ne (tgt := 39) X.x X.b o2 dX8_edge_34 (by decide) (fun c3 => ?_) (fun c3 => ?_)
  · have hq := hq.1 c3
    refine lv_iload_n X.x X.b dX8_edge_39 rfl (lv_at hl 2 rfl) ?_
    obtain ⟨o4, hq⟩ := hq
    refine ra_if_ne (tgt := 55) X.x X.b o4 dX8_edge_40 (by decide) (fun c5 => ?_) (fun c5 => ?_)
    · have hq := hq.1 c5
      refine lv_iload_n X.x X.b dX8_edge_55 rfl (lv_at hl 2 rfl) ?_
      refine ra_iconst X.x X.b dX8_edge_56 ?_
      refine ra_icmp_ne (tgt := 72) X.x X.b o4 ⟨by decide, by decide⟩ dX8_edge_57 (by decide) (fun c6 => ?_) (fun c6 => ?_)
      · have hq := hq.1 c6
        refine lv_iload_n X.x X.b dX8_edge_72 rfl (lv_at hl 2 rfl) ?_
        refine ra_iconst X.x X.b dX8_edge_73 ?_
        refine ra_icmp_ne (tgt := 86) X.x X.b o4 ⟨by decide, by decide⟩ dX8_edge_74 (by decide) (fun c7 => ?_) (fun c7 => ?_)
        · have hq := hq.1 c7
          refine lv_aload_n X.x X.b dX8_edge_86 rfl (lv_at hl 0 rfl) ?_
          refine x_get X w (hM 23 (by decide)) rfl in_X8 rfl 22 (by decide) q693 rfl rfl dX8_edge_87 ?_
          refine lv_iload_n X.x X.b dX8_edge_90 rfl (lv_at hl 1 rfl) ?_
          obtain ⟨o8, hq⟩ := hq
          refine x_iald X w (hM 39 (by decide)) rfl (by decide) o8.1 o8.2 dX8_edge_91 ?_
          exact x_iret X hr w hq dX8_edge_92
        · have hq := hq.2 c7
          refine lv_aload_n X.x X.b dX8_edge_77 rfl (lv_at hl 0 rfl) ?_
          refine x_get X w (hM 23 (by decide)) rfl in_X8 rfl 21 (by decide) q692 rfl rfl dX8_edge_78 ?_
          refine lv_iload_n X.x X.b dX8_edge_81 rfl (lv_at hl 1 rfl) ?_
          obtain ⟨o9, hq⟩ := hq
          refine x_iald X w (hM 38 (by decide)) rfl (by decide) o9.1 o9.2 dX8_edge_82 ?_
          refine lv_goto (tgt := 92) X.x X.b dX8_edge_83 (by decide) ?_
          exact x_iret X hr w hq dX8_edge_92
      · have hq := hq.2 c6
        refine lv_aload_n X.x X.b dX8_edge_60 rfl (lv_at hl 0 rfl) ?_
        refine x_get X w (hM 23 (by decide)) rfl in_X8 rfl 20 (by decide) q691 rfl rfl dX8_edge_61 ?_
        refine lv_iload_n X.x X.b dX8_edge_64 rfl (lv_at hl 1 rfl) ?_
        obtain ⟨o10, hq⟩ := hq
        refine x_iald X w (hM 37 (by decide)) rfl (by decide) o10.1 o10.2 dX8_edge_65 ?_
        refine ra_bipush X.x X.b dX8_edge_66 rfl ?_
        obtain ⟨o11, hq⟩ := hq
        refine ra_irem X.x X.b o11 ⟨by decide, by decide⟩ (by decide) dX8_edge_68 ?_
        refine lv_goto (tgt := 92) X.x X.b dX8_edge_69 (by decide) ?_
        exact x_iret X hr w hq dX8_edge_92
    · have hq := hq.2 c5
      refine lv_aload_n X.x X.b dX8_edge_43 rfl (lv_at hl 0 rfl) ?_
      refine x_get X w (hM 23 (by decide)) rfl in_X8 rfl 20 (by decide) q691 rfl rfl dX8_edge_44 ?_
      refine lv_iload_n X.x X.b dX8_edge_47 rfl (lv_at hl 1 rfl) ?_
      obtain ⟨o12, hq⟩ := hq
      refine x_iald X w (hM 37 (by decide)) rfl (by decide) o12.1 o12.2 dX8_edge_48 ?_
      refine ra_bipush X.x X.b dX8_edge_49 rfl ?_
      obtain ⟨o13, hq⟩ := hq
      refine ra_idiv X.x X.b o13 ⟨by decide, by decide⟩ (by decide) dX8_edge_51 ?_
      refine lv_goto (tgt := 92) X.x X.b dX8_edge_52 (by decide) ?_
      exact x_iret X hr w hq dX8_edge_92
  · have hq := hq.2 c3
    refine ra_iconst X.x X.b dX8_edge_37 ?_
    exact x_iret X hr w hq dX8_edge_38
set_option maxHeartbeats 4000000 in
set_option maxRecDepth 100000 in
theorem mX8_edge (l : Launch) (D : va_G) (ids : Ids) (ad : Lay) (cA : Nat → ClassId) (A : Nat → Prop) (hM : HasM ids) (x1 : Int) (x2 : Int) (σ : Tab) (P : Int → Tab → Prop) (hq : wpX8_edge x1 x2 σ P) : Met l yX8_edge (ws_ yX8_edge cX8_edge 3 (some .int)) rmX8_edge (PcW D ids ad cA A σ [.ref (ad 0 23 0), vI x1, vI x2]) (QI D ids ad cA A P) 0 0 A := by
  refine m_entry (own := RX8) (by decide) (Nat.le_of_ble_eq_true rfl) rfl ?_
  intro p e s m below meth c ls X hr w hl
  have hl : lv_has ls 3 [(0, .ref (ad 0 23 0)), (1, vI x1), (2, vI x2)] := hl
  unfold wpX8_edge at hq
  refine lv_aload_n X.x X.b dX8_edge_0 rfl (lv_at hl 0 rfl) ?_
  refine lv_aload_n X.x X.b dX8_edge_1 rfl (lv_at hl 0 rfl) ?_
  refine x_get X w (hM 23 (by decide)) rfl in_X8 rfl 5 (by decide) q676 rfl rfl dX8_edge_2 ?_
  refine lv_iload_n X.x X.b dX8_edge_5 rfl (lv_at hl 1 rfl) ?_
  obtain ⟨o1, hq⟩ := hq
  refine ra_if_lt (tgt := 30) X.x X.b o1 dX8_edge_6 (by decide) (fun c2 => ?_) (fun c2 => ?_)
  · have hq := hq.1 c2
    refine ra_iconst X.x X.b dX8_edge_30 ?_
    exact klX8_edge_31 X hr hM  x1 x2 (σ 0 23 0 5) 0 σ _ _ _ hq w (lv_sub hl [0, 1, 2] rfl)
  · have hq := hq.2 c2
    refine lv_iload_n X.x X.b dX8_edge_9 rfl (lv_at hl 1 rfl) ?_
    refine lv_aload_n X.x X.b dX8_edge_10 rfl (lv_at hl 0 rfl) ?_
    refine x_get X w (hM 23 (by decide)) rfl in_X8 rfl 19 (by decide) q690 rfl rfl dX8_edge_11 ?_
    obtain ⟨o3, hq⟩ := hq
    refine ra_icmp_ge (tgt := 30) X.x X.b o1 o3 dX8_edge_14 (by decide) (fun c4 => ?_) (fun c4 => ?_)
    · have hq := hq.1 c4
      refine ra_iconst X.x X.b dX8_edge_30 ?_
      exact klX8_edge_31 X hr hM  x1 x2 (σ 0 23 0 5) 0 σ _ _ _ hq w (lv_sub hl [0, 1, 2] rfl)
    · have hq := hq.2 c4
      refine lv_iload_n X.x X.b dX8_edge_17 rfl (lv_at hl 2 rfl) ?_
      obtain ⟨o5, hq⟩ := hq
      refine ra_if_lt (tgt := 30) X.x X.b o5 dX8_edge_18 (by decide) (fun c6 => ?_) (fun c6 => ?_)
      · have hq := hq.1 c6
        refine ra_iconst X.x X.b dX8_edge_30 ?_
        exact klX8_edge_31 X hr hM  x1 x2 (σ 0 23 0 5) 0 σ _ _ _ hq w (lv_sub hl [0, 1, 2] rfl)
      · have hq := hq.2 c6
        refine lv_iload_n X.x X.b dX8_edge_21 rfl (lv_at hl 2 rfl) ?_
        refine ra_iconst X.x X.b dX8_edge_22 ?_
        refine ra_icmp_gt (tgt := 30) X.x X.b o5 ⟨by decide, by decide⟩ dX8_edge_23 (by decide) (fun c7 => ?_) (fun c7 => ?_)
        · have hq := hq.1 c7
          refine ra_iconst X.x X.b dX8_edge_30 ?_
          exact klX8_edge_31 X hr hM  x1 x2 (σ 0 23 0 5) 0 σ _ _ _ hq w (lv_sub hl [0, 1, 2] rfl)
        · have hq := hq.2 c7
          refine ra_iconst X.x X.b dX8_edge_26 ?_
          refine lv_goto (tgt := 31) X.x X.b dX8_edge_27 (by decide) ?_
          exact klX8_edge_31 X hr hM  x1 x2 (σ 0 23 0 5) 1 σ _ _ _ hq w (lv_sub hl [0, 1, 2] rfl)
end
