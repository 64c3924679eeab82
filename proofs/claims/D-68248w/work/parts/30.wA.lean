/-! the walk of X3_divisor X3_above_2 X3_above X3_copy X3_same X3_through X4_set X4_copy X4_at X4_get X5_get X5_goes X6_next X6_before X6_rotate X7_get (written by wip/D-68248w/tools/genwalk.py) -/
section
def wlX3_divisor_28  (P : Int → Tab → Prop) : Nat → Int → Int → Tab → Prop
  | 0, _, _, _ => False
  | n + 1, x4, x6, σ => (inL x6 ∧ ((x6 ≤ 0 → P x4 σ) ∧ (¬ (x6 ≤ 0) → (inL x4 ∧ (x6 ≠ 0 ∧ wlX3_divisor_28 P n x6 (x4.tmod x6) σ)))))
def wlX3_divisor_12  (P : Int → Tab → Prop) (x2 : Int) (y0 : Int) (σ : Tab) : Prop := (inL x2 ∧ ((0 ≤ x2 → (∃ k : Nat, wlX3_divisor_28 P k y0 x2 σ)) ∧ (¬ (0 ≤ x2) → (∃ k : Nat, wlX3_divisor_28 P k y0 (-x2) σ))))
def wpX3_divisor (x0 : Int) (x2 : Int) (σ : Tab) (P : Int → Tab → Prop) : Prop := (inL x0 ∧ ((0 ≤ x0 → wlX3_divisor_12 P x2 x0 σ) ∧ (¬ (0 ≤ x0) → wlX3_divisor_12 P x2 (-x0) σ)))
abbrev rmX3_divisor : Room := { frames := 0, cells := 0, slots := 0, locals := 0 }
set_option maxHeartbeats 4000000 in
set_option maxRecDepth 100000 in
theorem klX3_divisor_28 {l : Launch} {p : Program} {e : Env} {s : State} {m : MethodId} {args : Array Value} {below : List Frame} {meth : Method} {c : Code} {D : va_G} {ids : Ids} {ad : Lay} {cA : Nat → ClassId} {A : Nat → Prop}  {P : Int → Tab → Prop} (X : Cx p m c meth cX3_divisor 10 s args RX3 D cA A nwW) (hr : meth.sig.returnType = some .long)  :
    ∀ (n : Nat) (x4 : Int) (x6 : Int) (σ : Tab) (H : Heap) (locs : List Loc) (ls : Array Slot), wlX3_divisor_28 P n x4 x6 σ → ww D ids ad cA A σ s.heap H locs → lv_has ls 10 [(4, vL x4), (6, vL x6)] → W p l e rmX3_divisor s m args below meth c H locs 0 0 (MQ below (QL D ids ad cA A P) args s 0 0 A) (F0 m 28 ls []) := by
  intro n
  induction n with
  | zero => intro x4 x6 σ H locs ls hq w hl; exact hq.elim
  | succ n ih =>
    intro x4 x6 σ H locs ls hq w hl
    unfold wlX3_divisor_28 at hq
    refine lv_lload X.x X.b dX3_divisor_28 (lv_at hl 1 rfl) ?_
    refine ra_lconst (z := 0) X.x X.b dX3_divisor_30 rfl ?_
    obtain ⟨o1, hq⟩ := hq
    refine ra_lcmp_le (tgt := 53) X.x X.b o1 ⟨by decide, by decide⟩ dX3_divisor_31 dX3_divisor_32 (by decide) (fun c2 => ?_) (fun c2 => ?_)
    · have hq := hq.1 c2
      refine lv_lload X.x X.b dX3_divisor_53 (lv_at hl 0 rfl) ?_
      exact x_lret X hr w hq dX3_divisor_55
    · have hq := hq.2 c2
      refine lv_lload X.x X.b dX3_divisor_35 (lv_at hl 0 rfl) ?_
      refine lv_lload X.x X.b dX3_divisor_37 (lv_at hl 1 rfl) ?_
      obtain ⟨o3, hq⟩ := hq
      obtain ⟨o4, hq⟩ := hq
      refine ra_lrem X.x X.b o3 o1 o4 dX3_divisor_39 ?_
      refine lv_lstore (lv' := [(8, vL (x4.tmod x6)), (4, vL x4), (6, vL x6)]) X.x X.b dX3_divisor_40 hl (by decide) rfl (fun ls hl => ?_)
      refine lv_lload X.x X.b dX3_divisor_42 (lv_at hl 2 rfl) ?_
      refine lv_lstore (lv' := [(4, vL x6), (8, vL (x4.tmod x6)), (6, vL x6)]) X.x X.b dX3_divisor_44 hl (by decide) rfl (fun ls hl => ?_)
      refine lv_lload X.x X.b dX3_divisor_46 (lv_at hl 1 rfl) ?_
      refine lv_lstore (lv' := [(6, vL (x4.tmod x6)), (4, vL x6), (8, vL (x4.tmod x6))]) X.x X.b dX3_divisor_48 hl (by decide) rfl (fun ls hl => ?_)
      refine lv_goto (tgt := 28) X.x X.b dX3_divisor_50 (by decide) ?_
      exact ih x6 (x4.tmod x6) σ _ _ _ hq w (lv_sub hl [1, 0] rfl)
set_option maxHeartbeats 4000000 in
set_option maxRecDepth 100000 in
theorem klX3_divisor_12 {l : Launch} {p : Program} {e : Env} {s : State} {m : MethodId} {args : Array Value} {below : List Frame} {meth : Method} {c : Code} {D : va_G} {ids : Ids} {ad : Lay} {cA : Nat → ClassId} {A : Nat → Prop}  {P : Int → Tab → Prop} (X : Cx p m c meth cX3_divisor 10 s args RX3 D cA A nwW) (hr : meth.sig.returnType = some .long)  :
    ∀ (x2 : Int) (y0 : Int) (σ : Tab) (H : Heap) (locs : List Loc) (ls : Array Slot), wlX3_divisor_12 P x2 y0 σ → ww D ids ad cA A σ s.heap H locs → lv_has ls 10 [(2, vL x2)] → W p l e rmX3_divisor s m args below meth c H locs 0 0 (MQ below (QL D ids ad cA A P) args s 0 0 A) (F0 m 12 ls [vL y0]) := by
  intro x2 y0 σ H locs ls hq w hl
  unfold wlX3_divisor_12 at hq
  refine lv_lstore (lv' := [(4, vL y0), (2, vL x2)]) X.x X.b dX3_divisor_12 hl (by decide) rfl (fun ls hl => ?_)
  refine lv_lload_n X.x X.b dX3_divisor_14 rfl (lv_at hl 1 rfl) ?_
  refine ra_lconst (z := 0) X.x X.b dX3_divisor_15 rfl ?_
  obtain ⟨o1, hq⟩ := hq
  refine ra_lcmp_ge (tgt := 25) X.x X.b o1 ⟨by decide, by decide⟩ dX3_divisor_16 dX3_divisor_17 (by decide) (fun c2 => ?_) (fun c2 => ?_)
  · have hq := hq.1 c2
    refine lv_lload_n X.x X.b dX3_divisor_25 rfl (lv_at hl 1 rfl) ?_
    refine lv_lstore (lv' := [(6, vL x2), (4, vL y0), (2, vL x2)]) X.x X.b dX3_divisor_26 hl (by decide) rfl (fun ls hl => ?_)
    obtain ⟨n3, hq⟩ := hq
    exact klX3_divisor_28 X hr   n3 y0 x2 σ _ _ _ hq w (lv_sub hl [1, 0] rfl)
  · have hq := hq.2 c2
    refine lv_lload_n X.x X.b dX3_divisor_20 rfl (lv_at hl 1 rfl) ?_
    refine ra_lneg X.x X.b dX3_divisor_21 ?_
    refine lv_goto (tgt := 26) X.x X.b dX3_divisor_22 (by decide) ?_
    refine lv_lstore (lv' := [(6, vL (-x2)), (4, vL y0), (2, vL x2)]) X.x X.b dX3_divisor_26 hl (by decide) rfl (fun ls hl => ?_)
    obtain ⟨n4, hq⟩ := hq
    exact klX3_divisor_28 X hr   n4 y0 (-x2) σ _ _ _ hq w (lv_sub hl [1, 0] rfl)
set_option maxHeartbeats 4000000 in
set_option maxRecDepth 100000 in
theorem mX3_divisor (l : Launch) (D : va_G) (ids : Ids) (ad : Lay) (cA : Nat → ClassId) (A : Nat → Prop) (x0 : Int) (x2 : Int) (σ : Tab) (P : Int → Tab → Prop) (hq : wpX3_divisor x0 x2 σ P) : Met l yX3_divisor (ws_ yX3_divisor cX3_divisor 10 (some .long)) rmX3_divisor (PcW D ids ad cA A σ [vL x0, vL x2]) (QL D ids ad cA A P) 0 0 A := by
  refine m_entry (own := RX3) (by decide) (Nat.le_of_ble_eq_true rfl) rfl ?_
  intro p e s m below meth c ls X hr w hl
  have hl : lv_has ls 10 [(0, vL x0), (2, vL x2)] := hl
  unfold wpX3_divisor at hq
  refine lv_lload_n X.x X.b dX3_divisor_0 rfl (lv_at hl 0 rfl) ?_
  refine ra_lconst (z := 0) X.x X.b dX3_divisor_1 rfl ?_
  obtain ⟨o1, hq⟩ := hq
  refine ra_lcmp_ge (tgt := 11) X.x X.b o1 ⟨by decide, by decide⟩ dX3_divisor_2 dX3_divisor_3 (by decide) (fun c2 => ?_) (fun c2 => ?_)
  · have hq := hq.1 c2
    refine lv_lload_n X.x X.b dX3_divisor_11 rfl (lv_at hl 0 rfl) ?_
    exact klX3_divisor_12 X hr   x2 x0 σ _ _ _ hq w (lv_sub hl [1] rfl)
  · have hq := hq.2 c2
    refine lv_lload_n X.x X.b dX3_divisor_6 rfl (lv_at hl 0 rfl) ?_
    refine ra_lneg X.x X.b dX3_divisor_7 ?_
    refine lv_goto (tgt := 12) X.x X.b dX3_divisor_8 (by decide) ?_
    exact klX3_divisor_12 X hr   x2 (-x0) σ _ _ _ hq w (lv_sub hl [1] rfl)
def wpX3_above_2 (g0 k0 i0 : Nat) (x1 : Int) (x3 : Int) (x5 : Int) (σ : Tab) (P : Int → Tab → Prop) : Prop := P (((((σ g0 k0 i0 0) * x1) + ((σ g0 k0 i0 1) * x3)) + ((σ g0 k0 i0 2) * x5)) - (σ g0 k0 i0 3)) σ
abbrev rmX3_above_2 : Room := { frames := 0, cells := 0, slots := 0, locals := 0 }
set_option maxHeartbeats 4000000 in
set_option maxRecDepth 100000 in
theorem mX3_above_2 (l : Launch) (D : va_G) (ids : Ids) (ad : Lay) (cA : Nat → ClassId) (A : Nat → Prop) (g0 k0 i0 : Nat) (d0 : (g0, k0, i0) ∈ ids) (p0 : isPl k0) (x1 : Int) (x3 : Int) (x5 : Int) (σ : Tab) (P : Int → Tab → Prop) (hq : wpX3_above_2 g0 k0 i0 x1 x3 x5 σ P) : Met l yX3_above_2 (ws_ yX3_above_2 cX3_above_2 7 (some .long)) rmX3_above_2 (PcW D ids ad cA A σ [.ref (ad g0 k0 i0), vL x1, vL x3, vL x5]) (QL D ids ad cA A P) 0 0 A := by
  refine m_entry (own := RX3) (by decide) (Nat.le_of_ble_eq_true rfl) rfl ?_
  intro p e s m below meth c ls X hr w hl
  have hl : lv_has ls 7 [(0, .ref (ad g0 k0 i0)), (1, vL x1), (3, vL x3), (5, vL x5)] := hl
  unfold wpX3_above_2 at hq
  refine lv_aload_n X.x X.b dX3_above_2_0 rfl (lv_at hl 0 rfl) ?_
  refine x_get X w d0 (ct_pl p0 ad cA _ _ _) in_X3 rfl 0 (by decide) q84 rfl rfl dX3_above_2_1 ?_
  refine lv_lload_n X.x X.b dX3_above_2_4 rfl (lv_at hl 1 rfl) ?_
  refine ra_lmul X.x X.b dX3_above_2_5 ?_
  refine lv_aload_n X.x X.b dX3_above_2_6 rfl (lv_at hl 0 rfl) ?_
  refine x_get X w d0 (ct_pl p0 ad cA _ _ _) in_X3 rfl 1 (by decide) q86 rfl rfl dX3_above_2_7 ?_
  refine lv_lload_n X.x X.b dX3_above_2_10 rfl (lv_at hl 2 rfl) ?_
  refine ra_lmul X.x X.b dX3_above_2_11 ?_
  refine ra_ladd X.x X.b dX3_above_2_12 ?_
  refine lv_aload_n X.x X.b dX3_above_2_13 rfl (lv_at hl 0 rfl) ?_
  refine x_get X w d0 (ct_pl p0 ad cA _ _ _) in_X3 rfl 2 (by decide) q88 rfl rfl dX3_above_2_14 ?_
  refine lv_lload X.x X.b dX3_above_2_17 (lv_at hl 3 rfl) ?_
  refine ra_lmul X.x X.b dX3_above_2_19 ?_
  refine ra_ladd X.x X.b dX3_above_2_20 ?_
  refine lv_aload_n X.x X.b dX3_above_2_21 rfl (lv_at hl 0 rfl) ?_
  refine x_get X w d0 (ct_pl p0 ad cA _ _ _) in_X3 rfl 3 (by decide) q90 rfl rfl dX3_above_2_22 ?_
  refine ra_lsub X.x X.b dX3_above_2_25 ?_
  exact x_lret X hr w hq dX3_above_2_26
def wpX3_above (g0 k0 i0 : Nat) (g1 k1 i1 : Nat) (σ : Tab) (P : Int → Tab → Prop) : Prop := (inI (σ g1 k1 i1 0) ∧ (inI (σ g1 k1 i1 1) ∧ (inI (σ g1 k1 i1 2) ∧ wpX3_above_2 g0 k0 i0 (σ g1 k1 i1 0) (σ g1 k1 i1 1) (σ g1 k1 i1 2) σ (fun z4 σ4 => P z4 σ4))))
abbrev rmX3_above : Room := { frames := 1, cells := 0, slots := 0, locals := 26 }
set_option maxHeartbeats 4000000 in
set_option maxRecDepth 100000 in
theorem mX3_above (l : Launch) (D : va_G) (ids : Ids) (ad : Lay) (cA : Nat → ClassId) (A : Nat → Prop) (g0 k0 i0 : Nat) (d0 : (g0, k0, i0) ∈ ids) (p0 : isPl k0) (g1 k1 i1 : Nat) (d1 : (g1, k1, i1) ∈ ids) (p1 : isPt k1) (σ : Tab) (P : Int → Tab → Prop) (hq : wpX3_above g0 k0 i0 g1 k1 i1 σ P) : Met l yX3_above (ws_ yX3_above cX3_above 2 (some .long)) rmX3_above (PcW D ids ad cA A σ [.ref (ad g0 k0 i0), .ref (ad g1 k1 i1)]) (QL D ids ad cA A P) 0 0 A := by
  refine m_entry (own := RX3) (by decide) (Nat.le_of_ble_eq_true rfl) rfl ?_
  intro p e s m below meth c ls X hr w hl
  have hl : lv_has ls 2 [(0, .ref (ad g0 k0 i0)), (1, .ref (ad g1 k1 i1))] := hl
  unfold wpX3_above at hq
  refine lv_aload_n X.x X.b dX3_above_0 rfl (lv_at hl 0 rfl) ?_
  refine lv_aload_n X.x X.b dX3_above_1 rfl (lv_at hl 1 rfl) ?_
  refine x_get X w d1 (ct_pt p1 ad cA _ _ _) in_X4 rfl 0 (by decide) q109 rfl rfl dX3_above_2 ?_
  obtain ⟨o1, hq⟩ := hq
  refine ra_i2l X.x X.b o1 dX3_above_5 ?_
  refine lv_aload_n X.x X.b dX3_above_6 rfl (lv_at hl 1 rfl) ?_
  refine x_get X w d1 (ct_pt p1 ad cA _ _ _) in_X4 rfl 1 (by decide) q112 rfl rfl dX3_above_7 ?_
  obtain ⟨o2, hq⟩ := hq
  refine ra_i2l X.x X.b o2 dX3_above_10 ?_
  refine lv_aload_n X.x X.b dX3_above_11 rfl (lv_at hl 1 rfl) ?_
  refine x_get X w d1 (ct_pt p1 ad cA _ _ _) in_X4 rfl 2 (by decide) q115 rfl rfl dX3_above_12 ?_
  obtain ⟨o3, hq⟩ := hq
  refine ra_i2l X.x X.b o3 dX3_above_15 ?_
  refine x_callVl (n := 3) (As := [vL (σ g1 k1 i1 0), vL (σ g1 k1 i1 1), vL (σ g1 k1 i1 2)]) (rest := []) X w d0 (ct_pl p0 ad cA _ _ _) rfl (mX3_above_2 l D ids ad cA A g0 k0 i0 d0 p0 (σ g1 k1 i1 0) (σ g1 k1 i1 1) (σ g1 k1 i1 2) σ _ hq) (lw_V q463 q464 q465 q38 q466) ⟨rfl, rfl⟩ (by decide +kernel) ⟨Nat.le_of_ble_eq_true rfl, Nat.le_of_ble_eq_true rfl⟩ ⟨Nat.le_refl _, Nat.le_refl _⟩ rfl hl.1 rfl (Nat.le_of_ble_eq_true rfl) dX3_above_16 (fun z4 σ4 H locs hq w => ?_)
  exact x_lret X hr w hq dX3_above_19
def wpX3_copy (g0 k0 i0 : Nat) (g1 k1 i1 : Nat) (σ : Tab) (P : Tab → Prop) : Prop := (∀ σ1 : Tab, σ1 = st σ g0 k0 i0 0 (σ g1 k1 i1 0) → (∀ σ2 : Tab, σ2 = st σ1 g0 k0 i0 1 (σ1 g1 k1 i1 1) → (∀ σ3 : Tab, σ3 = st σ2 g0 k0 i0 2 (σ2 g1 k1 i1 2) → (∀ σ4 : Tab, σ4 = st σ3 g0 k0 i0 3 (σ3 g1 k1 i1 3) → P σ4))))
abbrev rmX3_copy : Room := { frames := 0, cells := 0, slots := 0, locals := 0 }
set_option maxHeartbeats 4000000 in
set_option maxRecDepth 100000 in
theorem mX3_copy (l : Launch) (D : va_G) (ids : Ids) (ad : Lay) (cA : Nat → ClassId) (A : Nat → Prop) (g0 k0 i0 : Nat) (d0 : (g0, k0, i0) ∈ ids) (p0 : isPl k0) (g1 k1 i1 : Nat) (d1 : (g1, k1, i1) ∈ ids) (p1 : isPl k1) (σ : Tab) (P : Tab → Prop) (hq : wpX3_copy g0 k0 i0 g1 k1 i1 σ P) : Met l yX3_copy (ws_ yX3_copy cX3_copy 2 (none)) rmX3_copy (PcW D ids ad cA A σ [.ref (ad g0 k0 i0), .ref (ad g1 k1 i1)]) (QV D ids ad cA A P) 0 0 A := by
  refine m_entry (own := RX3) (by decide) (Nat.le_of_ble_eq_true rfl) rfl ?_
  intro p e s m below meth c ls X hr w hl
  have hl : lv_has ls 2 [(0, .ref (ad g0 k0 i0)), (1, .ref (ad g1 k1 i1))] := hl
  unfold wpX3_copy at hq
  refine lv_aload_n X.x X.b dX3_copy_0 rfl (lv_at hl 0 rfl) ?_
  refine lv_aload_n X.x X.b dX3_copy_1 rfl (lv_at hl 1 rfl) ?_
  refine x_get X w d1 (ct_pl p1 ad cA _ _ _) in_X3 rfl 0 (by decide) q84 rfl rfl dX3_copy_2 ?_
  refine x_put (z := (σ g1 k1 i1 0)) X w d0 (ct_pl p0 ad cA _ _ _) in_X3 tyX3 tyX3_ok nmX3 rfl 0 (by decide) q84 rfl rfl rfl rfl (Nat.le_of_ble_eq_true rfl) (ct_pl p0 ad cA _ _ _) dX3_copy_5 (fun σ1 H locs eσ1 w => ?_)
  have hq := hq σ1 eσ1
  refine lv_aload_n X.x X.b dX3_copy_8 rfl (lv_at hl 0 rfl) ?_
  refine lv_aload_n X.x X.b dX3_copy_9 rfl (lv_at hl 1 rfl) ?_
  refine x_get X w d1 (ct_pl p1 ad cA _ _ _) in_X3 rfl 1 (by decide) q86 rfl rfl dX3_copy_10 ?_
  refine x_put (z := (σ1 g1 k1 i1 1)) X w d0 (ct_pl p0 ad cA _ _ _) in_X3 tyX3 tyX3_ok nmX3 rfl 1 (by decide) q86 rfl rfl rfl rfl (Nat.le_of_ble_eq_true rfl) (ct_pl p0 ad cA _ _ _) dX3_copy_13 (fun σ2 H locs eσ2 w => ?_)
  have hq := hq σ2 eσ2
  refine lv_aload_n X.x X.b dX3_copy_16 rfl (lv_at hl 0 rfl) ?_
  refine lv_aload_n X.x X.b dX3_copy_17 rfl (lv_at hl 1 rfl) ?_
  refine x_get X w d1 (ct_pl p1 ad cA _ _ _) in_X3 rfl 2 (by decide) q88 rfl rfl dX3_copy_18 ?_
  refine x_put (z := (σ2 g1 k1 i1 2)) X w d0 (ct_pl p0 ad cA _ _ _) in_X3 tyX3 tyX3_ok nmX3 rfl 2 (by decide) q88 rfl rfl rfl rfl (Nat.le_of_ble_eq_true rfl) (ct_pl p0 ad cA _ _ _) dX3_copy_21 (fun σ3 H locs eσ3 w => ?_)
  have hq := hq σ3 eσ3
  refine lv_aload_n X.x X.b dX3_copy_24 rfl (lv_at hl 0 rfl) ?_
  refine lv_aload_n X.x X.b dX3_copy_25 rfl (lv_at hl 1 rfl) ?_
  refine x_get X w d1 (ct_pl p1 ad cA _ _ _) in_X3 rfl 3 (by decide) q90 rfl rfl dX3_copy_26 ?_
  refine x_put (z := (σ3 g1 k1 i1 3)) X w d0 (ct_pl p0 ad cA _ _ _) in_X3 tyX3 tyX3_ok nmX3 rfl 3 (by decide) q90 rfl rfl rfl rfl (Nat.le_of_ble_eq_true rfl) (ct_pl p0 ad cA _ _ _) dX3_copy_29 (fun σ4 H locs eσ4 w => ?_)
  have hq := hq σ4 eσ4
  exact x_vret X hr w hq dX3_copy_32
def wpX3_same (g0 k0 i0 : Nat) (g1 k1 i1 : Nat) (σ : Tab) (P : Int → Tab → Prop) : Prop := (inL (σ g0 k0 i0 0) ∧ (inL (σ g1 k1 i1 0) ∧ ((σ g0 k0 i0 0 ≠ σ g1 k1 i1 0 → P 0 σ) ∧ (¬ (σ g0 k0 i0 0 ≠ σ g1 k1 i1 0) → (inL (σ g0 k0 i0 1) ∧ (inL (σ g1 k1 i1 1) ∧ ((σ g0 k0 i0 1 ≠ σ g1 k1 i1 1 → P 0 σ) ∧ (¬ (σ g0 k0 i0 1 ≠ σ g1 k1 i1 1) → (inL (σ g0 k0 i0 2) ∧ (inL (σ g1 k1 i1 2) ∧ ((σ g0 k0 i0 2 ≠ σ g1 k1 i1 2 → P 0 σ) ∧ (¬ (σ g0 k0 i0 2 ≠ σ g1 k1 i1 2) → (inL (σ g0 k0 i0 3) ∧ (inL (σ g1 k1 i1 3) ∧ ((σ g0 k0 i0 3 ≠ σ g1 k1 i1 3 → P 0 σ) ∧ (¬ (σ g0 k0 i0 3 ≠ σ g1 k1 i1 3) → P 1 σ))))))))))))))))
abbrev rmX3_same : Room := { frames := 0, cells := 0, slots := 0, locals := 0 }
set_option maxHeartbeats 4000000 in
set_option maxRecDepth 100000 in
theorem mX3_same (l : Launch) (D : va_G) (ids : Ids) (ad : Lay) (cA : Nat → ClassId) (A : Nat → Prop) (g0 k0 i0 : Nat) (d0 : (g0, k0, i0) ∈ ids) (p0 : isPl k0) (g1 k1 i1 : Nat) (d1 : (g1, k1, i1) ∈ ids) (p1 : isPl k1) (σ : Tab) (P : Int → Tab → Prop) (hq : wpX3_same g0 k0 i0 g1 k1 i1 σ P) : Met l yX3_same (ws_ yX3_same cX3_same 2 (some .boolean)) rmX3_same (PcW D ids ad cA A σ [.ref (ad g0 k0 i0), .ref (ad g1 k1 i1)]) (QI D ids ad cA A P) 0 0 A := by
  refine m_entry (own := RX3) (by decide) (Nat.le_of_ble_eq_true rfl) rfl ?_
  intro p e s m below meth c ls X hr w hl
  have hl : lv_has ls 2 [(0, .ref (ad g0 k0 i0)), (1, .ref (ad g1 k1 i1))] := hl
  unfold wpX3_same at hq
  refine lv_aload_n X.x X.b dX3_same_0 rfl (lv_at hl 0 rfl) ?_
  refine x_get X w d0 (ct_pl p0 ad cA _ _ _) in_X3 rfl 0 (by decide) q84 rfl rfl dX3_same_1 ?_
  refine lv_aload_n X.x X.b dX3_same_4 rfl (lv_at hl 1 rfl) ?_
  refine x_get X w d1 (ct_pl p1 ad cA _ _ _) in_X3 rfl 0 (by decide) q84 rfl rfl dX3_same_5 ?_
  obtain ⟨o1, hq⟩ := hq
  obtain ⟨o2, hq⟩ := hq
  refine ra_lcmp_ne (tgt := 52) X.x X.b o1 o2 dX3_same_8 dX3_same_9 (by decide) (fun c3 => ?_) (fun c3 => ?_)
  · have hq := hq.1 c3
    refine ra_iconst X.x X.b dX3_same_52 ?_
    exact x_zret X hr w (by decide) hq dX3_same_53
  · have hq := hq.2 c3
    refine lv_aload_n X.x X.b dX3_same_12 rfl (lv_at hl 0 rfl) ?_
    refine x_get X w d0 (ct_pl p0 ad cA _ _ _) in_X3 rfl 1 (by decide) q86 rfl rfl dX3_same_13 ?_
    refine lv_aload_n X.x X.b dX3_same_16 rfl (lv_at hl 1 rfl) ?_
    refine x_get X w d1 (ct_pl p1 ad cA _ _ _) in_X3 rfl 1 (by decide) q86 rfl rfl dX3_same_17 ?_
    obtain ⟨o4, hq⟩ := hq
    obtain ⟨o5, hq⟩ := hq
    refine ra_lcmp_ne (tgt := 52) X.x X.b o4 o5 dX3_same_20 dX3_same_21 (by decide) (fun c6 => ?_) (fun c6 => ?_)
    · have hq := hq.1 c6
      refine ra_iconst X.x X.b dX3_same_52 ?_
      exact x_zret X hr w (by decide) hq dX3_same_53
    · have hq := hq.2 c6
      refine lv_aload_n X.x X.b dX3_same_24 rfl (lv_at hl 0 rfl) ?_
      refine x_get X w d0 (ct_pl p0 ad cA _ _ _) in_X3 rfl 2 (by decide) q88 rfl rfl dX3_same_25 ?_
      refine lv_aload_n X.x X.b dX3_same_28 rfl (lv_at hl 1 rfl) ?_
      refine x_get X w d1 (ct_pl p1 ad cA _ _ _) in_X3 rfl 2 (by decide) q88 rfl rfl dX3_same_29 ?_
      obtain ⟨o7, hq⟩ := hq
      obtain ⟨o8, hq⟩ := hq
      refine ra_lcmp_ne (tgt := 52) X.x X.b o7 o8 dX3_same_32 dX3_same_33 (by decide) (fun c9 => ?_) (fun c9 => ?_)
      · have hq := hq.1 c9
        refine ra_iconst X.x X.b dX3_same_52 ?_
        exact x_zret X hr w (by decide) hq dX3_same_53
      · have hq := hq.2 c9
        refine lv_aload_n X.x X.b dX3_same_36 rfl (lv_at hl 0 rfl) ?_
        refine x_get X w d0 (ct_pl p0 ad cA _ _ _) in_X3 rfl 3 (by decide) q90 rfl rfl dX3_same_37 ?_
        refine lv_aload_n X.x X.b dX3_same_40 rfl (lv_at hl 1 rfl) ?_
        refine x_get X w d1 (ct_pl p1 ad cA _ _ _) in_X3 rfl 3 (by decide) q90 rfl rfl dX3_same_41 ?_
        obtain ⟨o10, hq⟩ := hq
        obtain ⟨o11, hq⟩ := hq
        refine ra_lcmp_ne (tgt := 52) X.x X.b o10 o11 dX3_same_44 dX3_same_45 (by decide) (fun c12 => ?_) (fun c12 => ?_)
        · have hq := hq.1 c12
          refine ra_iconst X.x X.b dX3_same_52 ?_
          exact x_zret X hr w (by decide) hq dX3_same_53
        · have hq := hq.2 c12
          refine ra_iconst X.x X.b dX3_same_48 ?_
          refine lv_goto (tgt := 53) X.x X.b dX3_same_49 (by decide) ?_
          exact x_zret X hr w (by decide) hq dX3_same_53
def wpX3_through (g0 k0 i0 : Nat) (g1 k1 i1 : Nat) (g2 k2 i2 : Nat) (g3 k3 i3 : Nat) (σ : Tab) (P : Int → Tab → Prop) : Prop := (inI ((σ g2 k2 i2 0) - (σ g1 k1 i1 0)) ∧ (∀ y2 : Int, y2 = (σ g2 k2 i2 0) - (σ g1 k1 i1 0) → (inI ((σ g2 k2 i2 1) - (σ g1 k1 i1 1)) ∧ (∀ y4 : Int, y4 = (σ g2 k2 i2 1) - (σ g1 k1 i1 1) → (inI ((σ g2 k2 i2 2) - (σ g1 k1 i1 2)) ∧ (∀ y6 : Int, y6 = (σ g2 k2 i2 2) - (σ g1 k1 i1 2) → (inI ((σ g3 k3 i3 0) - (σ g1 k1 i1 0)) ∧ (∀ y8 : Int, y8 = (σ g3 k3 i3 0) - (σ g1 k1 i1 0) → (inI ((σ g3 k3 i3 1) - (σ g1 k1 i1 1)) ∧ (∀ y10 : Int, y10 = (σ g3 k3 i3 1) - (σ g1 k1 i1 1) → (inI ((σ g3 k3 i3 2) - (σ g1 k1 i1 2)) ∧ (∀ y12 : Int, y12 = (σ g3 k3 i3 2) - (σ g1 k1 i1 2) → (∀ σ13 : Tab, σ13 = st σ g0 k0 i0 0 ((y4 * y12) - (y6 * y10)) → (∀ σ14 : Tab, σ14 = st σ13 g0 k0 i0 1 ((y6 * y8) - (y2 * y12)) → (∀ σ15 : Tab, σ15 = st σ14 g0 k0 i0 2 ((y2 * y10) - (y4 * y8)) → wpX3_divisor (σ15 g0 k0 i0 0) (σ15 g0 k0 i0 1) σ15 (fun z16 σ16 => wpX3_divisor z16 (σ16 g0 k0 i0 2) σ16 (fun z17 σ17 => (inL z17 ∧ ((z17 ≠ 0 → (inL (σ17 g0 k0 i0 0) ∧ (z17 ≠ 0 ∧ (∀ σ22 : Tab, σ22 = st σ17 g0 k0 i0 0 ((σ17 g0 k0 i0 0).tdiv z17) → (inL (σ22 g0 k0 i0 1) ∧ (z17 ≠ 0 ∧ (∀ σ25 : Tab, σ25 = st σ22 g0 k0 i0 1 ((σ22 g0 k0 i0 1).tdiv z17) → (inL (σ25 g0 k0 i0 2) ∧ (z17 ≠ 0 ∧ (∀ σ28 : Tab, σ28 = st σ25 g0 k0 i0 2 ((σ25 g0 k0 i0 2).tdiv z17) → (inI (σ28 g1 k1 i1 0) ∧ (inI (σ28 g1 k1 i1 1) ∧ (inI (σ28 g1 k1 i1 2) ∧ (∀ σ32 : Tab, σ32 = st σ28 g0 k0 i0 3 ((((σ28 g0 k0 i0 0) * (σ28 g1 k1 i1 0)) + ((σ28 g0 k0 i0 1) * (σ28 g1 k1 i1 1))) + ((σ28 g0 k0 i0 2) * (σ28 g1 k1 i1 2))) → P 1 σ32)))))))))))))) ∧ (¬ (z17 ≠ 0) → P 0 σ17))))))))))))))))))))
abbrev rmX3_through : Room := { frames := 1, cells := 0, slots := 0, locals := 29 }
set_option maxHeartbeats 4000000 in
set_option maxRecDepth 100000 in
theorem mX3_through (l : Launch) (D : va_G) (ids : Ids) (ad : Lay) (cA : Nat → ClassId) (A : Nat → Prop) (g0 k0 i0 : Nat) (d0 : (g0, k0, i0) ∈ ids) (p0 : isPl k0) (g1 k1 i1 : Nat) (d1 : (g1, k1, i1) ∈ ids) (p1 : isPt k1) (g2 k2 i2 : Nat) (d2 : (g2, k2, i2) ∈ ids) (p2 : isPt k2) (g3 k3 i3 : Nat) (d3 : (g3, k3, i3) ∈ ids) (p3 : isPt k3) (σ : Tab) (P : Int → Tab → Prop) (hq : wpX3_through g0 k0 i0 g1 k1 i1 g2 k2 i2 g3 k3 i3 σ P) : Met l yX3_through (ws_ yX3_through cX3_through 18 (some .boolean)) rmX3_through (PcW D ids ad cA A σ [.ref (ad g0 k0 i0), .ref (ad g1 k1 i1), .ref (ad g2 k2 i2), .ref (ad g3 k3 i3)]) (QI D ids ad cA A P) 0 0 A := by
  refine m_entry (own := RX3) (by decide) (Nat.le_of_ble_eq_true rfl) rfl ?_
  intro p e s m below meth c ls X hr w hl
  have hl : lv_has ls 18 [(0, .ref (ad g0 k0 i0)), (1, .ref (ad g1 k1 i1)), (2, .ref (ad g2 k2 i2)), (3, .ref (ad g3 k3 i3))] := hl
  unfold wpX3_through at hq
  refine lv_aload_n X.x X.b dX3_through_0 rfl (lv_at hl 2 rfl) ?_
  refine x_get X w d2 (ct_pt p2 ad cA _ _ _) in_X4 rfl 0 (by decide) q109 rfl rfl dX3_through_1 ?_
  refine lv_aload_n X.x X.b dX3_through_4 rfl (lv_at hl 1 rfl) ?_
  refine x_get X w d1 (ct_pt p1 ad cA _ _ _) in_X4 rfl 0 (by decide) q109 rfl rfl dX3_through_5 ?_
  refine ra_isub X.x X.b dX3_through_8 ?_
  obtain ⟨o1, hq⟩ := hq
  refine ra_i2l X.x X.b o1 dX3_through_9 ?_
  refine ra_nmL (fun y2 ey2 => ?_)
  have hq := hq y2 ey2
  refine lv_lstore (lv' := [(4, vL y2), (0, .ref (ad g0 k0 i0)), (1, .ref (ad g1 k1 i1)), (2, .ref (ad g2 k2 i2)), (3, .ref (ad g3 k3 i3))]) X.x X.b dX3_through_10 hl (by decide) rfl (fun ls hl => ?_)
  refine lv_aload_n X.x X.b dX3_through_12 rfl (lv_at hl 3 rfl) ?_
  refine x_get X w d2 (ct_pt p2 ad cA _ _ _) in_X4 rfl 1 (by decide) q112 rfl rfl dX3_through_13 ?_
  refine lv_aload_n X.x X.b dX3_through_16 rfl (lv_at hl 2 rfl) ?_
  refine x_get X w d1 (ct_pt p1 ad cA _ _ _) in_X4 rfl 1 (by decide) q112 rfl rfl dX3_through_17 ?_
  refine ra_isub X.x X.b dX3_through_20 ?_
  obtain ⟨o3, hq⟩ := hq
  refine ra_i2l X.x X.b o3 dX3_through_21 ?_
  refine ra_nmL (fun y4 ey4 => ?_)
  have hq := hq y4 ey4
  refine lv_lstore (lv' := [(6, vL y4), (4, vL y2), (0, .ref (ad g0 k0 i0)), (1, .ref (ad g1 k1 i1)), (2, .ref (ad g2 k2 i2)), (3, .ref (ad g3 k3 i3))]) X.x X.b dX3_through_22 hl (by decide) rfl (fun ls hl => ?_)
  refine lv_aload_n X.x X.b dX3_through_24 rfl (lv_at hl 4 rfl) ?_
  refine x_get X w d2 (ct_pt p2 ad cA _ _ _) in_X4 rfl 2 (by decide) q115 rfl rfl dX3_through_25 ?_
  refine lv_aload_n X.x X.b dX3_through_28 rfl (lv_at hl 3 rfl) ?_
  refine x_get X w d1 (ct_pt p1 ad cA _ _ _) in_X4 rfl 2 (by decide) q115 rfl rfl dX3_through_29 ?_
  refine ra_isub X.x X.b dX3_through_32 ?_
  obtain ⟨o5, hq⟩ := hq
  refine ra_i2l X.x X.b o5 dX3_through_33 ?_
  refine ra_nmL (fun y6 ey6 => ?_)
  have hq := hq y6 ey6
  refine lv_lstore (lv' := [(8, vL y6), (6, vL y4), (4, vL y2), (0, .ref (ad g0 k0 i0)), (1, .ref (ad g1 k1 i1)), (2, .ref (ad g2 k2 i2)), (3, .ref (ad g3 k3 i3))]) X.x X.b dX3_through_34 hl (by decide) rfl (fun ls hl => ?_)
  refine lv_aload_n X.x X.b dX3_through_36 rfl (lv_at hl 6 rfl) ?_
  refine x_get X w d3 (ct_pt p3 ad cA _ _ _) in_X4 rfl 0 (by decide) q109 rfl rfl dX3_through_37 ?_
  refine lv_aload_n X.x X.b dX3_through_40 rfl (lv_at hl 4 rfl) ?_
  refine x_get X w d1 (ct_pt p1 ad cA _ _ _) in_X4 rfl 0 (by decide) q109 rfl rfl dX3_through_41 ?_
  refine ra_isub X.x X.b dX3_through_44 ?_
  obtain ⟨o7, hq⟩ := hq
  refine ra_i2l X.x X.b o7 dX3_through_45 ?_
  refine ra_nmL (fun y8 ey8 => ?_)
  have hq := hq y8 ey8
  refine lv_lstore (lv' := [(10, vL y8), (8, vL y6), (6, vL y4), (4, vL y2), (0, .ref (ad g0 k0 i0)), (1, .ref (ad g1 k1 i1)), (2, .ref (ad g2 k2 i2)), (3, .ref (ad g3 k3 i3))]) X.x X.b dX3_through_46 hl (by decide) rfl (fun ls hl => ?_)
  refine lv_aload_n X.x X.b dX3_through_48 rfl (lv_at hl 7 rfl) ?_
  refine x_get X w d3 (ct_pt p3 ad cA _ _ _) in_X4 rfl 1 (by decide) q112 rfl rfl dX3_through_49 ?_
  refine lv_aload_n X.x X.b dX3_through_52 rfl (lv_at hl 5 rfl) ?_
  refine x_get X w d1 (ct_pt p1 ad cA _ _ _) in_X4 rfl 1 (by decide) q112 rfl rfl dX3_through_53 ?_
  refine ra_isub X.x X.b dX3_through_56 ?_
  obtain ⟨o9, hq⟩ := hq
  refine ra_i2l X.x X.b o9 dX3_through_57 ?_
  refine ra_nmL (fun y10 ey10 => ?_)
  have hq := hq y10 ey10
  refine lv_lstore (lv' := [(12, vL y10), (10, vL y8), (8, vL y6), (6, vL y4), (4, vL y2), (0, .ref (ad g0 k0 i0)), (1, .ref (ad g1 k1 i1)), (2, .ref (ad g2 k2 i2)), (3, .ref (ad g3 k3 i3))]) X.x X.b dX3_through_58 hl (by decide) rfl (fun ls hl => ?_)
  refine lv_aload_n X.x X.b dX3_through_60 rfl (lv_at hl 8 rfl) ?_
  refine x_get X w d3 (ct_pt p3 ad cA _ _ _) in_X4 rfl 2 (by decide) q115 rfl rfl dX3_through_61 ?_
  refine lv_aload_n X.x X.b dX3_through_64 rfl (lv_at hl 6 rfl) ?_
  refine x_get X w d1 (ct_pt p1 ad cA _ _ _) in_X4 rfl 2 (by decide) q115 rfl rfl dX3_through_65 ?_
  refine ra_isub X.x X.b dX3_through_68 ?_
  obtain ⟨o11, hq⟩ := hq
  refine ra_i2l X.x X.b o11 dX3_through_69 ?_
  refine ra_nmL (fun y12 ey12 => ?_)
  have hq := hq y12 ey12
  refine lv_lstore (lv' := [(14, vL y12), (12, vL y10), (10, vL y8), (8, vL y6), (6, vL y4), (4, vL y2), (0, .ref (ad g0 k0 i0)), (1, .ref (ad g1 k1 i1)), (2, .ref (ad g2 k2 i2)), (3, .ref (ad g3 k3 i3))]) X.x X.b dX3_through_70 hl (by decide) rfl (fun ls hl => ?_)
  refine lv_aload_n X.x X.b dX3_through_72 rfl (lv_at hl 6 rfl) ?_
  refine lv_lload X.x X.b dX3_through_73 (lv_at hl 4 rfl) ?_
  refine lv_lload X.x X.b dX3_through_75 (lv_at hl 0 rfl) ?_
  refine ra_lmul X.x X.b dX3_through_77 ?_
  refine lv_lload X.x X.b dX3_through_78 (lv_at hl 3 rfl) ?_
  refine lv_lload X.x X.b dX3_through_80 (lv_at hl 1 rfl) ?_
  refine ra_lmul X.x X.b dX3_through_82 ?_
  refine ra_lsub X.x X.b dX3_through_83 ?_
  refine x_put (z := ((y4 * y12) - (y6 * y10))) X w d0 (ct_pl p0 ad cA _ _ _) in_X3 tyX3 tyX3_ok nmX3 rfl 0 (by decide) q84 rfl rfl rfl rfl (Nat.le_of_ble_eq_true rfl) (ct_pl p0 ad cA _ _ _) dX3_through_84 (fun σ13 H locs eσ13 w => ?_)
  have hq := hq σ13 eσ13
  refine lv_aload_n X.x X.b dX3_through_87 rfl (lv_at hl 6 rfl) ?_
  refine lv_lload X.x X.b dX3_through_88 (lv_at hl 3 rfl) ?_
  refine lv_lload X.x X.b dX3_through_90 (lv_at hl 2 rfl) ?_
  refine ra_lmul X.x X.b dX3_through_92 ?_
  refine lv_lload X.x X.b dX3_through_93 (lv_at hl 5 rfl) ?_
  refine lv_lload X.x X.b dX3_through_95 (lv_at hl 0 rfl) ?_
  refine ra_lmul X.x X.b dX3_through_97 ?_
  refine ra_lsub X.x X.b dX3_through_98 ?_
  refine x_put (z := ((y6 * y8) - (y2 * y12))) X w d0 (ct_pl p0 ad cA _ _ _) in_X3 tyX3 tyX3_ok nmX3 rfl 1 (by decide) q86 rfl rfl rfl rfl (Nat.le_of_ble_eq_true rfl) (ct_pl p0 ad cA _ _ _) dX3_through_99 (fun σ14 H locs eσ14 w => ?_)
  have hq := hq σ14 eσ14
  refine lv_aload_n X.x X.b dX3_through_102 rfl (lv_at hl 6 rfl) ?_
  refine lv_lload X.x X.b dX3_through_103 (lv_at hl 5 rfl) ?_
  refine lv_lload X.x X.b dX3_through_105 (lv_at hl 1 rfl) ?_
  refine ra_lmul X.x X.b dX3_through_107 ?_
  refine lv_lload X.x X.b dX3_through_108 (lv_at hl 4 rfl) ?_
  refine lv_lload X.x X.b dX3_through_110 (lv_at hl 2 rfl) ?_
  refine ra_lmul X.x X.b dX3_through_112 ?_
  refine ra_lsub X.x X.b dX3_through_113 ?_
  refine x_put (z := ((y2 * y10) - (y4 * y8))) X w d0 (ct_pl p0 ad cA _ _ _) in_X3 tyX3 tyX3_ok nmX3 rfl 2 (by decide) q88 rfl rfl rfl rfl (Nat.le_of_ble_eq_true rfl) (ct_pl p0 ad cA _ _ _) dX3_through_114 (fun σ15 H locs eσ15 w => ?_)
  have hq := hq σ15 eσ15
  refine lv_aload_n X.x X.b dX3_through_117 rfl (lv_at hl 6 rfl) ?_
  refine x_get X w d0 (ct_pl p0 ad cA _ _ _) in_X3 rfl 0 (by decide) q84 rfl rfl dX3_through_118 ?_
  refine lv_aload_n X.x X.b dX3_through_121 rfl (lv_at hl 6 rfl) ?_
  refine x_get X w d0 (ct_pl p0 ad cA _ _ _) in_X3 rfl 1 (by decide) q86 rfl rfl dX3_through_122 ?_
  refine x_callSl (n := 2) (As := [vL (σ15 g0 k0 i0 0), vL (σ15 g0 k0 i0 1)]) (rest := []) X w (mX3_divisor l D ids ad cA A (σ15 g0 k0 i0 0) (σ15 g0 k0 i0 1) σ15 _ hq) (lw_S q456 q457 q38 q458) ⟨rfl, rfl⟩ (by decide +kernel) ⟨Nat.le_of_ble_eq_true rfl, Nat.le_of_ble_eq_true rfl⟩ ⟨Nat.le_refl _, Nat.le_refl _⟩ rfl hl.1 rfl (Nat.le_of_ble_eq_true rfl) dX3_through_125 (fun z16 σ16 H locs hq w => ?_)
  refine lv_aload_n X.x X.b dX3_through_128 rfl (lv_at hl 6 rfl) ?_
  refine x_get X w d0 (ct_pl p0 ad cA _ _ _) in_X3 rfl 2 (by decide) q88 rfl rfl dX3_through_129 ?_
  refine x_callSl (n := 2) (As := [vL z16, vL (σ16 g0 k0 i0 2)]) (rest := []) X w (mX3_divisor l D ids ad cA A z16 (σ16 g0 k0 i0 2) σ16 _ hq) (lw_S q456 q457 q38 q458) ⟨rfl, rfl⟩ (by decide +kernel) ⟨Nat.le_of_ble_eq_true rfl, Nat.le_of_ble_eq_true rfl⟩ ⟨Nat.le_refl _, Nat.le_refl _⟩ rfl hl.1 rfl (Nat.le_of_ble_eq_true rfl) dX3_through_132 (fun z17 σ17 H locs hq w => ?_)
  refine lv_lstore (lv' := [(16, vL z17), (14, vL y12), (12, vL y10), (10, vL y8), (8, vL y6), (6, vL y4), (4, vL y2), (0, .ref (ad g0 k0 i0)), (1, .ref (ad g1 k1 i1)), (2, .ref (ad g2 k2 i2)), (3, .ref (ad g3 k3 i3))]) X.x X.b dX3_through_135 hl (by decide) rfl (fun ls hl => ?_)
  refine lv_lload X.x X.b dX3_through_137 (lv_at hl 0 rfl) ?_
  refine ra_lconst (z := 0) X.x X.b dX3_through_139 rfl ?_
  obtain ⟨o18, hq⟩ := hq
  refine ra_lcmp_ne (tgt := 146) X.x X.b o18 ⟨by decide, by decide⟩ dX3_through_140 dX3_through_141 (by decide) (fun c19 => ?_) (fun c19 => ?_)
  · have hq := hq.1 c19
    refine lv_aload_n X.x X.b dX3_through_146 rfl (lv_at hl 7 rfl) ?_
    refine lv_dup X.x X.b dX3_through_147 rfl ?_
    refine x_get X w d0 (ct_pl p0 ad cA _ _ _) in_X3 rfl 0 (by decide) q84 rfl rfl dX3_through_148 ?_
    refine lv_lload X.x X.b dX3_through_151 (lv_at hl 0 rfl) ?_
    obtain ⟨o20, hq⟩ := hq
    obtain ⟨o21, hq⟩ := hq
    refine ra_ldiv X.x X.b o20 o18 o21 dX3_through_153 ?_
    refine x_put (z := ((σ17 g0 k0 i0 0).tdiv z17)) X w d0 (ct_pl p0 ad cA _ _ _) in_X3 tyX3 tyX3_ok nmX3 rfl 0 (by decide) q84 rfl rfl rfl rfl (Nat.le_of_ble_eq_true rfl) (ct_pl p0 ad cA _ _ _) dX3_through_154 (fun σ22 H locs eσ22 w => ?_)
    have hq := hq σ22 eσ22
    refine lv_aload_n X.x X.b dX3_through_157 rfl (lv_at hl 7 rfl) ?_
    refine lv_dup X.x X.b dX3_through_158 rfl ?_
    refine x_get X w d0 (ct_pl p0 ad cA _ _ _) in_X3 rfl 1 (by decide) q86 rfl rfl dX3_through_159 ?_
    refine lv_lload X.x X.b dX3_through_162 (lv_at hl 0 rfl) ?_
    obtain ⟨o23, hq⟩ := hq
    obtain ⟨o24, hq⟩ := hq
    refine ra_ldiv X.x X.b o23 o18 o24 dX3_through_164 ?_
    refine x_put (z := ((σ22 g0 k0 i0 1).tdiv z17)) X w d0 (ct_pl p0 ad cA _ _ _) in_X3 tyX3 tyX3_ok nmX3 rfl 1 (by decide) q86 rfl rfl rfl rfl (Nat.le_of_ble_eq_true rfl) (ct_pl p0 ad cA _ _ _) dX3_through_165 (fun σ25 H locs eσ25 w => ?_)
    have hq := hq σ25 eσ25
    refine lv_aload_n X.x X.b dX3_through_168 rfl (lv_at hl 7 rfl) ?_
    refine lv_dup X.x X.b dX3_through_169 rfl ?_
    refine x_get X w d0 (ct_pl p0 ad cA _ _ _) in_X3 rfl 2 (by decide) q88 rfl rfl dX3_through_170 ?_
    refine lv_lload X.x X.b dX3_through_173 (lv_at hl 0 rfl) ?_
    obtain ⟨o26, hq⟩ := hq
    obtain ⟨o27, hq⟩ := hq
    refine ra_ldiv X.x X.b o26 o18 o27 dX3_through_175 ?_
    refine x_put (z := ((σ25 g0 k0 i0 2).tdiv z17)) X w d0 (ct_pl p0 ad cA _ _ _) in_X3 tyX3 tyX3_ok nmX3 rfl 2 (by decide) q88 rfl rfl rfl rfl (Nat.le_of_ble_eq_true rfl) (ct_pl p0 ad cA _ _ _) dX3_through_176 (fun σ28 H locs eσ28 w => ?_)
    have hq := hq σ28 eσ28
    refine lv_aload_n X.x X.b dX3_through_179 rfl (lv_at hl 7 rfl) ?_
    refine lv_aload_n X.x X.b dX3_through_180 rfl (lv_at hl 7 rfl) ?_
    refine x_get X w d0 (ct_pl p0 ad cA _ _ _) in_X3 rfl 0 (by decide) q84 rfl rfl dX3_through_181 ?_
    refine lv_aload_n X.x X.b dX3_through_184 rfl (lv_at hl 8 rfl) ?_
    refine x_get X w d1 (ct_pt p1 ad cA _ _ _) in_X4 rfl 0 (by decide) q109 rfl rfl dX3_through_185 ?_
    obtain ⟨o29, hq⟩ := hq
    refine ra_i2l X.x X.b o29 dX3_through_188 ?_
    refine ra_lmul X.x X.b dX3_through_189 ?_
    refine lv_aload_n X.x X.b dX3_through_190 rfl (lv_at hl 7 rfl) ?_
    refine x_get X w d0 (ct_pl p0 ad cA _ _ _) in_X3 rfl 1 (by decide) q86 rfl rfl dX3_through_191 ?_
    refine lv_aload_n X.x X.b dX3_through_194 rfl (lv_at hl 8 rfl) ?_
    refine x_get X w d1 (ct_pt p1 ad cA _ _ _) in_X4 rfl 1 (by decide) q112 rfl rfl dX3_through_195 ?_
    obtain ⟨o30, hq⟩ := hq
    refine ra_i2l X.x X.b o30 dX3_through_198 ?_
    refine ra_lmul X.x X.b dX3_through_199 ?_
    refine ra_ladd X.x X.b dX3_through_200 ?_
    refine lv_aload_n X.x X.b dX3_through_201 rfl (lv_at hl 7 rfl) ?_
    refine x_get X w d0 (ct_pl p0 ad cA _ _ _) in_X3 rfl 2 (by decide) q88 rfl rfl dX3_through_202 ?_
    refine lv_aload_n X.x X.b dX3_through_205 rfl (lv_at hl 8 rfl) ?_
    refine x_get X w d1 (ct_pt p1 ad cA _ _ _) in_X4 rfl 2 (by decide) q115 rfl rfl dX3_through_206 ?_
    obtain ⟨o31, hq⟩ := hq
    refine ra_i2l X.x X.b o31 dX3_through_209 ?_
    refine ra_lmul X.x X.b dX3_through_210 ?_
    refine ra_ladd X.x X.b dX3_through_211 ?_
    refine x_put (z := ((((σ28 g0 k0 i0 0) * (σ28 g1 k1 i1 0)) + ((σ28 g0 k0 i0 1) * (σ28 g1 k1 i1 1))) + ((σ28 g0 k0 i0 2) * (σ28 g1 k1 i1 2)))) X w d0 (ct_pl p0 ad cA _ _ _) in_X3 tyX3 tyX3_ok nmX3 rfl 3 (by decide) q90 rfl rfl rfl rfl (Nat.le_of_ble_eq_true rfl) (ct_pl p0 ad cA _ _ _) dX3_through_212 (fun σ32 H locs eσ32 w => ?_)
    have hq := hq σ32 eσ32
    refine ra_iconst X.x X.b dX3_through_215 ?_
    exact x_zret X hr w (by decide) hq dX3_through_216
  · have hq := hq.2 c19
    refine ra_iconst X.x X.b dX3_through_144 ?_
    exact x_zret X hr w (by decide) hq dX3_through_145
def wpX4_set (g0 k0 i0 : Nat) (x1 : Int) (x2 : Int) (x3 : Int) (σ : Tab) (P : Tab → Prop) : Prop := (∀ σ1 : Tab, σ1 = st σ g0 k0 i0 0 x1 → (∀ σ2 : Tab, σ2 = st σ1 g0 k0 i0 1 x2 → (∀ σ3 : Tab, σ3 = st σ2 g0 k0 i0 2 x3 → P σ3)))
abbrev rmX4_set : Room := { frames := 0, cells := 0, slots := 0, locals := 0 }
set_option maxHeartbeats 4000000 in
set_option maxRecDepth 100000 in
theorem mX4_set (l : Launch) (D : va_G) (ids : Ids) (ad : Lay) (cA : Nat → ClassId) (A : Nat → Prop) (g0 k0 i0 : Nat) (d0 : (g0, k0, i0) ∈ ids) (p0 : isPt k0) (x1 : Int) (x2 : Int) (x3 : Int) (σ : Tab) (P : Tab → Prop) (hq : wpX4_set g0 k0 i0 x1 x2 x3 σ P) : Met l yX4_set (ws_ yX4_set cX4_set 4 (none)) rmX4_set (PcW D ids ad cA A σ [.ref (ad g0 k0 i0), vI x1, vI x2, vI x3]) (QV D ids ad cA A P) 0 0 A := by
  refine m_entry (own := RX4) (by decide) (Nat.le_of_ble_eq_true rfl) rfl ?_
  intro p e s m below meth c ls X hr w hl
  have hl : lv_has ls 4 [(0, .ref (ad g0 k0 i0)), (1, vI x1), (2, vI x2), (3, vI x3)] := hl
  unfold wpX4_set at hq
  refine lv_aload_n X.x X.b dX4_set_0 rfl (lv_at hl 0 rfl) ?_
  refine lv_iload_n X.x X.b dX4_set_1 rfl (lv_at hl 1 rfl) ?_
  refine x_put (z := x1) X w d0 (ct_pt p0 ad cA _ _ _) in_X4 tyX4 tyX4_ok nmX4 rfl 0 (by decide) q108 rfl rfl rfl rfl (Nat.le_of_ble_eq_true rfl) (ct_pt p0 ad cA _ _ _) dX4_set_2 (fun σ1 H locs eσ1 w => ?_)
  have hq := hq σ1 eσ1
  refine lv_aload_n X.x X.b dX4_set_5 rfl (lv_at hl 0 rfl) ?_
  refine lv_iload_n X.x X.b dX4_set_6 rfl (lv_at hl 2 rfl) ?_
  refine x_put (z := x2) X w d0 (ct_pt p0 ad cA _ _ _) in_X4 tyX4 tyX4_ok nmX4 rfl 1 (by decide) q111 rfl rfl rfl rfl (Nat.le_of_ble_eq_true rfl) (ct_pt p0 ad cA _ _ _) dX4_set_7 (fun σ2 H locs eσ2 w => ?_)
  have hq := hq σ2 eσ2
  refine lv_aload_n X.x X.b dX4_set_10 rfl (lv_at hl 0 rfl) ?_
  refine lv_iload_n X.x X.b dX4_set_11 rfl (lv_at hl 3 rfl) ?_
  refine x_put (z := x3) X w d0 (ct_pt p0 ad cA _ _ _) in_X4 tyX4 tyX4_ok nmX4 rfl 2 (by decide) q114 rfl rfl rfl rfl (Nat.le_of_ble_eq_true rfl) (ct_pt p0 ad cA _ _ _) dX4_set_12 (fun σ3 H locs eσ3 w => ?_)
  have hq := hq σ3 eσ3
  exact x_vret X hr w hq dX4_set_15
def wpX4_copy (g0 k0 i0 : Nat) (g1 k1 i1 : Nat) (σ : Tab) (P : Tab → Prop) : Prop := wpX4_set g0 k0 i0 (σ g1 k1 i1 0) (σ g1 k1 i1 1) (σ g1 k1 i1 2) σ (fun σ1 => P σ1)
abbrev rmX4_copy : Room := { frames := 1, cells := 0, slots := 0, locals := 23 }
set_option maxHeartbeats 4000000 in
set_option maxRecDepth 100000 in
theorem mX4_copy (l : Launch) (D : va_G) (ids : Ids) (ad : Lay) (cA : Nat → ClassId) (A : Nat → Prop) (g0 k0 i0 : Nat) (d0 : (g0, k0, i0) ∈ ids) (p0 : isPt k0) (g1 k1 i1 : Nat) (d1 : (g1, k1, i1) ∈ ids) (p1 : isPt k1) (σ : Tab) (P : Tab → Prop) (hq : wpX4_copy g0 k0 i0 g1 k1 i1 σ P) : Met l yX4_copy (ws_ yX4_copy cX4_copy 2 (none)) rmX4_copy (PcW D ids ad cA A σ [.ref (ad g0 k0 i0), .ref (ad g1 k1 i1)]) (QV D ids ad cA A P) 0 0 A := by
  refine m_entry (own := RX4) (by decide) (Nat.le_of_ble_eq_true rfl) rfl ?_
  intro p e s m below meth c ls X hr w hl
  have hl : lv_has ls 2 [(0, .ref (ad g0 k0 i0)), (1, .ref (ad g1 k1 i1))] := hl
  unfold wpX4_copy at hq
  refine lv_aload_n X.x X.b dX4_copy_0 rfl (lv_at hl 0 rfl) ?_
  refine lv_aload_n X.x X.b dX4_copy_1 rfl (lv_at hl 1 rfl) ?_
  refine x_get X w d1 (ct_pt p1 ad cA _ _ _) in_X4 rfl 0 (by decide) q108 rfl rfl dX4_copy_2 ?_
  refine lv_aload_n X.x X.b dX4_copy_5 rfl (lv_at hl 1 rfl) ?_
  refine x_get X w d1 (ct_pt p1 ad cA _ _ _) in_X4 rfl 1 (by decide) q111 rfl rfl dX4_copy_6 ?_
  refine lv_aload_n X.x X.b dX4_copy_9 rfl (lv_at hl 1 rfl) ?_
  refine x_get X w d1 (ct_pt p1 ad cA _ _ _) in_X4 rfl 2 (by decide) q114 rfl rfl dX4_copy_10 ?_
  refine x_callVv (n := 3) (As := [vI (σ g1 k1 i1 0), vI (σ g1 k1 i1 1), vI (σ g1 k1 i1 2)]) (rest := []) X w d0 (ct_pt p0 ad cA _ _ _) rfl (mX4_set l D ids ad cA A g0 k0 i0 d0 p0 (σ g1 k1 i1 0) (σ g1 k1 i1 1) (σ g1 k1 i1 2) σ _ hq) (lw_V q435 q369 q370 q39 q371) ⟨rfl, rfl⟩ (by decide +kernel) ⟨Nat.le_of_ble_eq_true rfl, Nat.le_of_ble_eq_true rfl⟩ ⟨Nat.le_refl _, Nat.le_refl _⟩ rfl hl.1 rfl (Nat.le_of_ble_eq_true rfl) dX4_copy_13 (fun σ1 H locs hq w => ?_)
  exact x_vret X hr w hq dX4_copy_16
def wpX4_at (g0 k0 i0 : Nat) (x1 : Int) (x2 : Int) (x3 : Int) (σ : Tab) (P : Int → Tab → Prop) : Prop := (inI (σ g0 k0 i0 0) ∧ (inI x1 ∧ ((σ g0 k0 i0 0 ≠ x1 → P 0 σ) ∧ (¬ (σ g0 k0 i0 0 ≠ x1) → (inI (σ g0 k0 i0 1) ∧ (inI x2 ∧ ((σ g0 k0 i0 1 ≠ x2 → P 0 σ) ∧ (¬ (σ g0 k0 i0 1 ≠ x2) → (inI (σ g0 k0 i0 2) ∧ (inI x3 ∧ ((σ g0 k0 i0 2 ≠ x3 → P 0 σ) ∧ (¬ (σ g0 k0 i0 2 ≠ x3) → P 1 σ))))))))))))
abbrev rmX4_at : Room := { frames := 0, cells := 0, slots := 0, locals := 0 }
set_option maxHeartbeats 4000000 in
set_option maxRecDepth 100000 in
theorem mX4_at (l : Launch) (D : va_G) (ids : Ids) (ad : Lay) (cA : Nat → ClassId) (A : Nat → Prop) (g0 k0 i0 : Nat) (d0 : (g0, k0, i0) ∈ ids) (p0 : isPt k0) (x1 : Int) (x2 : Int) (x3 : Int) (σ : Tab) (P : Int → Tab → Prop) (hq : wpX4_at g0 k0 i0 x1 x2 x3 σ P) : Met l yX4_at (ws_ yX4_at cX4_at 4 (some .boolean)) rmX4_at (PcW D ids ad cA A σ [.ref (ad g0 k0 i0), vI x1, vI x2, vI x3]) (QI D ids ad cA A P) 0 0 A := by
  refine m_entry (own := RX4) (by decide) (Nat.le_of_ble_eq_true rfl) rfl ?_
  intro p e s m below meth c ls X hr w hl
  have hl : lv_has ls 4 [(0, .ref (ad g0 k0 i0)), (1, vI x1), (2, vI x2), (3, vI x3)] := hl
  unfold wpX4_at at hq
  refine lv_aload_n X.x X.b dX4_at_0 rfl (lv_at hl 0 rfl) ?_
  refine x_get X w d0 (ct_pt p0 ad cA _ _ _) in_X4 rfl 0 (by decide) q108 rfl rfl dX4_at_1 ?_
  refine lv_iload_n X.x X.b dX4_at_4 rfl (lv_at hl 1 rfl) ?_
  obtain ⟨o1, hq⟩ := hq
  obtain ⟨o2, hq⟩ := hq
  refine ra_icmp_ne (tgt := 28) X.x X.b o1 o2 dX4_at_5 (by decide) (fun c3 => ?_) (fun c3 => ?_)
  · have hq := hq.1 c3
    refine ra_iconst X.x X.b dX4_at_28 ?_
    exact x_zret X hr w (by decide) hq dX4_at_29
  · have hq := hq.2 c3
    refine lv_aload_n X.x X.b dX4_at_8 rfl (lv_at hl 0 rfl) ?_
    refine x_get X w d0 (ct_pt p0 ad cA _ _ _) in_X4 rfl 1 (by decide) q111 rfl rfl dX4_at_9 ?_
    refine lv_iload_n X.x X.b dX4_at_12 rfl (lv_at hl 2 rfl) ?_
    obtain ⟨o4, hq⟩ := hq
    obtain ⟨o5, hq⟩ := hq
    refine ra_icmp_ne (tgt := 28) X.x X.b o4 o5 dX4_at_13 (by decide) (fun c6 => ?_) (fun c6 => ?_)
    · have hq := hq.1 c6
      refine ra_iconst X.x X.b dX4_at_28 ?_
      exact x_zret X hr w (by decide) hq dX4_at_29
    · have hq := hq.2 c6
      refine lv_aload_n X.x X.b dX4_at_16 rfl (lv_at hl 0 rfl) ?_
      refine x_get X w d0 (ct_pt p0 ad cA _ _ _) in_X4 rfl 2 (by decide) q114 rfl rfl dX4_at_17 ?_
      refine lv_iload_n X.x X.b dX4_at_20 rfl (lv_at hl 3 rfl) ?_
      obtain ⟨o7, hq⟩ := hq
      obtain ⟨o8, hq⟩ := hq
      refine ra_icmp_ne (tgt := 28) X.x X.b o7 o8 dX4_at_21 (by decide) (fun c9 => ?_) (fun c9 => ?_)
      · have hq := hq.1 c9
        refine ra_iconst X.x X.b dX4_at_28 ?_
        exact x_zret X hr w (by decide) hq dX4_at_29
      · have hq := hq.2 c9
        refine ra_iconst X.x X.b dX4_at_24 ?_
        refine lv_goto (tgt := 29) X.x X.b dX4_at_25 (by decide) ?_
        exact x_zret X hr w (by decide) hq dX4_at_29
def wpX4_get (g0 k0 i0 : Nat) (x1 : Int) (σ : Tab) (P : Int → Tab → Prop) : Prop := (inI x1 ∧ ((x1 ≠ 0 → ((x1 ≠ 1 → P (σ g0 k0 i0 2) σ) ∧ (¬ (x1 ≠ 1) → P (σ g0 k0 i0 1) σ))) ∧ (¬ (x1 ≠ 0) → P (σ g0 k0 i0 0) σ)))
abbrev rmX4_get : Room := { frames := 0, cells := 0, slots := 0, locals := 0 }
set_option maxHeartbeats 4000000 in
set_option maxRecDepth 100000 in
theorem mX4_get (l : Launch) (D : va_G) (ids : Ids) (ad : Lay) (cA : Nat → ClassId) (A : Nat → Prop) (g0 k0 i0 : Nat) (d0 : (g0, k0, i0) ∈ ids) (p0 : isPt k0) (x1 : Int) (σ : Tab) (P : Int → Tab → Prop) (hq : wpX4_get g0 k0 i0 x1 σ P) : Met l yX4_get (ws_ yX4_get cX4_get 2 (some .int)) rmX4_get (PcW D ids ad cA A σ [.ref (ad g0 k0 i0), vI x1]) (QI D ids ad cA A P) 0 0 A := by
  refine m_entry (own := RX4) (by decide) (Nat.le_of_ble_eq_true rfl) rfl ?_
  intro p e s m below meth c ls X hr w hl
  have hl : lv_has ls 2 [(0, .ref (ad g0 k0 i0)), (1, vI x1)] := hl
  unfold wpX4_get at hq
  refine lv_iload_n X.x X.b dX4_get_0 rfl (lv_at hl 1 rfl) ?_
  obtain ⟨o1, hq⟩ := hq
  refine ra_if_ne (tgt := 11) X.x X.b o1 dX4_get_1 (by decide) (fun c2 => ?_) (fun c2 => ?_)
  · have hq := hq.1 c2
    refine lv_iload_n X.x X.b dX4_get_11 rfl (lv_at hl 1 rfl) ?_
    refine ra_iconst X.x X.b dX4_get_12 ?_
    refine ra_icmp_ne (tgt := 23) X.x X.b o1 ⟨by decide, by decide⟩ dX4_get_13 (by decide) (fun c3 => ?_) (fun c3 => ?_)
    · have hq := hq.1 c3
      refine lv_aload_n X.x X.b dX4_get_23 rfl (lv_at hl 0 rfl) ?_
      refine x_get X w d0 (ct_pt p0 ad cA _ _ _) in_X4 rfl 2 (by decide) q114 rfl rfl dX4_get_24 ?_
      exact x_iret X hr w hq dX4_get_27
    · have hq := hq.2 c3
      refine lv_aload_n X.x X.b dX4_get_16 rfl (lv_at hl 0 rfl) ?_
      refine x_get X w d0 (ct_pt p0 ad cA _ _ _) in_X4 rfl 1 (by decide) q111 rfl rfl dX4_get_17 ?_
      refine lv_goto (tgt := 27) X.x X.b dX4_get_20 (by decide) ?_
      exact x_iret X hr w hq dX4_get_27
  · have hq := hq.2 c2
    refine lv_aload_n X.x X.b dX4_get_4 rfl (lv_at hl 0 rfl) ?_
    refine x_get X w d0 (ct_pt p0 ad cA _ _ _) in_X4 rfl 0 (by decide) q108 rfl rfl dX4_get_5 ?_
    refine lv_goto (tgt := 27) X.x X.b dX4_get_8 (by decide) ?_
    exact x_iret X hr w hq dX4_get_27
def wpX5_get (g : Nat) (i0 : Nat) (x1 : Int) (σ : Tab) (P : Int → Tab → Prop) : Prop := (inI x1 ∧ (inI (x1.tmod 3) ∧ ((x1.tmod 3 ≠ 0 → (inI x1 ∧ ((x1.tmod 3 ≠ 1 → P (σ g 14 i0 3) σ) ∧ (¬ (x1.tmod 3 ≠ 1) → P (σ g 14 i0 2) σ)))) ∧ (¬ (x1.tmod 3 ≠ 0) → P (σ g 14 i0 1) σ))))
abbrev rmX5_get : Room := { frames := 0, cells := 0, slots := 0, locals := 0 }
set_option maxHeartbeats 4000000 in
set_option maxRecDepth 100000 in
theorem mX5_get (l : Launch) (D : va_G) (ids : Ids) (ad : Lay) (cA : Nat → ClassId) (A : Nat → Prop) (g : Nat) (hg : HasH ids g) (i0 : Nat) (h0 : i0 < 128) (x1 : Int) (σ : Tab) (P : Int → Tab → Prop) (hq : wpX5_get g i0 x1 σ P) : Met l yX5_get (ws_ yX5_get cX5_get 2 (some .int)) rmX5_get (PcW D ids ad cA A σ [.ref (ad g 14 i0), vI x1]) (QI D ids ad cA A P) 0 0 A := by
  refine m_entry (own := RX5) (by decide) (Nat.le_of_ble_eq_true rfl) rfl ?_
  intro p e s m below meth c ls X hr w hl
  have hl : lv_has ls 2 [(0, .ref (ad g 14 i0)), (1, vI x1)] := hl
  unfold wpX5_get at hq
  refine lv_iload_n X.x X.b dX5_get_0 rfl (lv_at hl 1 rfl) ?_
  refine ra_iconst X.x X.b dX5_get_1 ?_
  obtain ⟨o1, hq⟩ := hq
  refine ra_irem X.x X.b o1 ⟨by decide, by decide⟩ (by decide) dX5_get_2 ?_
  obtain ⟨o2, hq⟩ := hq
  refine ra_if_ne (tgt := 13) X.x X.b o2 dX5_get_3 (by decide) (fun c3 => ?_) (fun c3 => ?_)
  · have hq := hq.1 c3
    refine lv_iload_n X.x X.b dX5_get_13 rfl (lv_at hl 1 rfl) ?_
    refine ra_iconst X.x X.b dX5_get_14 ?_
    obtain ⟨o4, hq⟩ := hq
    refine ra_irem X.x X.b o4 ⟨by decide, by decide⟩ (by decide) dX5_get_15 ?_
    refine ra_iconst X.x X.b dX5_get_16 ?_
    refine ra_icmp_ne (tgt := 27) X.x X.b o2 ⟨by decide, by decide⟩ dX5_get_17 (by decide) (fun c5 => ?_) (fun c5 => ?_)
    · have hq := hq.1 c5
      refine lv_aload_n X.x X.b dX5_get_27 rfl (lv_at hl 0 rfl) ?_
      refine x_get X w (hg 14 i0 h0) rfl in_X5 rfl 3 (by decide) q137 rfl rfl dX5_get_28 ?_
      exact x_iret X hr w hq dX5_get_31
    · have hq := hq.2 c5
      refine lv_aload_n X.x X.b dX5_get_20 rfl (lv_at hl 0 rfl) ?_
      refine x_get X w (hg 14 i0 h0) rfl in_X5 rfl 2 (by decide) q135 rfl rfl dX5_get_21 ?_
      refine lv_goto (tgt := 31) X.x X.b dX5_get_24 (by decide) ?_
      exact x_iret X hr w hq dX5_get_31
  · have hq := hq.2 c3
    refine lv_aload_n X.x X.b dX5_get_6 rfl (lv_at hl 0 rfl) ?_
    refine x_get X w (hg 14 i0 h0) rfl in_X5 rfl 1 (by decide) q133 rfl rfl dX5_get_7 ?_
    refine lv_goto (tgt := 31) X.x X.b dX5_get_10 (by decide) ?_
    exact x_iret X hr w hq dX5_get_31
def wlX5_goes_32 (g : Nat) (i0 : Nat) (P : Int → Tab → Prop) (x1 : Int) (x2 : Int) (σ : Tab) : Prop := (inI (σ g 14 i0 3) ∧ (inI x1 ∧ ((σ g 14 i0 3 ≠ x1 → P 0 σ) ∧ (¬ (σ g 14 i0 3 ≠ x1) → (inI (σ g 14 i0 1) ∧ (inI x2 ∧ ((σ g 14 i0 1 ≠ x2 → P 0 σ) ∧ (¬ (σ g 14 i0 1 ≠ x2) → P 1 σ))))))))
def wlX5_goes_16 (g : Nat) (i0 : Nat) (P : Int → Tab → Prop) (x1 : Int) (x2 : Int) (σ : Tab) : Prop := (inI (σ g 14 i0 2) ∧ (inI x1 ∧ ((σ g 14 i0 2 ≠ x1 → wlX5_goes_32 g i0 P x1 x2 σ) ∧ (¬ (σ g 14 i0 2 ≠ x1) → (inI (σ g 14 i0 3) ∧ (inI x2 ∧ ((σ g 14 i0 3 = x2 → P 1 σ) ∧ (¬ (σ g 14 i0 3 = x2) → wlX5_goes_32 g i0 P x1 x2 σ))))))))
def wpX5_goes (g : Nat) (i0 : Nat) (x1 : Int) (x2 : Int) (σ : Tab) (P : Int → Tab → Prop) : Prop := (inI (σ g 14 i0 1) ∧ (inI x1 ∧ ((σ g 14 i0 1 ≠ x1 → wlX5_goes_16 g i0 P x1 x2 σ) ∧ (¬ (σ g 14 i0 1 ≠ x1) → (inI (σ g 14 i0 2) ∧ (inI x2 ∧ ((σ g 14 i0 2 = x2 → P 1 σ) ∧ (¬ (σ g 14 i0 2 = x2) → wlX5_goes_16 g i0 P x1 x2 σ))))))))
abbrev rmX5_goes : Room := { frames := 0, cells := 0, slots := 0, locals := 0 }
set_option maxHeartbeats 4000000 in
set_option maxRecDepth 100000 in
theorem klX5_goes_32 {l : Launch} {p : Program} {e : Env} {s : State} {m : MethodId} {args : Array Value} {below : List Frame} {meth : Method} {c : Code} {D : va_G} {ids : Ids} {ad : Lay} {cA : Nat → ClassId} {A : Nat → Prop} {g : Nat} {i0 : Nat} {P : Int → Tab → Prop} (X : Cx p m c meth cX5_goes 3 s args RX5 D cA A nwW) (hr : meth.sig.returnType = some .boolean) (hg : HasH ids g) (h0 : i0 < 128) :
    ∀ (x1 : Int) (x2 : Int) (σ : Tab) (H : Heap) (locs : List Loc) (ls : Array Slot), wlX5_goes_32 g i0 P x1 x2 σ → ww D ids ad cA A σ s.heap H locs → lv_has ls 3 [(0, .ref (ad g 14 i0)), (1, vI x1), (2, vI x2)] → W p l e rmX5_goes s m args below meth c H locs 0 0 (MQ below (QI D ids ad cA A P) args s 0 0 A) (F0 m 32 ls []) := by
  intro x1 x2 σ H locs ls hq w hl
  unfold wlX5_goes_32 at hq
  refine lv_aload_n X.x X.b dX5_goes_32 rfl (lv_at hl 0 rfl) ?_
  refine x_get X w (hg 14 i0 h0) rfl in_X5 rfl 3 (by decide) q137 rfl rfl dX5_goes_33 ?_
  refine lv_iload_n X.x X.b dX5_goes_36 rfl (lv_at hl 1 rfl) ?_
  obtain ⟨o1, hq⟩ := hq
  obtain ⟨o2, hq⟩ := hq
  refine ra_icmp_ne (tgt := 52) X.x X.b o1 o2 dX5_goes_37 (by decide) (fun c3 => ?_) (fun c3 => ?_)
  · have hq := hq.1 c3
    refine ra_iconst X.x X.b dX5_goes_52 ?_
    exact x_zret X hr w (by decide) hq dX5_goes_53
  · have hq := hq.2 c3
    refine lv_aload_n X.x X.b dX5_goes_40 rfl (lv_at hl 0 rfl) ?_
    refine x_get X w (hg 14 i0 h0) rfl in_X5 rfl 1 (by decide) q133 rfl rfl dX5_goes_41 ?_
    refine lv_iload_n X.x X.b dX5_goes_44 rfl (lv_at hl 2 rfl) ?_
    obtain ⟨o4, hq⟩ := hq
    obtain ⟨o5, hq⟩ := hq
    refine ra_icmp_ne (tgt := 52) X.x X.b o4 o5 dX5_goes_45 (by decide) (fun c6 => ?_) (fun c6 => ?_)
    · have hq := hq.1 c6
      refine ra_iconst X.x X.b dX5_goes_52 ?_
      exact x_zret X hr w (by decide) hq dX5_goes_53
    · have hq := hq.2 c6
      refine ra_iconst X.x X.b dX5_goes_48 ?_
      refine lv_goto (tgt := 53) X.x X.b dX5_goes_49 (by decide) ?_
      exact x_zret X hr w (by decide) hq dX5_goes_53
set_option maxHeartbeats 4000000 in
set_option maxRecDepth 100000 in
theorem klX5_goes_16 {l : Launch} {p : Program} {e : Env} {s : State} {m : MethodId} {args : Array Value} {below : List Frame} {meth : Method} {c : Code} {D : va_G} {ids : Ids} {ad : Lay} {cA : Nat → ClassId} {A : Nat → Prop} {g : Nat} {i0 : Nat} {P : Int → Tab → Prop} (X : Cx p m c meth cX5_goes 3 s args RX5 D cA A nwW) (hr : meth.sig.returnType = some .boolean) (hg : HasH ids g) (h0 : i0 < 128) :
    ∀ (x1 : Int) (x2 : Int) (σ : Tab) (H : Heap) (locs : List Loc) (ls : Array Slot), wlX5_goes_16 g i0 P x1 x2 σ → ww D ids ad cA A σ s.heap H locs → lv_has ls 3 [(0, .ref (ad g 14 i0)), (1, vI x1), (2, vI x2)] → W p l e rmX5_goes s m args below meth c H locs 0 0 (MQ below (QI D ids ad cA A P) args s 0 0 A) (F0 m 16 ls []) := by
  intro x1 x2 σ H locs ls hq w hl
  unfold wlX5_goes_16 at hq
  refine lv_aload_n X.x X.b dX5_goes_16 rfl (lv_at hl 0 rfl) ?_
  refine x_get X w (hg 14 i0 h0) rfl in_X5 rfl 2 (by decide) q135 rfl rfl dX5_goes_17 ?_
  refine lv_iload_n X.x X.b dX5_goes_20 rfl (lv_at hl 1 rfl) ?_
  obtain ⟨o1, hq⟩ := hq
  obtain ⟨o2, hq⟩ := hq
  refine ra_icmp_ne (tgt := 32) X.x X.b o1 o2 dX5_goes_21 (by decide) (fun c3 => ?_) (fun c3 => ?_)
  · have hq := hq.1 c3
    exact klX5_goes_32 X hr hg h0  x1 x2 σ _ _ _ hq w (lv_sub hl [0, 1, 2] rfl)
  · have hq := hq.2 c3
    refine lv_aload_n X.x X.b dX5_goes_24 rfl (lv_at hl 0 rfl) ?_
    refine x_get X w (hg 14 i0 h0) rfl in_X5 rfl 3 (by decide) q137 rfl rfl dX5_goes_25 ?_
    refine lv_iload_n X.x X.b dX5_goes_28 rfl (lv_at hl 2 rfl) ?_
    obtain ⟨o4, hq⟩ := hq
    obtain ⟨o5, hq⟩ := hq
    refine ra_icmp_eq (tgt := 48) X.x X.b o4 o5 dX5_goes_29 (by decide) (fun c6 => ?_) (fun c6 => ?_)
    · have hq := hq.1 c6
      refine ra_iconst X.x X.b dX5_goes_48 ?_
      refine lv_goto (tgt := 53) X.x X.b dX5_goes_49 (by decide) ?_
      exact x_zret X hr w (by decide) hq dX5_goes_53
    · have hq := hq.2 c6
      exact klX5_goes_32 X hr hg h0  x1 x2 σ _ _ _ hq w (lv_sub hl [0, 1, 2] rfl)
set_option maxHeartbeats 4000000 in
set_option maxRecDepth 100000 in
theorem mX5_goes (l : Launch) (D : va_G) (ids : Ids) (ad : Lay) (cA : Nat → ClassId) (A : Nat → Prop) (g : Nat) (hg : HasH ids g) (i0 : Nat) (h0 : i0 < 128) (x1 : Int) (x2 : Int) (σ : Tab) (P : Int → Tab → Prop) (hq : wpX5_goes g i0 x1 x2 σ P) : Met l yX5_goes (ws_ yX5_goes cX5_goes 3 (some .boolean)) rmX5_goes (PcW D ids ad cA A σ [.ref (ad g 14 i0), vI x1, vI x2]) (QI D ids ad cA A P) 0 0 A := by
  refine m_entry (own := RX5) (by decide) (Nat.le_of_ble_eq_true rfl) rfl ?_
  intro p e s m below meth c ls X hr w hl
  have hl : lv_has ls 3 [(0, .ref (ad g 14 i0)), (1, vI x1), (2, vI x2)] := hl
  unfold wpX5_goes at hq
  refine lv_aload_n X.x X.b dX5_goes_0 rfl (lv_at hl 0 rfl) ?_
  refine x_get X w (hg 14 i0 h0) rfl in_X5 rfl 1 (by decide) q133 rfl rfl dX5_goes_1 ?_
  refine lv_iload_n X.x X.b dX5_goes_4 rfl (lv_at hl 1 rfl) ?_
  obtain ⟨o1, hq⟩ := hq
  obtain ⟨o2, hq⟩ := hq
  refine ra_icmp_ne (tgt := 16) X.x X.b o1 o2 dX5_goes_5 (by decide) (fun c3 => ?_) (fun c3 => ?_)
  · have hq := hq.1 c3
    exact klX5_goes_16 X hr hg h0  x1 x2 σ _ _ _ hq w (lv_sub hl [0, 1, 2] rfl)
  · have hq := hq.2 c3
    refine lv_aload_n X.x X.b dX5_goes_8 rfl (lv_at hl 0 rfl) ?_
    refine x_get X w (hg 14 i0 h0) rfl in_X5 rfl 2 (by decide) q135 rfl rfl dX5_goes_9 ?_
    refine lv_iload_n X.x X.b dX5_goes_12 rfl (lv_at hl 2 rfl) ?_
    obtain ⟨o4, hq⟩ := hq
    obtain ⟨o5, hq⟩ := hq
    refine ra_icmp_eq (tgt := 48) X.x X.b o4 o5 dX5_goes_13 (by decide) (fun c6 => ?_) (fun c6 => ?_)
    · have hq := hq.1 c6
      refine ra_iconst X.x X.b dX5_goes_48 ?_
      refine lv_goto (tgt := 53) X.x X.b dX5_goes_49 (by decide) ?_
      exact x_zret X hr w (by decide) hq dX5_goes_53
    · have hq := hq.2 c6
      exact klX5_goes_16 X hr hg h0  x1 x2 σ _ _ _ hq w (lv_sub hl [0, 1, 2] rfl)
def wpX6_next (g : Nat) (i0 : Nat) (x1 : Int) (σ : Tab) (P : Int → Tab → Prop) : Prop := (inI (x1 + 1) ∧ (inI (σ g 16 i0 2) ∧ ((x1 + 1 ≠ σ g 16 i0 2 → ((0 ≤ x1 + 1 ∧ x1 + 1 < 24) ∧ P (σ g 18 i0 ((x1 + 1).toNat)) σ)) ∧ (¬ (x1 + 1 ≠ σ g 16 i0 2) → P (σ g 18 i0 0) σ))))
abbrev rmX6_next : Room := { frames := 0, cells := 0, slots := 0, locals := 0 }
set_option maxHeartbeats 4000000 in
set_option maxRecDepth 100000 in
theorem mX6_next (l : Launch) (D : va_G) (ids : Ids) (ad : Lay) (cA : Nat → ClassId) (A : Nat → Prop) (g : Nat) (hg : HasH ids g) (i0 : Nat) (h0 : i0 < 44) (x1 : Int) (σ : Tab) (P : Int → Tab → Prop) (hq : wpX6_next g i0 x1 σ P) : Met l yX6_next (ws_ yX6_next cX6_next 2 (some .int)) rmX6_next (PcW D ids ad cA A σ [.ref (ad g 16 i0), vI x1]) (QI D ids ad cA A P) 0 0 A := by
  refine m_entry (own := RX6) (by decide) (Nat.le_of_ble_eq_true rfl) rfl ?_
  intro p e s m below meth c ls X hr w hl
  have hl : lv_has ls 2 [(0, .ref (ad g 16 i0)), (1, vI x1)] := hl
  unfold wpX6_next at hq
  refine lv_aload_n X.x X.b dX6_next_0 rfl (lv_at hl 0 rfl) ?_
  refine x_get X w (hg 16 i0 h0) rfl in_X6 rfl 1 (by decide) q164 rfl rfl dX6_next_1 ?_
  refine lv_iload_n X.x X.b dX6_next_4 rfl (lv_at hl 1 rfl) ?_
  refine ra_iconst X.x X.b dX6_next_5 ?_
  refine ra_iadd X.x X.b dX6_next_6 ?_
  refine lv_aload_n X.x X.b dX6_next_7 rfl (lv_at hl 0 rfl) ?_
  refine x_get X w (hg 16 i0 h0) rfl in_X6 rfl 2 (by decide) q167 rfl rfl dX6_next_8 ?_
  obtain ⟨o1, hq⟩ := hq
  obtain ⟨o2, hq⟩ := hq
  refine ra_icmp_ne (tgt := 18) X.x X.b o1 o2 dX6_next_11 (by decide) (fun c3 => ?_) (fun c3 => ?_)
  · have hq := hq.1 c3
    refine lv_iload_n X.x X.b dX6_next_18 rfl (lv_at hl 1 rfl) ?_
    refine ra_iconst X.x X.b dX6_next_19 ?_
    refine ra_iadd X.x X.b dX6_next_20 ?_
    obtain ⟨o4, hq⟩ := hq
    refine x_iald X w (hg 18 i0 h0) rfl (by decide) o4.1 o4.2 dX6_next_21 ?_
    exact x_iret X hr w hq dX6_next_22
  · have hq := hq.2 c3
    refine ra_iconst X.x X.b dX6_next_14 ?_
    refine lv_goto (tgt := 21) X.x X.b dX6_next_15 (by decide) ?_
    refine x_iald X w (hg 18 i0 h0) rfl (by decide) (by decide) (by decide) dX6_next_21 ?_
    exact x_iret X hr w hq dX6_next_22
def wpX6_before (g : Nat) (i0 : Nat) (i1 : Nat) (σ : Tab) (P : Int → Tab → Prop) : Prop := (inI (σ g 18 i0 0) ∧ (inI (σ g 18 i1 0) ∧ ((σ g 18 i0 0 < σ g 18 i1 0 → P 1 σ) ∧ (¬ (σ g 18 i0 0 < σ g 18 i1 0) → ((σ g 18 i0 0 ≠ σ g 18 i1 0 → P 0 σ) ∧ (¬ (σ g 18 i0 0 ≠ σ g 18 i1 0) → (inI (σ g 18 i0 1) ∧ (inI (σ g 18 i1 1) ∧ ((σ g 18 i1 1 ≤ σ g 18 i0 1 → P 0 σ) ∧ (¬ (σ g 18 i1 1 ≤ σ g 18 i0 1) → P 1 σ))))))))))
abbrev rmX6_before : Room := { frames := 0, cells := 0, slots := 0, locals := 0 }
set_option maxHeartbeats 4000000 in
set_option maxRecDepth 100000 in
theorem mX6_before (l : Launch) (D : va_G) (ids : Ids) (ad : Lay) (cA : Nat → ClassId) (A : Nat → Prop) (g : Nat) (hg : HasH ids g) (i0 : Nat) (h0 : i0 < 44) (i1 : Nat) (h1 : i1 < 44) (σ : Tab) (P : Int → Tab → Prop) (hq : wpX6_before g i0 i1 σ P) : Met l yX6_before (ws_ yX6_before cX6_before 2 (some .boolean)) rmX6_before (PcW D ids ad cA A σ [.ref (ad g 16 i0), .ref (ad g 16 i1)]) (QI D ids ad cA A P) 0 0 A := by
  refine m_entry (own := RX6) (by decide) (Nat.le_of_ble_eq_true rfl) rfl ?_
  intro p e s m below meth c ls X hr w hl
  have hl : lv_has ls 2 [(0, .ref (ad g 16 i0)), (1, .ref (ad g 16 i1))] := hl
  unfold wpX6_before at hq
  refine lv_aload_n X.x X.b dX6_before_0 rfl (lv_at hl 0 rfl) ?_
  refine x_get X w (hg 16 i0 h0) rfl in_X6 rfl 1 (by decide) q164 rfl rfl dX6_before_1 ?_
  refine ra_iconst X.x X.b dX6_before_4 ?_
  refine x_iald X w (hg 18 i0 h0) rfl (by decide) (by decide) (by decide) dX6_before_5 ?_
  refine lv_aload_n X.x X.b dX6_before_6 rfl (lv_at hl 1 rfl) ?_
  refine x_get X w (hg 16 i1 h1) rfl in_X6 rfl 1 (by decide) q164 rfl rfl dX6_before_7 ?_
  refine ra_iconst X.x X.b dX6_before_10 ?_
  refine x_iald X w (hg 18 i1 h1) rfl (by decide) (by decide) (by decide) dX6_before_11 ?_
  obtain ⟨o1, hq⟩ := hq
  obtain ⟨o2, hq⟩ := hq
  refine ra_icmp_lt (tgt := 45) X.x X.b o1 o2 dX6_before_12 (by decide) (fun c3 => ?_) (fun c3 => ?_)
  · have hq := hq.1 c3
    refine ra_iconst X.x X.b dX6_before_45 ?_
    refine lv_goto (tgt := 50) X.x X.b dX6_before_46 (by decide) ?_
    exact x_zret X hr w (by decide) hq dX6_before_50
  · have hq := hq.2 c3
    refine lv_aload_n X.x X.b dX6_before_15 rfl (lv_at hl 0 rfl) ?_
    refine x_get X w (hg 16 i0 h0) rfl in_X6 rfl 1 (by decide) q164 rfl rfl dX6_before_16 ?_
    refine ra_iconst X.x X.b dX6_before_19 ?_
    refine x_iald X w (hg 18 i0 h0) rfl (by decide) (by decide) (by decide) dX6_before_20 ?_
    refine lv_aload_n X.x X.b dX6_before_21 rfl (lv_at hl 1 rfl) ?_
    refine x_get X w (hg 16 i1 h1) rfl in_X6 rfl 1 (by decide) q164 rfl rfl dX6_before_22 ?_
    refine ra_iconst X.x X.b dX6_before_25 ?_
    refine x_iald X w (hg 18 i1 h1) rfl (by decide) (by decide) (by decide) dX6_before_26 ?_
    refine ra_icmp_ne (tgt := 49) X.x X.b o1 o2 dX6_before_27 (by decide) (fun c4 => ?_) (fun c4 => ?_)
    · have hq := hq.1 c4
      refine ra_iconst X.x X.b dX6_before_49 ?_
      exact x_zret X hr w (by decide) hq dX6_before_50
    · have hq := hq.2 c4
      refine lv_aload_n X.x X.b dX6_before_30 rfl (lv_at hl 0 rfl) ?_
      refine x_get X w (hg 16 i0 h0) rfl in_X6 rfl 1 (by decide) q164 rfl rfl dX6_before_31 ?_
      refine ra_iconst X.x X.b dX6_before_34 ?_
      refine x_iald X w (hg 18 i0 h0) rfl (by decide) (by decide) (by decide) dX6_before_35 ?_
      refine lv_aload_n X.x X.b dX6_before_36 rfl (lv_at hl 1 rfl) ?_
      refine x_get X w (hg 16 i1 h1) rfl in_X6 rfl 1 (by decide) q164 rfl rfl dX6_before_37 ?_
      refine ra_iconst X.x X.b dX6_before_40 ?_
      refine x_iald X w (hg 18 i1 h1) rfl (by decide) (by decide) (by decide) dX6_before_41 ?_
      obtain ⟨o5, hq⟩ := hq
      obtain ⟨o6, hq⟩ := hq
      refine ra_icmp_ge (tgt := 49) X.x X.b o5 o6 dX6_before_42 (by decide) (fun c7 => ?_) (fun c7 => ?_)
      · have hq := hq.1 c7
        refine ra_iconst X.x X.b dX6_before_49 ?_
        exact x_zret X hr w (by decide) hq dX6_before_50
      · have hq := hq.2 c7
        refine ra_iconst X.x X.b dX6_before_45 ?_
        refine lv_goto (tgt := 50) X.x X.b dX6_before_46 (by decide) ?_
        exact x_zret X hr w (by decide) hq dX6_before_50
def wlX6_rotate_37 (g : Nat) (i0 : Nat) (P : Tab → Prop) : Nat → Int → Int → Tab → Prop
  | 0, _, _, _ => False
  | n + 1, x2, x3, σ => (inI x3 ∧ (inI (σ g 16 i0 2) ∧ ((σ g 16 i0 2 ≤ x3 → ((0 ≤ σ g 16 i0 2 ∧ σ g 16 i0 2 ≤ 24) ∧ (∀ σ5 : Tab, σ5 = cpW σ g i0 (σ g 16 i0 2).toNat → P σ5))) ∧ (¬ (σ g 16 i0 2 ≤ x3) → (inI (x2 + x3) ∧ (σ g 16 i0 2 ≠ 0 ∧ ((0 ≤ (x2 + x3).tmod (σ g 16 i0 2) ∧ (x2 + x3).tmod (σ g 16 i0 2) < 24) ∧ ((0 ≤ x3 ∧ x3 < 24) ∧ (∀ σ10 : Tab, σ10 = st σ g 6 0 x3.toNat (σ g 18 i0 (((x2 + x3).tmod (σ g 16 i0 2)).toNat)) → wlX6_rotate_37 g i0 P n x2 (x3 + 1) σ10)))))))))
def wlX6_rotate_4 (g : Nat) (i0 : Nat) (P : Tab → Prop) : Nat → Int → Int → Tab → Prop
  | 0, _, _, _ => False
  | n + 1, x2, x3, σ => (inI x3 ∧ (inI (σ g 16 i0 2) ∧ ((σ g 16 i0 2 ≤ x3 → (∃ k : Nat, wlX6_rotate_37 g i0 P k x2 0 σ)) ∧ (¬ (σ g 16 i0 2 ≤ x3) → ((0 ≤ x3 ∧ x3 < 24) ∧ ((0 ≤ x2 ∧ x2 < 24) ∧ (inI (σ g 18 i0 x3.toNat) ∧ (inI (σ g 18 i0 x2.toNat) ∧ ((σ g 18 i0 x2.toNat ≤ σ g 18 i0 x3.toNat → wlX6_rotate_4 g i0 P n x2 (x3 + 1) σ) ∧ (¬ (σ g 18 i0 x2.toNat ≤ σ g 18 i0 x3.toNat) → wlX6_rotate_4 g i0 P n x3 (x3 + 1) σ))))))))))
def wpX6_rotate (g : Nat) (i0 : Nat) (σ : Tab) (P : Tab → Prop) : Prop := (∃ k : Nat, wlX6_rotate_4 g i0 P k 0 1 σ)
abbrev rmX6_rotate : Room := { frames := 1, cells := 0, slots := 0, locals := 40 }
set_option maxHeartbeats 4000000 in
set_option maxRecDepth 100000 in
theorem klX6_rotate_37 {l : Launch} {p : Program} {e : Env} {s : State} {m : MethodId} {args : Array Value} {below : List Frame} {meth : Method} {c : Code} {D : va_G} {ids : Ids} {ad : Lay} {cA : Nat → ClassId} {A : Nat → Prop} {g : Nat} {i0 : Nat} {P : Tab → Prop} (X : Cx p m c meth cX6_rotate 4 s args RX6 D cA A nwW) (hr : meth.sig.returnType = none) (hg : HasH ids g) (h0 : i0 < 44) :
    ∀ (n : Nat) (x2 : Int) (x3 : Int) (σ : Tab) (H : Heap) (locs : List Loc) (ls : Array Slot), wlX6_rotate_37 g i0 P n x2 x3 σ → ww D ids ad cA A σ s.heap H locs → lv_has ls 4 [(0, .ref (ad g 16 i0)), (1, .ref (ad g 6 0)), (2, vI x2), (3, vI x3)] → W p l e rmX6_rotate s m args below meth c H locs 0 0 (MQ below (QV D ids ad cA A P) args s 0 0 A) (F0 m 37 ls []) := by
  intro n
  induction n with
  | zero => intro x2 x3 σ H locs ls hq w hl; exact hq.elim
  | succ n ih =>
    intro x2 x3 σ H locs ls hq w hl
    unfold wlX6_rotate_37 at hq
    refine lv_iload_n X.x X.b dX6_rotate_37 rfl (lv_at hl 3 rfl) ?_
    refine lv_aload_n X.x X.b dX6_rotate_38 rfl (lv_at hl 0 rfl) ?_
    refine x_get X w (hg 16 i0 h0) rfl in_X6 rfl 2 (by decide) q167 rfl rfl dX6_rotate_39 ?_
    obtain ⟨o1, hq⟩ := hq
    obtain ⟨o2, hq⟩ := hq
    refine ra_icmp_ge (tgt := 67) X.x X.b o1 o2 dX6_rotate_42 (by decide) (fun c3 => ?_) (fun c3 => ?_)
    · have hq := hq.1 c3
      refine lv_aload_n X.x X.b dX6_rotate_67 rfl (lv_at hl 1 rfl) ?_
      refine ra_iconst X.x X.b dX6_rotate_68 ?_
      refine lv_aload_n X.x X.b dX6_rotate_69 rfl (lv_at hl 0 rfl) ?_
      refine x_get X w (hg 16 i0 h0) rfl in_X6 rfl 1 (by decide) q164 rfl rfl dX6_rotate_70 ?_
      refine ra_iconst X.x X.b dX6_rotate_73 ?_
      refine lv_aload_n X.x X.b dX6_rotate_74 rfl (lv_at hl 0 rfl) ?_
      refine x_get X w (hg 16 i0 h0) rfl in_X6 rfl 2 (by decide) q167 rfl rfl dX6_rotate_75 ?_
      obtain ⟨o4, hq⟩ := hq
      refine x_copy X w (hl.1.trans X.ml.symm) (hg 6 0 (by decide)) (hg 18 i0 h0) o4 dX6_rotate_78 (Nat.le_of_ble_eq_true rfl) (Nat.le_of_ble_eq_true rfl) (fun σ5 H locs eσ5 w => ?_)
      have hq := hq σ5 eσ5
      exact x_vret X hr w hq dX6_rotate_81
    · have hq := hq.2 c3
      refine lv_aload_n X.x X.b dX6_rotate_45 rfl (lv_at hl 1 rfl) ?_
      refine lv_iload_n X.x X.b dX6_rotate_46 rfl (lv_at hl 3 rfl) ?_
      refine lv_aload_n X.x X.b dX6_rotate_47 rfl (lv_at hl 0 rfl) ?_
      refine x_get X w (hg 16 i0 h0) rfl in_X6 rfl 1 (by decide) q164 rfl rfl dX6_rotate_48 ?_
      refine lv_iload_n X.x X.b dX6_rotate_51 rfl (lv_at hl 2 rfl) ?_
      refine lv_iload_n X.x X.b dX6_rotate_52 rfl (lv_at hl 3 rfl) ?_
      refine ra_iadd X.x X.b dX6_rotate_53 ?_
      refine lv_aload_n X.x X.b dX6_rotate_54 rfl (lv_at hl 0 rfl) ?_
      refine x_get X w (hg 16 i0 h0) rfl in_X6 rfl 2 (by decide) q167 rfl rfl dX6_rotate_55 ?_
      obtain ⟨o6, hq⟩ := hq
      obtain ⟨o7, hq⟩ := hq
      refine ra_irem X.x X.b o6 o2 o7 dX6_rotate_58 ?_
      obtain ⟨o8, hq⟩ := hq
      refine x_iald X w (hg 18 i0 h0) rfl (by decide) o8.1 o8.2 dX6_rotate_59 ?_
      obtain ⟨o9, hq⟩ := hq
      refine x_iast X w (hg 6 0 (by decide)) (fun _ => rfl) (by decide) o9.1 o9.2 dX6_rotate_60 (fun σ10 H locs eσ10 w => ?_)
      have hq := hq σ10 eσ10
      refine lv_iinc (v := Int32.ofInt (x3 + 1)) (lv' := [(3, vI (x3 + 1)), (0, .ref (ad g 16 i0)), (1, .ref (ad g 6 0)), (2, vI x2)]) X.x X.b dX6_rotate_61 hl (k := 3) rfl (Int32.ofInt_add _ _).symm (by decide) rfl (fun ls hl => ?_)
      refine lv_goto (tgt := 37) X.x X.b dX6_rotate_64 (by decide) ?_
      exact ih x2 (x3 + 1) σ10 _ _ _ hq w (lv_sub hl [1, 2, 3, 0] rfl)
set_option maxHeartbeats 4000000 in
set_option maxRecDepth 100000 in
theorem klX6_rotate_4 {l : Launch} {p : Program} {e : Env} {s : State} {m : MethodId} {args : Array Value} {below : List Frame} {meth : Method} {c : Code} {D : va_G} {ids : Ids} {ad : Lay} {cA : Nat → ClassId} {A : Nat → Prop} {g : Nat} {i0 : Nat} {P : Tab → Prop} (X : Cx p m c meth cX6_rotate 4 s args RX6 D cA A nwW) (hr : meth.sig.returnType = none) (hg : HasH ids g) (h0 : i0 < 44) :
    ∀ (n : Nat) (x2 : Int) (x3 : Int) (σ : Tab) (H : Heap) (locs : List Loc) (ls : Array Slot), wlX6_rotate_4 g i0 P n x2 x3 σ → ww D ids ad cA A σ s.heap H locs → lv_has ls 4 [(0, .ref (ad g 16 i0)), (1, .ref (ad g 6 0)), (2, vI x2), (3, vI x3)] → W p l e rmX6_rotate s m args below meth c H locs 0 0 (MQ below (QV D ids ad cA A P) args s 0 0 A) (F0 m 4 ls []) := by
  intro n
  induction n with
  | zero => intro x2 x3 σ H locs ls hq w hl; exact hq.elim
  | succ n ih =>
    intro x2 x3 σ H locs ls hq w hl
    unfold wlX6_rotate_4 at hq
    refine lv_iload_n X.x X.b dX6_rotate_4 rfl (lv_at hl 3 rfl) ?_
    refine lv_aload_n X.x X.b dX6_rotate_5 rfl (lv_at hl 0 rfl) ?_
    refine x_get X w (hg 16 i0 h0) rfl in_X6 rfl 2 (by decide) q167 rfl rfl dX6_rotate_6 ?_
    obtain ⟨o1, hq⟩ := hq
    obtain ⟨o2, hq⟩ := hq
    refine ra_icmp_ge (tgt := 35) X.x X.b o1 o2 dX6_rotate_9 (by decide) (fun c3 => ?_) (fun c3 => ?_)
    · have hq := hq.1 c3
      refine ra_iconst X.x X.b dX6_rotate_35 ?_
      refine lv_istore_n (lv' := [(3, vI 0), (0, .ref (ad g 16 i0)), (1, .ref (ad g 6 0)), (2, vI x2)]) X.x X.b dX6_rotate_36 rfl hl (by decide) rfl (fun ls hl => ?_)
      obtain ⟨n4, hq⟩ := hq
      exact klX6_rotate_37 X hr hg h0  n4 x2 0 σ _ _ _ hq w (lv_sub hl [1, 2, 3, 0] rfl)
    · have hq := hq.2 c3
      refine lv_aload_n X.x X.b dX6_rotate_12 rfl (lv_at hl 0 rfl) ?_
      refine x_get X w (hg 16 i0 h0) rfl in_X6 rfl 1 (by decide) q164 rfl rfl dX6_rotate_13 ?_
      refine lv_iload_n X.x X.b dX6_rotate_16 rfl (lv_at hl 3 rfl) ?_
      obtain ⟨o5, hq⟩ := hq
      refine x_iald X w (hg 18 i0 h0) rfl (by decide) o5.1 o5.2 dX6_rotate_17 ?_
      refine lv_aload_n X.x X.b dX6_rotate_18 rfl (lv_at hl 0 rfl) ?_
      refine x_get X w (hg 16 i0 h0) rfl in_X6 rfl 1 (by decide) q164 rfl rfl dX6_rotate_19 ?_
      refine lv_iload_n X.x X.b dX6_rotate_22 rfl (lv_at hl 2 rfl) ?_
      obtain ⟨o6, hq⟩ := hq
      refine x_iald X w (hg 18 i0 h0) rfl (by decide) o6.1 o6.2 dX6_rotate_23 ?_
      obtain ⟨o7, hq⟩ := hq
      obtain ⟨o8, hq⟩ := hq
      refine ra_icmp_ge (tgt := 29) X.x X.b o7 o8 dX6_rotate_24 (by decide) (fun c9 => ?_) (fun c9 => ?_)
      · have hq := hq.1 c9
        refine lv_iinc (v := Int32.ofInt (x3 + 1)) (lv' := [(3, vI (x3 + 1)), (0, .ref (ad g 16 i0)), (1, .ref (ad g 6 0)), (2, vI x2)]) X.x X.b dX6_rotate_29 hl (k := 3) rfl (Int32.ofInt_add _ _).symm (by decide) rfl (fun ls hl => ?_)
        refine lv_goto (tgt := 4) X.x X.b dX6_rotate_32 (by decide) ?_
        exact ih x2 (x3 + 1) σ _ _ _ hq w (lv_sub hl [1, 2, 3, 0] rfl)
      · have hq := hq.2 c9
        refine lv_iload_n X.x X.b dX6_rotate_27 rfl (lv_at hl 3 rfl) ?_
        refine lv_istore_n (lv' := [(2, vI x3), (0, .ref (ad g 16 i0)), (1, .ref (ad g 6 0)), (3, vI x3)]) X.x X.b dX6_rotate_28 rfl hl (by decide) rfl (fun ls hl => ?_)
        refine lv_iinc (v := Int32.ofInt (x3 + 1)) (lv' := [(3, vI (x3 + 1)), (2, vI x3), (0, .ref (ad g 16 i0)), (1, .ref (ad g 6 0))]) X.x X.b dX6_rotate_29 hl (k := 3) rfl (Int32.ofInt_add _ _).symm (by decide) rfl (fun ls hl => ?_)
        refine lv_goto (tgt := 4) X.x X.b dX6_rotate_32 (by decide) ?_
        exact ih x3 (x3 + 1) σ _ _ _ hq w (lv_sub hl [2, 3, 1, 0] rfl)
set_option maxHeartbeats 4000000 in
set_option maxRecDepth 100000 in
theorem mX6_rotate (l : Launch) (D : va_G) (ids : Ids) (ad : Lay) (cA : Nat → ClassId) (A : Nat → Prop) (g : Nat) (hg : HasH ids g) (i0 : Nat) (h0 : i0 < 44) (σ : Tab) (P : Tab → Prop) (hq : wpX6_rotate g i0 σ P) : Met l yX6_rotate (ws_ yX6_rotate cX6_rotate 4 (none)) rmX6_rotate (PcW D ids ad cA A σ [.ref (ad g 16 i0), .ref (ad g 6 0)]) (QV D ids ad cA A P) 0 0 A := by
  refine m_entry (own := RX6) (by decide) (Nat.le_of_ble_eq_true rfl) rfl ?_
  intro p e s m below meth c ls X hr w hl
  have hl : lv_has ls 4 [(0, .ref (ad g 16 i0)), (1, .ref (ad g 6 0))] := hl
  unfold wpX6_rotate at hq
  refine ra_iconst X.x X.b dX6_rotate_0 ?_
  refine lv_istore_n (lv' := [(2, vI 0), (0, .ref (ad g 16 i0)), (1, .ref (ad g 6 0))]) X.x X.b dX6_rotate_1 rfl hl (by decide) rfl (fun ls hl => ?_)
  refine ra_iconst X.x X.b dX6_rotate_2 ?_
  refine lv_istore_n (lv' := [(3, vI 1), (2, vI 0), (0, .ref (ad g 16 i0)), (1, .ref (ad g 6 0))]) X.x X.b dX6_rotate_3 rfl hl (by decide) rfl (fun ls hl => ?_)
  obtain ⟨n1, hq⟩ := hq
  exact klX6_rotate_4 X hr hg h0  n1 0 1 σ _ _ _ hq w (lv_sub hl [2, 3, 1, 0] rfl)
def wpX7_get (g : Nat) (i0 : Nat) (x1 : Int) (σ : Tab) (P : Int → Tab → Prop) : Prop := (inI x1 ∧ ((x1 ≠ 0 → ((x1 ≠ 1 → ((x1 ≠ 2 → P (σ g 19 i0 3) σ) ∧ (¬ (x1 ≠ 2) → P (σ g 19 i0 2) σ))) ∧ (¬ (x1 ≠ 1) → P (σ g 19 i0 1) σ))) ∧ (¬ (x1 ≠ 0) → P (σ g 19 i0 0) σ)))
abbrev rmX7_get : Room := { frames := 0, cells := 0, slots := 0, locals := 0 }
set_option maxHeartbeats 4000000 in
set_option maxRecDepth 100000 in
theorem mX7_get (l : Launch) (D : va_G) (ids : Ids) (ad : Lay) (cA : Nat → ClassId) (A : Nat → Prop) (g : Nat) (hg : HasH ids g) (i0 : Nat) (h0 : i0 < 66) (x1 : Int) (σ : Tab) (P : Int → Tab → Prop) (hq : wpX7_get g i0 x1 σ P) : Met l yX7_get (ws_ yX7_get cX7_get 2 (some .int)) rmX7_get (PcW D ids ad cA A σ [.ref (ad g 19 i0), vI x1]) (QI D ids ad cA A P) 0 0 A := by
  refine m_entry (own := RX7) (by decide) (Nat.le_of_ble_eq_true rfl) rfl ?_
  intro p e s m below meth c ls X hr w hl
  have hl : lv_has ls 2 [(0, .ref (ad g 19 i0)), (1, vI x1)] := hl
  unfold wpX7_get at hq
  refine lv_iload_n X.x X.b dX7_get_0 rfl (lv_at hl 1 rfl) ?_
  obtain ⟨o1, hq⟩ := hq
  refine ra_if_ne (tgt := 11) X.x X.b o1 dX7_get_1 (by decide) (fun c2 => ?_) (fun c2 => ?_)
  · have hq := hq.1 c2
    refine lv_iload_n X.x X.b dX7_get_11 rfl (lv_at hl 1 rfl) ?_
    refine ra_iconst X.x X.b dX7_get_12 ?_
    refine ra_icmp_ne (tgt := 23) X.x X.b o1 ⟨by decide, by decide⟩ dX7_get_13 (by decide) (fun c3 => ?_) (fun c3 => ?_)
    · have hq := hq.1 c3
      refine lv_iload_n X.x X.b dX7_get_23 rfl (lv_at hl 1 rfl) ?_
      refine ra_iconst X.x X.b dX7_get_24 ?_
      refine ra_icmp_ne (tgt := 35) X.x X.b o1 ⟨by decide, by decide⟩ dX7_get_25 (by decide) (fun c4 => ?_) (fun c4 => ?_)
      · have hq := hq.1 c4
        refine lv_aload_n X.x X.b dX7_get_35 rfl (lv_at hl 0 rfl) ?_
        refine x_get X w (hg 19 i0 h0) rfl in_X7 rfl 3 (by decide) q188 rfl rfl dX7_get_36 ?_
        exact x_iret X hr w hq dX7_get_39
      · have hq := hq.2 c4
        refine lv_aload_n X.x X.b dX7_get_28 rfl (lv_at hl 0 rfl) ?_
        refine x_get X w (hg 19 i0 h0) rfl in_X7 rfl 2 (by decide) q186 rfl rfl dX7_get_29 ?_
        refine lv_goto (tgt := 39) X.x X.b dX7_get_32 (by decide) ?_
        exact x_iret X hr w hq dX7_get_39
    · have hq := hq.2 c3
      refine lv_aload_n X.x X.b dX7_get_16 rfl (lv_at hl 0 rfl) ?_
      refine x_get X w (hg 19 i0 h0) rfl in_X7 rfl 1 (by decide) q184 rfl rfl dX7_get_17 ?_
      refine lv_goto (tgt := 39) X.x X.b dX7_get_20 (by decide) ?_
      exact x_iret X hr w hq dX7_get_39
  · have hq := hq.2 c2
    refine lv_aload_n X.x X.b dX7_get_4 rfl (lv_at hl 0 rfl) ?_
    refine x_get X w (hg 19 i0 h0) rfl in_X7 rfl 0 (by decide) q182 rfl rfl dX7_get_5 ?_
    refine lv_goto (tgt := 39) X.x X.b dX7_get_8 (by decide) ?_
    exact x_iret X hr w hq dX7_get_39
end
