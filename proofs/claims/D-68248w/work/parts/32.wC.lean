/-! the walk of X2_add X2_unite X2_order (written by wip/D-68248w/tools/genwalk.py) -/
section
def wlX2_add_297 (g : Nat) (P : Tab → Prop) : Nat → Int → Int → Int → Tab → Prop
  | 0, _, _, _, _ => False
  | n + 1, x1, x3, x4, σ => (inI x4 ∧ (inI x3 ∧ ((x3 ≤ x4 → P σ) ∧ (¬ (x3 ≤ x4) → ((0 ≤ x4 ∧ x4 < 24) ∧ ((0 ≤ σ g 6 0 x4.toNat ∧ σ g 6 0 x4.toNat < 24) ∧ wpX2_triangle g (σ g 6 0 x4.toNat) (σ g 5 0 ((σ g 6 0 x4.toNat).toNat)) x1 σ (fun σ6 => wlX2_add_297 g P n x1 x3 (x4 + 1) σ6)))))))
def wlX2_add_277 (g : Nat) (P : Tab → Prop) (K244 : Int → Int → Int → Tab → Prop) (x1 : Int) (x3 : Int) (x4 : Int) (σ : Tab) : Prop := ((0 ≤ x4 ∧ x4 < 128) ∧ (∀ σ2 : Tab, σ2 = st σ g 14 x4.toNat 5 0 → K244 x1 x3 (x4 + 1) σ2))
def wlX2_add_244 (g : Nat) (P : Tab → Prop) : Nat → Int → Int → Int → Tab → Prop
  | 0, _, _, _, _ => False
  | n + 1, x1, x3, x4, σ => (inI x4 ∧ (inI (σ g 0 0 12) ∧ ((σ g 0 0 12 ≤ x4 → (∃ k : Nat, wlX2_add_297 g P k x1 x3 0 σ)) ∧ (¬ (σ g 0 0 12 ≤ x4) → ((0 ≤ x4 ∧ x4 < 128) ∧ (inI (σ g 14 x4.toNat 5) ∧ ((σ g 14 x4.toNat 5 = 0 → wlX2_add_277 g P (fun x1 x3 x4 τ => wlX2_add_244 g P n x1 x3 x4 τ) x1 x3 x4 σ) ∧ (¬ (σ g 14 x4.toNat 5 = 0) → (∀ σ8 : Tab, σ8 = st σ g 14 x4.toNat 4 0 → wlX2_add_277 g P (fun x1 x3 x4 τ => wlX2_add_244 g P n x1 x3 x4 τ) x1 x3 x4 σ8)))))))))
def wlX2_add_147 (g : Nat) (P : Tab → Prop) (K126 : Int → Int → Int → Tab → Prop) : Nat → Int → Int → Int → Nat → Int → Tab → Prop
  | 0, _, _, _, _, _, _ => False
  | n + 1, x1, x3, x4, i5, x6, σ => (inI x6 ∧ ((3 ≤ x6 → K126 x1 x3 (x4 + 1) σ) ∧ (¬ (3 ≤ x6) → (inI (σ g 14 i5 4) ∧ ((σ g 14 i5 4 = 0 → K126 x1 x3 (x4 + 1) σ) ∧ (¬ (σ g 14 i5 4 = 0) → (inI (σ g 14 i5 5) ∧ ((σ g 14 i5 5 = 0 → K126 x1 x3 (x4 + 1) σ) ∧ (¬ (σ g 14 i5 5 = 0) → wpX5_get g i5 (x6 + 1) σ (fun z7 σ7 => wpX5_get g i5 x6 σ7 (fun z8 σ8 => wpX2_stays g z7 z8 σ8 (fun z9 σ9 => (inI z9 ∧ ((z9 = 0 → wlX2_add_147 g P K126 n x1 x3 x4 i5 (x6 + 1) σ9) ∧ (¬ (z9 = 0) → wpX5_get g i5 x6 σ9 (fun z12 σ12 => wpX5_get g i5 (x6 + 1) σ12 (fun z13 σ13 => ((0 ≤ z12 ∧ z12 < 24) ∧ (∀ σ15 : Tab, σ15 = st σ13 g 5 0 z12.toNat z13 → wpX5_get g i5 x6 σ15 (fun z16 σ16 => ((0 ≤ x3 ∧ x3 < 24) ∧ (∀ σ18 : Tab, σ18 = st σ16 g 6 0 x3.toNat z16 → wlX2_add_147 g P K126 n x1 (x3 + 1) x4 i5 (x6 + 1) σ18))))))))))))))))))))))
def wlX2_add_126 (g : Nat) (P : Tab → Prop) : Nat → Int → Int → Int → Tab → Prop
  | 0, _, _, _, _ => False
  | n + 1, x1, x3, x4, σ => (inI x4 ∧ (inI (σ g 0 0 12) ∧ ((σ g 0 0 12 ≤ x4 → (∃ k : Nat, wlX2_add_244 g P k x1 x3 0 σ)) ∧ (¬ (σ g 0 0 12 ≤ x4) → ((0 ≤ x4 ∧ x4 < 128) ∧ (∃ k : Nat, wlX2_add_147 g P (fun x1 x3 x4 τ => wlX2_add_126 g P n x1 x3 x4 τ) k x1 x3 x4 x4.toNat 0 σ))))))
def wlX2_add_96 (g : Nat) (P : Tab → Prop) : Nat → Int → Tab → Prop
  | 0, _, _ => False
  | n + 1, x3, σ => (inI x3 ∧ (inI (σ g 0 0 12) ∧ ((σ g 0 0 12 ≤ x3 → P σ) ∧ (¬ (σ g 0 0 12 ≤ x3) → ((0 ≤ x3 ∧ x3 < 128) ∧ (∀ σ5 : Tab, σ5 = st σ g 14 x3.toNat 5 0 → wlX2_add_96 g P n (x3 + 1) σ5))))))
def wlX2_add_64 (g : Nat) (P : Tab → Prop) (K4 : Int → Int → Int → Tab → Prop) (x1 : Int) (x2 : Int) (x3 : Int) (x5 : Int) (j0 : Nat) (y1 : Int) (σ : Tab) : Prop := ((y1 = 0 ∨ y1 = 1) ∧ (∀ σ2 : Tab, σ2 = st σ g 14 j0 5 y1 → (inI x2 ∧ ((x2 ≠ 0 → K4 x1 1 (x3 + 1) σ2) ∧ (¬ (x2 ≠ 0) → (inL x5 ∧ ((x5 ≤ 0 → K4 x1 0 (x3 + 1) σ2) ∧ (¬ (x5 ≤ 0) → K4 x1 1 (x3 + 1) σ2))))))))
def wlX2_add_48 (g : Nat) (P : Tab → Prop) (K4 : Int → Int → Int → Tab → Prop) (x1 : Int) (x2 : Int) (x3 : Int) (i4 : Nat) (y0 : Int) (σ : Tab) : Prop := (inL y0 ∧ ((y0 < 0 → wlX2_add_64 g P K4 x1 x2 x3 y0 i4 0 σ) ∧ (¬ (y0 < 0) → wlX2_add_64 g P K4 x1 x2 x3 y0 i4 1 σ)))
def wlX2_add_4 (g : Nat) (P : Tab → Prop) : Nat → Int → Int → Int → Tab → Prop
  | 0, _, _, _, _ => False
  | n + 1, x1, x2, x3, σ => (inI x3 ∧ (inI (σ g 0 0 12) ∧ ((σ g 0 0 12 ≤ x3 → (inI x2 ∧ ((x2 ≠ 0 → (∃ k : Nat, wlX2_add_126 g P k x1 0 0 σ)) ∧ (¬ (x2 ≠ 0) → (∃ k : Nat, wlX2_add_96 g P k 0 σ))))) ∧ (¬ (σ g 0 0 12 ≤ x3) → ((0 ≤ x3 ∧ x3 < 128) ∧ (inI (σ g 14 x3.toNat 4) ∧ ((σ g 14 x3.toNat 4 = 0 → wlX2_add_48 g P (fun x1 x2 x3 τ => wlX2_add_4 g P n x1 x2 x3 τ) x1 x2 x3 x3.toNat (-1) σ) ∧ (¬ (σ g 14 x3.toNat 4 = 0) → ((0 ≤ x1 ∧ x1 < 24) ∧ wpX3_above g 15 x3.toNat g 13 x1.toNat σ (fun z12 σ12 => wlX2_add_48 g P (fun x1 x2 x3 τ => wlX2_add_4 g P n x1 x2 x3 τ) x1 x2 x3 x3.toNat z12 σ12))))))))))
def wpX2_add (g : Nat) (x1 : Int) (σ : Tab) (P : Tab → Prop) : Prop := (∃ k : Nat, wlX2_add_4 g P k x1 0 0 σ)
abbrev rmX2_add : Room := { frames := 3, cells := 0, slots := 0, locals := 91 }
set_option maxHeartbeats 4000000 in
set_option maxRecDepth 100000 in
theorem klX2_add_297 {l : Launch} {p : Program} {e : Env} {s : State} {m : MethodId} {args : Array Value} {below : List Frame} {meth : Method} {c : Code} {D : va_G} {ids : Ids} {ad : Lay} {cA : Nat → ClassId} {A : Nat → Prop} {g : Nat} {P : Tab → Prop} (X : Cx p m c meth cX2_add 7 s args RX2 D cA A nwW) (hr : meth.sig.returnType = none) (hg : HasH ids g) :
    ∀ (n : Nat) (x1 : Int) (x3 : Int) (x4 : Int) (σ : Tab) (H : Heap) (locs : List Loc) (ls : Array Slot), wlX2_add_297 g P n x1 x3 x4 σ → ww D ids ad cA A σ s.heap H locs → lv_has ls 7 [(0, .ref (ad g 0 0)), (1, vI x1), (3, vI x3), (4, vI x4)] → W p l e rmX2_add s m args below meth c H locs 0 0 (MQ below (QV D ids ad cA A P) args s 0 0 A) (F0 m 297 ls []) := by
  intro n
  induction n with
  | zero => intro x1 x3 x4 σ H locs ls hq w hl; exact hq.elim
  | succ n ih =>
    intro x1 x3 x4 σ H locs ls hq w hl
    unfold wlX2_add_297 at hq
    refine lv_iload X.x X.b dX2_add_297 (lv_at hl 3 rfl) ?_
    refine lv_iload_n X.x X.b dX2_add_299 rfl (lv_at hl 2 rfl) ?_
    obtain ⟨o1, hq⟩ := hq
    obtain ⟨o2, hq⟩ := hq
    refine ra_icmp_ge (tgt := 333) X.x X.b o1 o2 dX2_add_300 (by decide) (fun c3 => ?_) (fun c3 => ?_)
    · have hq := hq.1 c3
      exact x_vret X hr w hq dX2_add_333
    · have hq := hq.2 c3
      refine lv_aload_n X.x X.b dX2_add_303 rfl (lv_at hl 0 rfl) ?_
      refine lv_aload_n X.x X.b dX2_add_304 rfl (lv_at hl 0 rfl) ?_
      refine x_get X w (hg 0 0 (by decide)) rfl in_X2 rfl 5 (by decide) q206 rfl rfl dX2_add_305 ?_
      refine lv_iload X.x X.b dX2_add_308 (lv_at hl 3 rfl) ?_
      obtain ⟨o4, hq⟩ := hq
      refine x_iald X w (hg 6 0 (by decide)) rfl (by decide) o4.1 o4.2 dX2_add_310 ?_
      refine lv_aload_n X.x X.b dX2_add_311 rfl (lv_at hl 0 rfl) ?_
      refine x_get X w (hg 0 0 (by decide)) rfl in_X2 rfl 4 (by decide) q205 rfl rfl dX2_add_312 ?_
      refine lv_aload_n X.x X.b dX2_add_315 rfl (lv_at hl 0 rfl) ?_
      refine x_get X w (hg 0 0 (by decide)) rfl in_X2 rfl 5 (by decide) q206 rfl rfl dX2_add_316 ?_
      refine lv_iload X.x X.b dX2_add_319 (lv_at hl 3 rfl) ?_
      refine x_iald X w (hg 6 0 (by decide)) rfl (by decide) o4.1 o4.2 dX2_add_321 ?_
      obtain ⟨o5, hq⟩ := hq
      refine x_iald X w (hg 5 0 (by decide)) rfl (by decide) o5.1 o5.2 dX2_add_322 ?_
      refine lv_iload_n X.x X.b dX2_add_323 rfl (lv_at hl 1 rfl) ?_
      refine x_callVv (n := 3) (As := [vI (σ g 6 0 x4.toNat), vI (σ g 5 0 ((σ g 6 0 x4.toNat).toNat)), vI x1]) (rest := []) X w (hg 0 0 (by decide)) rfl rfl (mX2_triangle l D ids ad cA A g hg (σ g 6 0 x4.toNat) (σ g 5 0 ((σ g 6 0 x4.toNat).toNat)) x1 σ _ hq) (lw_V q467 q469 qs3 q37 q470) ⟨rfl, rfl⟩ (by decide +kernel) ⟨Nat.le_of_ble_eq_true rfl, Nat.le_of_ble_eq_true rfl⟩ ⟨Nat.le_refl _, Nat.le_refl _⟩ rfl hl.1 rfl (Nat.le_of_ble_eq_true rfl) dX2_add_324 (fun σ6 H locs hq w => ?_)
      refine lv_iinc (v := Int32.ofInt (x4 + 1)) (lv' := [(4, vI (x4 + 1)), (0, .ref (ad g 0 0)), (1, vI x1), (3, vI x3)]) X.x X.b dX2_add_327 hl (k := 3) rfl (Int32.ofInt_add _ _).symm (by decide) rfl (fun ls hl => ?_)
      refine lv_goto (tgt := 297) X.x X.b dX2_add_330 (by decide) ?_
      exact ih x1 x3 (x4 + 1) σ6 _ _ _ hq w (lv_sub hl [1, 2, 3, 0] rfl)
set_option maxHeartbeats 4000000 in
set_option maxRecDepth 100000 in
theorem klX2_add_277 {l : Launch} {p : Program} {e : Env} {s : State} {m : MethodId} {args : Array Value} {below : List Frame} {meth : Method} {c : Code} {D : va_G} {ids : Ids} {ad : Lay} {cA : Nat → ClassId} {A : Nat → Prop} {g : Nat} {P : Tab → Prop} {K244 : Int → Int → Int → Tab → Prop} (X : Cx p m c meth cX2_add 7 s args RX2 D cA A nwW) (hr : meth.sig.returnType = none) (hg : HasH ids g) (kk244 : ∀ (x1 : Int) (x3 : Int) (x4 : Int) (σ : Tab) (H : Heap) (locs : List Loc) (ls : Array Slot), K244 x1 x3 x4 σ → ww D ids ad cA A σ s.heap H locs → lv_has ls 7 [(0, .ref (ad g 0 0)), (1, vI x1), (3, vI x3), (4, vI x4)] → W p l e rmX2_add s m args below meth c H locs 0 0 (MQ below (QV D ids ad cA A P) args s 0 0 A) (F0 m 244 ls [])) :
    ∀ (x1 : Int) (x3 : Int) (x4 : Int) (σ : Tab) (H : Heap) (locs : List Loc) (ls : Array Slot), wlX2_add_277 g P K244 x1 x3 x4 σ → ww D ids ad cA A σ s.heap H locs → lv_has ls 7 [(0, .ref (ad g 0 0)), (1, vI x1), (3, vI x3), (4, vI x4)] → W p l e rmX2_add s m args below meth c H locs 0 0 (MQ below (QV D ids ad cA A P) args s 0 0 A) (F0 m 277 ls []) := by
  intro x1 x3 x4 σ H locs ls hq w hl
  unfold wlX2_add_277 at hq
  refine lv_aload_n X.x X.b dX2_add_277 rfl (lv_at hl 0 rfl) ?_
  refine x_get X w (hg 0 0 (by decide)) rfl in_X2 rfl 1 (by decide) q200 rfl rfl dX2_add_278 ?_
  refine lv_iload X.x X.b dX2_add_281 (lv_at hl 3 rfl) ?_
  obtain ⟨o1, hq⟩ := hq
  refine x_aald X w (hg 2 0 (by decide)) (.object RX5) rfl rfl rfl (by decide) o1.1 o1.2 rfl dX2_add_283 ?_
  refine ra_iconst X.x X.b dX2_add_284 ?_
  refine x_put (z := 0) X w (hg 14 x4.toNat (tn o1)) rfl in_X5 tyX5 tyX5_ok nmX5 rfl 5 (by decide) q140 rfl rfl (by decide) (by decide) (Nat.le_of_ble_eq_true rfl) rfl dX2_add_285 (fun σ2 H locs eσ2 w => ?_)
  have hq := hq σ2 eσ2
  refine lv_iinc (v := Int32.ofInt (x4 + 1)) (lv' := [(4, vI (x4 + 1)), (0, .ref (ad g 0 0)), (1, vI x1), (3, vI x3)]) X.x X.b dX2_add_288 hl (k := 3) rfl (Int32.ofInt_add _ _).symm (by decide) rfl (fun ls hl => ?_)
  refine lv_goto (tgt := 244) X.x X.b dX2_add_291 (by decide) ?_
  exact kk244 x1 x3 (x4 + 1) σ2 _ _ _ hq w (lv_sub hl [1, 2, 3, 0] rfl)
set_option maxHeartbeats 4000000 in
set_option maxRecDepth 100000 in
theorem klX2_add_244 {l : Launch} {p : Program} {e : Env} {s : State} {m : MethodId} {args : Array Value} {below : List Frame} {meth : Method} {c : Code} {D : va_G} {ids : Ids} {ad : Lay} {cA : Nat → ClassId} {A : Nat → Prop} {g : Nat} {P : Tab → Prop} (X : Cx p m c meth cX2_add 7 s args RX2 D cA A nwW) (hr : meth.sig.returnType = none) (hg : HasH ids g) :
    ∀ (n : Nat) (x1 : Int) (x3 : Int) (x4 : Int) (σ : Tab) (H : Heap) (locs : List Loc) (ls : Array Slot), wlX2_add_244 g P n x1 x3 x4 σ → ww D ids ad cA A σ s.heap H locs → lv_has ls 7 [(0, .ref (ad g 0 0)), (1, vI x1), (3, vI x3), (4, vI x4)] → W p l e rmX2_add s m args below meth c H locs 0 0 (MQ below (QV D ids ad cA A P) args s 0 0 A) (F0 m 244 ls []) := by
  intro n
  induction n with
  | zero => intro x1 x3 x4 σ H locs ls hq w hl; exact hq.elim
  | succ n ih =>
    intro x1 x3 x4 σ H locs ls hq w hl
    unfold wlX2_add_244 at hq
    refine lv_iload X.x X.b dX2_add_244 (lv_at hl 3 rfl) ?_
    refine lv_aload_n X.x X.b dX2_add_246 rfl (lv_at hl 0 rfl) ?_
    refine x_get X w (hg 0 0 (by decide)) rfl in_X2 rfl 12 (by decide) q215 rfl rfl dX2_add_247 ?_
    obtain ⟨o1, hq⟩ := hq
    obtain ⟨o2, hq⟩ := hq
    refine ra_icmp_ge (tgt := 294) X.x X.b o1 o2 dX2_add_250 (by decide) (fun c3 => ?_) (fun c3 => ?_)
    · have hq := hq.1 c3
      refine ra_iconst X.x X.b dX2_add_294 ?_
      refine lv_istore (lv' := [(4, vI 0), (0, .ref (ad g 0 0)), (1, vI x1), (3, vI x3)]) X.x X.b dX2_add_295 hl (by decide) rfl (fun ls hl => ?_)
      obtain ⟨n4, hq⟩ := hq
      exact klX2_add_297 X hr hg  n4 x1 x3 0 σ _ _ _ hq w (lv_sub hl [1, 2, 3, 0] rfl)
    · have hq := hq.2 c3
      refine lv_aload_n X.x X.b dX2_add_253 rfl (lv_at hl 0 rfl) ?_
      refine x_get X w (hg 0 0 (by decide)) rfl in_X2 rfl 1 (by decide) q200 rfl rfl dX2_add_254 ?_
      refine lv_iload X.x X.b dX2_add_257 (lv_at hl 3 rfl) ?_
      obtain ⟨o5, hq⟩ := hq
      refine x_aald X w (hg 2 0 (by decide)) (.object RX5) rfl rfl rfl (by decide) o5.1 o5.2 rfl dX2_add_259 ?_
      refine x_get X w (hg 14 x4.toNat (tn o5)) rfl in_X5 rfl 5 (by decide) q140 rfl rfl dX2_add_260 ?_
      obtain ⟨o6, hq⟩ := hq
      refine ra_if_eq (tgt := 277) X.x X.b o6 dX2_add_263 (by decide) (fun c7 => ?_) (fun c7 => ?_)
      · have hq := hq.1 c7
        exact klX2_add_277 X hr hg (fun a0 a1 a2 τ H L ls q w h => ih a0 a1 a2 τ H L ls q w h) x1 x3 x4 σ _ _ _ hq w (lv_sub hl [0, 1, 2, 3] rfl)
      · have hq := hq.2 c7
        refine lv_aload_n X.x X.b dX2_add_266 rfl (lv_at hl 0 rfl) ?_
        refine x_get X w (hg 0 0 (by decide)) rfl in_X2 rfl 1 (by decide) q200 rfl rfl dX2_add_267 ?_
        refine lv_iload X.x X.b dX2_add_270 (lv_at hl 3 rfl) ?_
        refine x_aald X w (hg 2 0 (by decide)) (.object RX5) rfl rfl rfl (by decide) o5.1 o5.2 rfl dX2_add_272 ?_
        refine ra_iconst X.x X.b dX2_add_273 ?_
        refine x_put (z := 0) X w (hg 14 x4.toNat (tn o5)) rfl in_X5 tyX5 tyX5_ok nmX5 rfl 4 (by decide) q139 rfl rfl (by decide) (by decide) (Nat.le_of_ble_eq_true rfl) rfl dX2_add_274 (fun σ8 H locs eσ8 w => ?_)
        have hq := hq σ8 eσ8
        exact klX2_add_277 X hr hg (fun a0 a1 a2 τ H L ls q w h => ih a0 a1 a2 τ H L ls q w h) x1 x3 x4 σ8 _ _ _ hq w (lv_sub hl [0, 1, 2, 3] rfl)
set_option maxHeartbeats 4000000 in
set_option maxRecDepth 100000 in
theorem klX2_add_147 {l : Launch} {p : Program} {e : Env} {s : State} {m : MethodId} {args : Array Value} {below : List Frame} {meth : Method} {c : Code} {D : va_G} {ids : Ids} {ad : Lay} {cA : Nat → ClassId} {A : Nat → Prop} {g : Nat} {P : Tab → Prop} {K126 : Int → Int → Int → Tab → Prop} (X : Cx p m c meth cX2_add 7 s args RX2 D cA A nwW) (hr : meth.sig.returnType = none) (hg : HasH ids g) (kk126 : ∀ (x1 : Int) (x3 : Int) (x4 : Int) (σ : Tab) (H : Heap) (locs : List Loc) (ls : Array Slot), K126 x1 x3 x4 σ → ww D ids ad cA A σ s.heap H locs → lv_has ls 7 [(0, .ref (ad g 0 0)), (1, vI x1), (3, vI x3), (4, vI x4)] → W p l e rmX2_add s m args below meth c H locs 0 0 (MQ below (QV D ids ad cA A P) args s 0 0 A) (F0 m 126 ls [])) :
    ∀ (n : Nat) (x1 : Int) (x3 : Int) (x4 : Int) (i5 : Nat) (x6 : Int) (σ : Tab) (H : Heap) (locs : List Loc) (ls : Array Slot), i5 < 128 → wlX2_add_147 g P K126 n x1 x3 x4 i5 x6 σ → ww D ids ad cA A σ s.heap H locs → lv_has ls 7 [(0, .ref (ad g 0 0)), (1, vI x1), (3, vI x3), (4, vI x4), (5, .ref (ad g 14 i5)), (6, vI x6)] → W p l e rmX2_add s m args below meth c H locs 0 0 (MQ below (QV D ids ad cA A P) args s 0 0 A) (F0 m 147 ls []) := by
  intro n
  induction n with
  | zero => intro x1 x3 x4 i5 x6 σ H locs ls m5 hq w hl; exact hq.elim
  | succ n ih =>
    intro x1 x3 x4 i5 x6 σ H locs ls m5 hq w hl
    unfold wlX2_add_147 at hq
    refine lv_iload X.x X.b dX2_add_147 (lv_at hl 5 rfl) ?_
    refine ra_iconst X.x X.b dX2_add_149 ?_
    obtain ⟨o1, hq⟩ := hq
    refine ra_icmp_ge (tgt := 235) X.x X.b o1 ⟨by decide, by decide⟩ dX2_add_150 (by decide) (fun c2 => ?_) (fun c2 => ?_)
    · have hq := hq.1 c2
      refine lv_iinc (v := Int32.ofInt (x4 + 1)) (lv' := [(4, vI (x4 + 1)), (0, .ref (ad g 0 0)), (1, vI x1), (3, vI x3), (5, .ref (ad g 14 i5)), (6, vI x6)]) X.x X.b dX2_add_235 hl (k := 3) rfl (Int32.ofInt_add _ _).symm (by decide) rfl (fun ls hl => ?_)
      refine lv_goto (tgt := 126) X.x X.b dX2_add_238 (by decide) ?_
      exact kk126 x1 x3 (x4 + 1) σ _ _ _ hq w (lv_sub hl [1, 2, 3, 0] rfl)
    · have hq := hq.2 c2
      refine lv_aload X.x X.b dX2_add_153 (lv_at hl 4 rfl) ?_
      refine x_get X w (hg 14 i5 m5) rfl in_X5 rfl 4 (by decide) q139 rfl rfl dX2_add_155 ?_
      obtain ⟨o3, hq⟩ := hq
      refine ra_if_eq (tgt := 235) X.x X.b o3 dX2_add_158 (by decide) (fun c4 => ?_) (fun c4 => ?_)
      · have hq := hq.1 c4
        refine lv_iinc (v := Int32.ofInt (x4 + 1)) (lv' := [(4, vI (x4 + 1)), (0, .ref (ad g 0 0)), (1, vI x1), (3, vI x3), (5, .ref (ad g 14 i5)), (6, vI x6)]) X.x X.b dX2_add_235 hl (k := 3) rfl (Int32.ofInt_add _ _).symm (by decide) rfl (fun ls hl => ?_)
        refine lv_goto (tgt := 126) X.x X.b dX2_add_238 (by decide) ?_
        exact kk126 x1 x3 (x4 + 1) σ _ _ _ hq w (lv_sub hl [1, 2, 3, 0] rfl)
      · have hq := hq.2 c4
        refine lv_aload X.x X.b dX2_add_161 (lv_at hl 4 rfl) ?_
        refine x_get X w (hg 14 i5 m5) rfl in_X5 rfl 5 (by decide) q140 rfl rfl dX2_add_163 ?_
        obtain ⟨o5, hq⟩ := hq
        refine ra_if_eq (tgt := 235) X.x X.b o5 dX2_add_166 (by decide) (fun c6 => ?_) (fun c6 => ?_)
        · have hq := hq.1 c6
          refine lv_iinc (v := Int32.ofInt (x4 + 1)) (lv' := [(4, vI (x4 + 1)), (0, .ref (ad g 0 0)), (1, vI x1), (3, vI x3), (5, .ref (ad g 14 i5)), (6, vI x6)]) X.x X.b dX2_add_235 hl (k := 3) rfl (Int32.ofInt_add _ _).symm (by decide) rfl (fun ls hl => ?_)
          refine lv_goto (tgt := 126) X.x X.b dX2_add_238 (by decide) ?_
          exact kk126 x1 x3 (x4 + 1) σ _ _ _ hq w (lv_sub hl [1, 2, 3, 0] rfl)
        · have hq := hq.2 c6
          refine lv_aload_n X.x X.b dX2_add_169 rfl (lv_at hl 0 rfl) ?_
          refine lv_aload X.x X.b dX2_add_170 (lv_at hl 4 rfl) ?_
          refine lv_iload X.x X.b dX2_add_172 (lv_at hl 5 rfl) ?_
          refine ra_iconst X.x X.b dX2_add_174 ?_
          refine ra_iadd X.x X.b dX2_add_175 ?_
          refine x_callVi (n := 1) (As := [vI (x6 + 1)]) (rest := [.ref (ad g 0 0)]) X w (hg 14 i5 m5) rfl rfl (mX5_get l D ids ad cA A g hg i5 m5 (x6 + 1) σ _ hq) (lw_V q476 q477 q478 q40 q479) ⟨rfl, rfl⟩ (by decide +kernel) ⟨Nat.le_of_ble_eq_true rfl, Nat.le_of_ble_eq_true rfl⟩ ⟨Nat.le_refl _, Nat.le_refl _⟩ rfl hl.1 rfl (Nat.le_of_ble_eq_true rfl) dX2_add_176 (fun z7 σ7 H locs hq w => ?_)
          refine lv_aload X.x X.b dX2_add_179 (lv_at hl 4 rfl) ?_
          refine lv_iload X.x X.b dX2_add_181 (lv_at hl 5 rfl) ?_
          refine x_callVi (n := 1) (As := [vI x6]) (rest := [vI z7, .ref (ad g 0 0)]) X w (hg 14 i5 m5) rfl rfl (mX5_get l D ids ad cA A g hg i5 m5 x6 σ7 _ hq) (lw_V q476 q477 q478 q40 q479) ⟨rfl, rfl⟩ (by decide +kernel) ⟨Nat.le_of_ble_eq_true rfl, Nat.le_of_ble_eq_true rfl⟩ ⟨Nat.le_refl _, Nat.le_refl _⟩ rfl hl.1 rfl (Nat.le_of_ble_eq_true rfl) dX2_add_183 (fun z8 σ8 H locs hq w => ?_)
          refine x_callVi (n := 2) (As := [vI z7, vI z8]) (rest := []) X w (hg 0 0 (by decide)) rfl rfl (mX2_stays l D ids ad cA A g hg z7 z8 σ8 _ hq) (lw_V q480 q482 qs5 q37 q483) ⟨rfl, rfl⟩ (by decide +kernel) ⟨Nat.le_of_ble_eq_true rfl, Nat.le_of_ble_eq_true rfl⟩ ⟨Nat.le_refl _, Nat.le_refl _⟩ rfl hl.1 rfl (Nat.le_of_ble_eq_true rfl) dX2_add_186 (fun z9 σ9 H locs hq w => ?_)
          obtain ⟨o10, hq⟩ := hq
          refine ra_if_eq (tgt := 229) X.x X.b o10 dX2_add_189 (by decide) (fun c11 => ?_) (fun c11 => ?_)
          · have hq := hq.1 c11
            refine lv_iinc (v := Int32.ofInt (x6 + 1)) (lv' := [(6, vI (x6 + 1)), (0, .ref (ad g 0 0)), (1, vI x1), (3, vI x3), (4, vI x4), (5, .ref (ad g 14 i5))]) X.x X.b dX2_add_229 hl (k := 5) rfl (Int32.ofInt_add _ _).symm (by decide) rfl (fun ls hl => ?_)
            refine lv_goto (tgt := 147) X.x X.b dX2_add_232 (by decide) ?_
            exact ih x1 x3 x4 i5 (x6 + 1) σ9 _ _ _ m5 hq w (lv_sub hl [1, 2, 3, 4, 5, 0] rfl)
          · have hq := hq.2 c11
            refine lv_aload_n X.x X.b dX2_add_192 rfl (lv_at hl 0 rfl) ?_
            refine x_get X w (hg 0 0 (by decide)) rfl in_X2 rfl 4 (by decide) q205 rfl rfl dX2_add_193 ?_
            refine lv_aload X.x X.b dX2_add_196 (lv_at hl 4 rfl) ?_
            refine lv_iload X.x X.b dX2_add_198 (lv_at hl 5 rfl) ?_
            refine x_callVi (n := 1) (As := [vI x6]) (rest := [.ref (ad g 5 0)]) X w (hg 14 i5 m5) rfl rfl (mX5_get l D ids ad cA A g hg i5 m5 x6 σ9 _ hq) (lw_V q476 q477 q478 q40 q479) ⟨rfl, rfl⟩ (by decide +kernel) ⟨Nat.le_of_ble_eq_true rfl, Nat.le_of_ble_eq_true rfl⟩ ⟨Nat.le_refl _, Nat.le_refl _⟩ rfl hl.1 rfl (Nat.le_of_ble_eq_true rfl) dX2_add_200 (fun z12 σ12 H locs hq w => ?_)
            refine lv_aload X.x X.b dX2_add_203 (lv_at hl 4 rfl) ?_
            refine lv_iload X.x X.b dX2_add_205 (lv_at hl 5 rfl) ?_
            refine ra_iconst X.x X.b dX2_add_207 ?_
            refine ra_iadd X.x X.b dX2_add_208 ?_
            refine x_callVi (n := 1) (As := [vI (x6 + 1)]) (rest := [vI z12, .ref (ad g 5 0)]) X w (hg 14 i5 m5) rfl rfl (mX5_get l D ids ad cA A g hg i5 m5 (x6 + 1) σ12 _ hq) (lw_V q476 q477 q478 q40 q479) ⟨rfl, rfl⟩ (by decide +kernel) ⟨Nat.le_of_ble_eq_true rfl, Nat.le_of_ble_eq_true rfl⟩ ⟨Nat.le_refl _, Nat.le_refl _⟩ rfl hl.1 rfl (Nat.le_of_ble_eq_true rfl) dX2_add_209 (fun z13 σ13 H locs hq w => ?_)
            obtain ⟨o14, hq⟩ := hq
            refine x_iast X w (hg 5 0 (by decide)) (fun _ => rfl) (by decide) o14.1 o14.2 dX2_add_212 (fun σ15 H locs eσ15 w => ?_)
            have hq := hq σ15 eσ15
            refine lv_aload_n X.x X.b dX2_add_213 rfl (lv_at hl 0 rfl) ?_
            refine x_get X w (hg 0 0 (by decide)) rfl in_X2 rfl 5 (by decide) q206 rfl rfl dX2_add_214 ?_
            refine lv_iload_n X.x X.b dX2_add_217 rfl (lv_at hl 2 rfl) ?_
            refine lv_aload X.x X.b dX2_add_218 (lv_at hl 4 rfl) ?_
            refine lv_iload X.x X.b dX2_add_220 (lv_at hl 5 rfl) ?_
            refine x_callVi (n := 1) (As := [vI x6]) (rest := [vI x3, .ref (ad g 6 0)]) X w (hg 14 i5 m5) rfl rfl (mX5_get l D ids ad cA A g hg i5 m5 x6 σ15 _ hq) (lw_V q476 q477 q478 q40 q479) ⟨rfl, rfl⟩ (by decide +kernel) ⟨Nat.le_of_ble_eq_true rfl, Nat.le_of_ble_eq_true rfl⟩ ⟨Nat.le_refl _, Nat.le_refl _⟩ rfl hl.1 rfl (Nat.le_of_ble_eq_true rfl) dX2_add_222 (fun z16 σ16 H locs hq w => ?_)
            obtain ⟨o17, hq⟩ := hq
            refine x_iast X w (hg 6 0 (by decide)) (fun _ => rfl) (by decide) o17.1 o17.2 dX2_add_225 (fun σ18 H locs eσ18 w => ?_)
            have hq := hq σ18 eσ18
            refine lv_iinc (v := Int32.ofInt (x3 + 1)) (lv' := [(3, vI (x3 + 1)), (0, .ref (ad g 0 0)), (1, vI x1), (4, vI x4), (5, .ref (ad g 14 i5)), (6, vI x6)]) X.x X.b dX2_add_226 hl (k := 2) rfl (Int32.ofInt_add _ _).symm (by decide) rfl (fun ls hl => ?_)
            refine lv_iinc (v := Int32.ofInt (x6 + 1)) (lv' := [(6, vI (x6 + 1)), (3, vI (x3 + 1)), (0, .ref (ad g 0 0)), (1, vI x1), (4, vI x4), (5, .ref (ad g 14 i5))]) X.x X.b dX2_add_229 hl (k := 5) rfl (Int32.ofInt_add _ _).symm (by decide) rfl (fun ls hl => ?_)
            refine lv_goto (tgt := 147) X.x X.b dX2_add_232 (by decide) ?_
            exact ih x1 (x3 + 1) x4 i5 (x6 + 1) σ18 _ _ _ m5 hq w (lv_sub hl [2, 3, 1, 4, 5, 0] rfl)
set_option maxHeartbeats 4000000 in
set_option maxRecDepth 100000 in
theorem klX2_add_126 {l : Launch} {p : Program} {e : Env} {s : State} {m : MethodId} {args : Array Value} {below : List Frame} {meth : Method} {c : Code} {D : va_G} {ids : Ids} {ad : Lay} {cA : Nat → ClassId} {A : Nat → Prop} {g : Nat} {P : Tab → Prop} (X : Cx p m c meth cX2_add 7 s args RX2 D cA A nwW) (hr : meth.sig.returnType = none) (hg : HasH ids g) :
    ∀ (n : Nat) (x1 : Int) (x3 : Int) (x4 : Int) (σ : Tab) (H : Heap) (locs : List Loc) (ls : Array Slot), wlX2_add_126 g P n x1 x3 x4 σ → ww D ids ad cA A σ s.heap H locs → lv_has ls 7 [(0, .ref (ad g 0 0)), (1, vI x1), (3, vI x3), (4, vI x4)] → W p l e rmX2_add s m args below meth c H locs 0 0 (MQ below (QV D ids ad cA A P) args s 0 0 A) (F0 m 126 ls []) := by
  intro n
  induction n with
  | zero => intro x1 x3 x4 σ H locs ls hq w hl; exact hq.elim
  | succ n ih =>
    intro x1 x3 x4 σ H locs ls hq w hl
    unfold wlX2_add_126 at hq
    refine lv_iload X.x X.b dX2_add_126 (lv_at hl 3 rfl) ?_
    refine lv_aload_n X.x X.b dX2_add_128 rfl (lv_at hl 0 rfl) ?_
    refine x_get X w (hg 0 0 (by decide)) rfl in_X2 rfl 12 (by decide) q215 rfl rfl dX2_add_129 ?_
    obtain ⟨o1, hq⟩ := hq
    obtain ⟨o2, hq⟩ := hq
    refine ra_icmp_ge (tgt := 241) X.x X.b o1 o2 dX2_add_132 (by decide) (fun c3 => ?_) (fun c3 => ?_)
    · have hq := hq.1 c3
      refine ra_iconst X.x X.b dX2_add_241 ?_
      refine lv_istore (lv' := [(4, vI 0), (0, .ref (ad g 0 0)), (1, vI x1), (3, vI x3)]) X.x X.b dX2_add_242 hl (by decide) rfl (fun ls hl => ?_)
      obtain ⟨n4, hq⟩ := hq
      exact klX2_add_244 X hr hg  n4 x1 x3 0 σ _ _ _ hq w (lv_sub hl [1, 2, 3, 0] rfl)
    · have hq := hq.2 c3
      refine lv_aload_n X.x X.b dX2_add_135 rfl (lv_at hl 0 rfl) ?_
      refine x_get X w (hg 0 0 (by decide)) rfl in_X2 rfl 1 (by decide) q200 rfl rfl dX2_add_136 ?_
      refine lv_iload X.x X.b dX2_add_139 (lv_at hl 3 rfl) ?_
      obtain ⟨o5, hq⟩ := hq
      refine x_aald X w (hg 2 0 (by decide)) (.object RX5) rfl rfl rfl (by decide) o5.1 o5.2 rfl dX2_add_141 ?_
      refine lv_astore (lv' := [(5, .ref (ad g 14 x4.toNat)), (0, .ref (ad g 0 0)), (1, vI x1), (3, vI x3), (4, vI x4)]) X.x X.b dX2_add_142 hl (by decide) rfl (fun ls hl => ?_)
      refine ra_iconst X.x X.b dX2_add_144 ?_
      refine lv_istore (lv' := [(6, vI 0), (5, .ref (ad g 14 x4.toNat)), (0, .ref (ad g 0 0)), (1, vI x1), (3, vI x3), (4, vI x4)]) X.x X.b dX2_add_145 hl (by decide) rfl (fun ls hl => ?_)
      obtain ⟨n6, hq⟩ := hq
      exact klX2_add_147 X hr hg (fun a0 a1 a2 τ H L ls q w h => ih a0 a1 a2 τ H L ls q w h) n6 x1 x3 x4 x4.toNat 0 σ _ _ _ (tn o5) hq w (lv_sub hl [2, 3, 4, 5, 1, 0] rfl)
set_option maxHeartbeats 4000000 in
set_option maxRecDepth 100000 in
theorem klX2_add_96 {l : Launch} {p : Program} {e : Env} {s : State} {m : MethodId} {args : Array Value} {below : List Frame} {meth : Method} {c : Code} {D : va_G} {ids : Ids} {ad : Lay} {cA : Nat → ClassId} {A : Nat → Prop} {g : Nat} {P : Tab → Prop} (X : Cx p m c meth cX2_add 7 s args RX2 D cA A nwW) (hr : meth.sig.returnType = none) (hg : HasH ids g) :
    ∀ (n : Nat) (x3 : Int) (σ : Tab) (H : Heap) (locs : List Loc) (ls : Array Slot), wlX2_add_96 g P n x3 σ → ww D ids ad cA A σ s.heap H locs → lv_has ls 7 [(0, .ref (ad g 0 0)), (3, vI x3)] → W p l e rmX2_add s m args below meth c H locs 0 0 (MQ below (QV D ids ad cA A P) args s 0 0 A) (F0 m 96 ls []) := by
  intro n
  induction n with
  | zero => intro x3 σ H locs ls hq w hl; exact hq.elim
  | succ n ih =>
    intro x3 σ H locs ls hq w hl
    unfold wlX2_add_96 at hq
    refine lv_iload_n X.x X.b dX2_add_96 rfl (lv_at hl 1 rfl) ?_
    refine lv_aload_n X.x X.b dX2_add_97 rfl (lv_at hl 0 rfl) ?_
    refine x_get X w (hg 0 0 (by decide)) rfl in_X2 rfl 12 (by decide) q215 rfl rfl dX2_add_98 ?_
    obtain ⟨o1, hq⟩ := hq
    obtain ⟨o2, hq⟩ := hq
    refine ra_icmp_ge (tgt := 120) X.x X.b o1 o2 dX2_add_101 (by decide) (fun c3 => ?_) (fun c3 => ?_)
    · have hq := hq.1 c3
      exact x_vret X hr w hq dX2_add_120
    · have hq := hq.2 c3
      refine lv_aload_n X.x X.b dX2_add_104 rfl (lv_at hl 0 rfl) ?_
      refine x_get X w (hg 0 0 (by decide)) rfl in_X2 rfl 1 (by decide) q200 rfl rfl dX2_add_105 ?_
      refine lv_iload_n X.x X.b dX2_add_108 rfl (lv_at hl 1 rfl) ?_
      obtain ⟨o4, hq⟩ := hq
      refine x_aald X w (hg 2 0 (by decide)) (.object RX5) rfl rfl rfl (by decide) o4.1 o4.2 rfl dX2_add_109 ?_
      refine ra_iconst X.x X.b dX2_add_110 ?_
      refine x_put (z := 0) X w (hg 14 x3.toNat (tn o4)) rfl in_X5 tyX5 tyX5_ok nmX5 rfl 5 (by decide) q140 rfl rfl (by decide) (by decide) (Nat.le_of_ble_eq_true rfl) rfl dX2_add_111 (fun σ5 H locs eσ5 w => ?_)
      have hq := hq σ5 eσ5
      refine lv_iinc (v := Int32.ofInt (x3 + 1)) (lv' := [(3, vI (x3 + 1)), (0, .ref (ad g 0 0))]) X.x X.b dX2_add_114 hl (k := 1) rfl (Int32.ofInt_add _ _).symm (by decide) rfl (fun ls hl => ?_)
      refine lv_goto (tgt := 96) X.x X.b dX2_add_117 (by decide) ?_
      exact ih (x3 + 1) σ5 _ _ _ hq w (lv_sub hl [1, 0] rfl)
set_option maxHeartbeats 4000000 in
set_option maxRecDepth 100000 in
theorem klX2_add_64 {l : Launch} {p : Program} {e : Env} {s : State} {m : MethodId} {args : Array Value} {below : List Frame} {meth : Method} {c : Code} {D : va_G} {ids : Ids} {ad : Lay} {cA : Nat → ClassId} {A : Nat → Prop} {g : Nat} {P : Tab → Prop} {K4 : Int → Int → Int → Tab → Prop} (X : Cx p m c meth cX2_add 7 s args RX2 D cA A nwW) (hr : meth.sig.returnType = none) (hg : HasH ids g) (kk4 : ∀ (x1 : Int) (x2 : Int) (x3 : Int) (σ : Tab) (H : Heap) (locs : List Loc) (ls : Array Slot), K4 x1 x2 x3 σ → ww D ids ad cA A σ s.heap H locs → lv_has ls 7 [(0, .ref (ad g 0 0)), (1, vI x1), (2, vI x2), (3, vI x3)] → W p l e rmX2_add s m args below meth c H locs 0 0 (MQ below (QV D ids ad cA A P) args s 0 0 A) (F0 m 4 ls [])) :
    ∀ (x1 : Int) (x2 : Int) (x3 : Int) (x5 : Int) (j0 : Nat) (y1 : Int) (σ : Tab) (H : Heap) (locs : List Loc) (ls : Array Slot), j0 < 128 → wlX2_add_64 g P K4 x1 x2 x3 x5 j0 y1 σ → ww D ids ad cA A σ s.heap H locs → lv_has ls 7 [(0, .ref (ad g 0 0)), (1, vI x1), (2, vI x2), (3, vI x3), (5, vL x5)] → W p l e rmX2_add s m args below meth c H locs 0 0 (MQ below (QV D ids ad cA A P) args s 0 0 A) (F0 m 64 ls [vI y1, .ref (ad g 14 j0)]) := by
  intro x1 x2 x3 x5 j0 y1 σ H locs ls n0 hq w hl
  unfold wlX2_add_64 at hq
  obtain ⟨o1, hq⟩ := hq
  refine x_put (z := y1) X w (hg 14 j0 n0) rfl in_X5 tyX5 tyX5_ok nmX5 rfl 5 (by decide) q140 rfl rfl (nar_z o1) (fit_z o1) (Nat.le_of_ble_eq_true rfl) rfl dX2_add_64 (fun σ2 H locs eσ2 w => ?_)
  have hq := hq σ2 eσ2
  refine lv_iload_n X.x X.b dX2_add_67 rfl (lv_at hl 2 rfl) ?_
  obtain ⟨o3, hq⟩ := hq
  refine ra_if_ne (tgt := 78) X.x X.b o3 dX2_add_68 (by decide) (fun c4 => ?_) (fun c4 => ?_)
  · have hq := hq.1 c4
    refine ra_iconst X.x X.b dX2_add_78 ?_
    refine lv_goto (tgt := 83) X.x X.b dX2_add_79 (by decide) ?_
    refine lv_istore_n (lv' := [(2, vI 1), (0, .ref (ad g 0 0)), (1, vI x1), (3, vI x3), (5, vL x5)]) X.x X.b dX2_add_83 rfl hl (by decide) rfl (fun ls hl => ?_)
    refine lv_iinc (v := Int32.ofInt (x3 + 1)) (lv' := [(3, vI (x3 + 1)), (2, vI 1), (0, .ref (ad g 0 0)), (1, vI x1), (5, vL x5)]) X.x X.b dX2_add_84 hl (k := 3) rfl (Int32.ofInt_add _ _).symm (by decide) rfl (fun ls hl => ?_)
    refine lv_goto (tgt := 4) X.x X.b dX2_add_87 (by decide) ?_
    exact kk4 x1 1 (x3 + 1) σ2 _ _ _ hq w (lv_sub hl [2, 3, 1, 0] rfl)
  · have hq := hq.2 c4
    refine lv_lload X.x X.b dX2_add_71 (lv_at hl 4 rfl) ?_
    refine ra_lconst (z := 0) X.x X.b dX2_add_73 rfl ?_
    obtain ⟨o5, hq⟩ := hq
    refine ra_lcmp_le (tgt := 82) X.x X.b o5 ⟨by decide, by decide⟩ dX2_add_74 dX2_add_75 (by decide) (fun c6 => ?_) (fun c6 => ?_)
    · have hq := hq.1 c6
      refine ra_iconst X.x X.b dX2_add_82 ?_
      refine lv_istore_n (lv' := [(2, vI 0), (0, .ref (ad g 0 0)), (1, vI x1), (3, vI x3), (5, vL x5)]) X.x X.b dX2_add_83 rfl hl (by decide) rfl (fun ls hl => ?_)
      refine lv_iinc (v := Int32.ofInt (x3 + 1)) (lv' := [(3, vI (x3 + 1)), (2, vI 0), (0, .ref (ad g 0 0)), (1, vI x1), (5, vL x5)]) X.x X.b dX2_add_84 hl (k := 3) rfl (Int32.ofInt_add _ _).symm (by decide) rfl (fun ls hl => ?_)
      refine lv_goto (tgt := 4) X.x X.b dX2_add_87 (by decide) ?_
      exact kk4 x1 0 (x3 + 1) σ2 _ _ _ hq w (lv_sub hl [2, 3, 1, 0] rfl)
    · have hq := hq.2 c6
      refine ra_iconst X.x X.b dX2_add_78 ?_
      refine lv_goto (tgt := 83) X.x X.b dX2_add_79 (by decide) ?_
      refine lv_istore_n (lv' := [(2, vI 1), (0, .ref (ad g 0 0)), (1, vI x1), (3, vI x3), (5, vL x5)]) X.x X.b dX2_add_83 rfl hl (by decide) rfl (fun ls hl => ?_)
      refine lv_iinc (v := Int32.ofInt (x3 + 1)) (lv' := [(3, vI (x3 + 1)), (2, vI 1), (0, .ref (ad g 0 0)), (1, vI x1), (5, vL x5)]) X.x X.b dX2_add_84 hl (k := 3) rfl (Int32.ofInt_add _ _).symm (by decide) rfl (fun ls hl => ?_)
      refine lv_goto (tgt := 4) X.x X.b dX2_add_87 (by decide) ?_
      exact kk4 x1 1 (x3 + 1) σ2 _ _ _ hq w (lv_sub hl [2, 3, 1, 0] rfl)
set_option maxHeartbeats 4000000 in
set_option maxRecDepth 100000 in
theorem klX2_add_48 {l : Launch} {p : Program} {e : Env} {s : State} {m : MethodId} {args : Array Value} {below : List Frame} {meth : Method} {c : Code} {D : va_G} {ids : Ids} {ad : Lay} {cA : Nat → ClassId} {A : Nat → Prop} {g : Nat} {P : Tab → Prop} {K4 : Int → Int → Int → Tab → Prop} (X : Cx p m c meth cX2_add 7 s args RX2 D cA A nwW) (hr : meth.sig.returnType = none) (hg : HasH ids g) (kk4 : ∀ (x1 : Int) (x2 : Int) (x3 : Int) (σ : Tab) (H : Heap) (locs : List Loc) (ls : Array Slot), K4 x1 x2 x3 σ → ww D ids ad cA A σ s.heap H locs → lv_has ls 7 [(0, .ref (ad g 0 0)), (1, vI x1), (2, vI x2), (3, vI x3)] → W p l e rmX2_add s m args below meth c H locs 0 0 (MQ below (QV D ids ad cA A P) args s 0 0 A) (F0 m 4 ls [])) :
    ∀ (x1 : Int) (x2 : Int) (x3 : Int) (i4 : Nat) (y0 : Int) (σ : Tab) (H : Heap) (locs : List Loc) (ls : Array Slot), i4 < 128 → wlX2_add_48 g P K4 x1 x2 x3 i4 y0 σ → ww D ids ad cA A σ s.heap H locs → lv_has ls 7 [(0, .ref (ad g 0 0)), (1, vI x1), (2, vI x2), (3, vI x3), (4, .ref (ad g 14 i4))] → W p l e rmX2_add s m args below meth c H locs 0 0 (MQ below (QV D ids ad cA A P) args s 0 0 A) (F0 m 48 ls [vL y0]) := by
  intro x1 x2 x3 i4 y0 σ H locs ls m4 hq w hl
  unfold wlX2_add_48 at hq
  refine lv_lstore (lv' := [(5, vL y0), (0, .ref (ad g 0 0)), (1, vI x1), (2, vI x2), (3, vI x3), (4, .ref (ad g 14 i4))]) X.x X.b dX2_add_48 hl (by decide) rfl (fun ls hl => ?_)
  refine lv_aload X.x X.b dX2_add_50 (lv_at hl 5 rfl) ?_
  refine lv_lload X.x X.b dX2_add_52 (lv_at hl 0 rfl) ?_
  refine ra_lconst (z := 0) X.x X.b dX2_add_54 rfl ?_
  obtain ⟨o1, hq⟩ := hq
  refine ra_lcmp_lt (tgt := 63) X.x X.b o1 ⟨by decide, by decide⟩ dX2_add_55 dX2_add_56 (by decide) (fun c2 => ?_) (fun c2 => ?_)
  · have hq := hq.1 c2
    refine ra_iconst X.x X.b dX2_add_63 ?_
    exact klX2_add_64 X hr hg kk4 x1 x2 x3 y0 i4 0 σ _ _ _ m4 hq w (lv_sub hl [1, 2, 3, 4, 0] rfl)
  · have hq := hq.2 c2
    refine ra_iconst X.x X.b dX2_add_59 ?_
    refine lv_goto (tgt := 64) X.x X.b dX2_add_60 (by decide) ?_
    exact klX2_add_64 X hr hg kk4 x1 x2 x3 y0 i4 1 σ _ _ _ m4 hq w (lv_sub hl [1, 2, 3, 4, 0] rfl)
set_option maxHeartbeats 4000000 in
set_option maxRecDepth 100000 in
theorem klX2_add_4 {l : Launch} {p : Program} {e : Env} {s : State} {m : MethodId} {args : Array Value} {below : List Frame} {meth : Method} {c : Code} {D : va_G} {ids : Ids} {ad : Lay} {cA : Nat → ClassId} {A : Nat → Prop} {g : Nat} {P : Tab → Prop} (X : Cx p m c meth cX2_add 7 s args RX2 D cA A nwW) (hr : meth.sig.returnType = none) (hg : HasH ids g) :
    ∀ (n : Nat) (x1 : Int) (x2 : Int) (x3 : Int) (σ : Tab) (H : Heap) (locs : List Loc) (ls : Array Slot), wlX2_add_4 g P n x1 x2 x3 σ → ww D ids ad cA A σ s.heap H locs → lv_has ls 7 [(0, .ref (ad g 0 0)), (1, vI x1), (2, vI x2), (3, vI x3)] → W p l e rmX2_add s m args below meth c H locs 0 0 (MQ below (QV D ids ad cA A P) args s 0 0 A) (F0 m 4 ls []) := by
  intro n
  induction n with
  | zero => intro x1 x2 x3 σ H locs ls hq w hl; exact hq.elim
  | succ n ih =>
    intro x1 x2 x3 σ H locs ls hq w hl
    unfold wlX2_add_4 at hq
    refine lv_iload_n X.x X.b dX2_add_4 rfl (lv_at hl 3 rfl) ?_
    refine lv_aload_n X.x X.b dX2_add_5 rfl (lv_at hl 0 rfl) ?_
    refine x_get X w (hg 0 0 (by decide)) rfl in_X2 rfl 12 (by decide) q215 rfl rfl dX2_add_6 ?_
    obtain ⟨o1, hq⟩ := hq
    obtain ⟨o2, hq⟩ := hq
    refine ra_icmp_ge (tgt := 90) X.x X.b o1 o2 dX2_add_9 (by decide) (fun c3 => ?_) (fun c3 => ?_)
    · have hq := hq.1 c3
      refine lv_iload_n X.x X.b dX2_add_90 rfl (lv_at hl 2 rfl) ?_
      obtain ⟨o4, hq⟩ := hq
      refine ra_if_ne (tgt := 121) X.x X.b o4 dX2_add_91 (by decide) (fun c5 => ?_) (fun c5 => ?_)
      · have hq := hq.1 c5
        refine ra_iconst X.x X.b dX2_add_121 ?_
        refine lv_istore_n (lv' := [(3, vI 0), (0, .ref (ad g 0 0)), (1, vI x1), (2, vI x2)]) X.x X.b dX2_add_122 rfl hl (by decide) rfl (fun ls hl => ?_)
        refine ra_iconst X.x X.b dX2_add_123 ?_
        refine lv_istore (lv' := [(4, vI 0), (3, vI 0), (0, .ref (ad g 0 0)), (1, vI x1), (2, vI x2)]) X.x X.b dX2_add_124 hl (by decide) rfl (fun ls hl => ?_)
        obtain ⟨n6, hq⟩ := hq
        exact klX2_add_126 X hr hg  n6 x1 0 0 σ _ _ _ hq w (lv_sub hl [2, 3, 1, 0] rfl)
      · have hq := hq.2 c5
        refine ra_iconst X.x X.b dX2_add_94 ?_
        refine lv_istore_n (lv' := [(3, vI 0), (0, .ref (ad g 0 0)), (1, vI x1), (2, vI x2)]) X.x X.b dX2_add_95 rfl hl (by decide) rfl (fun ls hl => ?_)
        obtain ⟨n7, hq⟩ := hq
        exact klX2_add_96 X hr hg  n7 0 σ _ _ _ hq w (lv_sub hl [1, 0] rfl)
    · have hq := hq.2 c3
      refine lv_aload_n X.x X.b dX2_add_12 rfl (lv_at hl 0 rfl) ?_
      refine x_get X w (hg 0 0 (by decide)) rfl in_X2 rfl 1 (by decide) q200 rfl rfl dX2_add_13 ?_
      refine lv_iload_n X.x X.b dX2_add_16 rfl (lv_at hl 3 rfl) ?_
      obtain ⟨o8, hq⟩ := hq
      refine x_aald X w (hg 2 0 (by decide)) (.object RX5) rfl rfl rfl (by decide) o8.1 o8.2 rfl dX2_add_17 ?_
      refine lv_astore (lv' := [(4, .ref (ad g 14 x3.toNat)), (0, .ref (ad g 0 0)), (1, vI x1), (2, vI x2), (3, vI x3)]) X.x X.b dX2_add_18 hl (by decide) rfl (fun ls hl => ?_)
      refine lv_aload X.x X.b dX2_add_20 (lv_at hl 0 rfl) ?_
      refine x_get X w (hg 14 x3.toNat (tn o8)) rfl in_X5 rfl 4 (by decide) q139 rfl rfl dX2_add_22 ?_
      obtain ⟨o9, hq⟩ := hq
      refine ra_if_eq (tgt := 45) X.x X.b o9 dX2_add_25 (by decide) (fun c10 => ?_) (fun c10 => ?_)
      · have hq := hq.1 c10
        refine ra_ldc2Z (z := (-1)) X.x X.b X.o (X.t _ q475) (by decide) dX2_add_45 ?_
        exact klX2_add_48 X hr hg (fun a0 a1 a2 τ H L ls q w h => ih a0 a1 a2 τ H L ls q w h) x1 x2 x3 x3.toNat (-1) σ _ _ _ (tn o8) hq w (lv_sub hl [1, 2, 3, 4, 0] rfl)
      · have hq := hq.2 c10
        refine lv_aload X.x X.b dX2_add_28 (lv_at hl 0 rfl) ?_
        refine x_get X w (hg 14 x3.toNat (tn o8)) rfl in_X5 rfl 0 (by decide) q132 rfl rfl dX2_add_30 ?_
        refine lv_aload_n X.x X.b dX2_add_33 rfl (lv_at hl 1 rfl) ?_
        refine x_get X w (hg 0 0 (by decide)) rfl in_X2 rfl 0 (by decide) q199 rfl rfl dX2_add_34 ?_
        refine lv_iload_n X.x X.b dX2_add_37 rfl (lv_at hl 2 rfl) ?_
        obtain ⟨o11, hq⟩ := hq
        refine x_aald X w (hg 1 0 (by decide)) (.object RX4) rfl rfl rfl (by decide) o11.1 o11.2 rfl dX2_add_38 ?_
        refine x_callVl (n := 1) (As := [.ref (ad g 13 x1.toNat)]) (rest := []) X w (hg 15 x3.toNat (tn o8)) rfl rfl (mX3_above l D ids ad cA A g 15 x3.toNat (hg 15 x3.toNat (tn o8)) (by unfold isPl; decide) g 13 x1.toNat (hg 13 x1.toNat (tn o11)) (by unfold isPt; decide) σ _ hq) (lw_V q459 q460 q461 q38 q462) ⟨rfl, rfl⟩ (by decide +kernel) ⟨Nat.le_of_ble_eq_true rfl, Nat.le_of_ble_eq_true rfl⟩ ⟨Nat.le_refl _, Nat.le_refl _⟩ rfl hl.1 rfl (Nat.le_of_ble_eq_true rfl) dX2_add_39 (fun z12 σ12 H locs hq w => ?_)
        refine lv_goto (tgt := 48) X.x X.b dX2_add_42 (by decide) ?_
        exact klX2_add_48 X hr hg (fun a0 a1 a2 τ H L ls q w h => ih a0 a1 a2 τ H L ls q w h) x1 x2 x3 x3.toNat z12 σ12 _ _ _ (tn o8) hq w (lv_sub hl [1, 2, 3, 4, 0] rfl)
set_option maxHeartbeats 4000000 in
set_option maxRecDepth 100000 in
theorem mX2_add (l : Launch) (D : va_G) (ids : Ids) (ad : Lay) (cA : Nat → ClassId) (A : Nat → Prop) (g : Nat) (hg : HasH ids g) (x1 : Int) (σ : Tab) (P : Tab → Prop) (hq : wpX2_add g x1 σ P) : Met l yX2_add (ws_ yX2_add cX2_add 7 (none)) rmX2_add (PcW D ids ad cA A σ [.ref (ad g 0 0), vI x1]) (QV D ids ad cA A P) 0 0 A := by
  refine m_entry (own := RX2) (by decide) (Nat.le_of_ble_eq_true rfl) rfl ?_
  intro p e s m below meth c ls X hr w hl
  have hl : lv_has ls 7 [(0, .ref (ad g 0 0)), (1, vI x1)] := hl
  unfold wpX2_add at hq
  refine ra_iconst X.x X.b dX2_add_0 ?_
  refine lv_istore_n (lv' := [(2, vI 0), (0, .ref (ad g 0 0)), (1, vI x1)]) X.x X.b dX2_add_1 rfl hl (by decide) rfl (fun ls hl => ?_)
  refine ra_iconst X.x X.b dX2_add_2 ?_
  refine lv_istore_n (lv' := [(3, vI 0), (2, vI 0), (0, .ref (ad g 0 0)), (1, vI x1)]) X.x X.b dX2_add_3 rfl hl (by decide) rfl (fun ls hl => ?_)
  obtain ⟨n1, hq⟩ := hq
  exact klX2_add_4 X hr hg  n1 x1 0 0 σ _ _ _ hq w (lv_sub hl [2, 3, 1, 0] rfl)
def wlX2_unite_235 (g : Nat) (P : Tab → Prop) : Nat → Nat → Int → Int → Int → Tab → Prop
  | 0, _, _, _, _, _ => False
  | n + 1, i2, x4, x5, x6, σ => (inI x6 ∧ (inI x4 ∧ ((x4 ≤ x6 → wpX6_rotate g i2 σ (fun σ4 => (∀ σ5 : Tab, σ5 = st σ4 g 0 0 13 ((σ4 g 0 0 13) + 1) → P σ5))) ∧ (¬ (x4 ≤ x6) → ((0 ≤ x6 ∧ x6 < 24) ∧ (∀ σ7 : Tab, σ7 = st σ g 18 i2 x6.toNat x5 → ((0 ≤ x5 ∧ x5 < 24) ∧ (∀ y9 : Int, y9 = σ7 g 5 0 x5.toNat → wlX2_unite_235 g P n i2 x4 y9 (x6 + 1) σ7))))))))
def wlX2_unite_120 (g : Nat) (P : Tab → Prop) (K99 : Nat → Int → Int → Int → Tab → Prop) : Nat → Nat → Int → Int → Int → Nat → Int → Tab → Prop
  | 0, _, _, _, _, _, _, _ => False
  | n + 1, i2, x3, x4, x5, i6, x7, σ => (inI x7 ∧ ((3 ≤ x7 → K99 i2 x3 x4 (x5 + 1) σ) ∧ (¬ (3 ≤ x7) → (inI (σ g 14 i6 4) ∧ ((σ g 14 i6 4 = 0 → K99 i2 x3 x4 (x5 + 1) σ) ∧ (¬ (σ g 14 i6 4 = 0) → wpX3_same g 15 i6 g 17 i2 σ (fun z5 σ5 => (inI z5 ∧ ((z5 = 0 → K99 i2 x3 x4 (x5 + 1) σ5) ∧ (¬ (z5 = 0) → wpX5_get g i6 (x7 + 1) σ5 (fun z8 σ8 => wpX5_get g i6 x7 σ8 (fun z9 σ9 => wpX2_within g g 17 i2 z8 z9 σ9 (fun z10 σ10 => (inI z10 ∧ ((z10 = 0 → wpX5_get g i6 x7 σ10 (fun z13 σ13 => wpX5_get g i6 (x7 + 1) σ13 (fun z14 σ14 => ((0 ≤ z13 ∧ z13 < 24) ∧ (∀ σ16 : Tab, σ16 = st σ14 g 5 0 z13.toNat z14 → wpX5_get g i6 x7 σ16 (fun z17 σ17 => wlX2_unite_120 g P K99 n i2 z17 (x4 + 1) x5 i6 (x7 + 1) σ17)))))) ∧ (¬ (z10 = 0) → wlX2_unite_120 g P K99 n i2 x3 x4 x5 i6 (x7 + 1) σ10))))))))))))))))
def wlX2_unite_99 (g : Nat) (P : Tab → Prop) : Nat → Nat → Int → Int → Int → Tab → Prop
  | 0, _, _, _, _, _ => False
  | n + 1, i2, x3, x4, x5, σ => (inI x5 ∧ (inI (σ g 0 0 12) ∧ ((σ g 0 0 12 ≤ x5 → (∀ σ4 : Tab, σ4 = st σ g 16 i2 2 x4 → (∃ k : Nat, wlX2_unite_235 g P k i2 x4 x3 0 σ4))) ∧ (¬ (σ g 0 0 12 ≤ x5) → ((0 ≤ x5 ∧ x5 < 128) ∧ (∃ k : Nat, wlX2_unite_120 g P (fun i2 x3 x4 x5 τ => wlX2_unite_99 g P n i2 x3 x4 x5 τ) k i2 x3 x4 x5 x5.toNat 0 σ))))))
def wlX2_unite_28 (g : Nat) (P : Tab → Prop) : Nat → Int → Nat → Int → Tab → Prop
  | 0, _, _, _, _ => False
  | n + 1, x1, i2, x3, σ => (inI x3 ∧ (inI (σ g 0 0 12) ∧ ((σ g 0 0 12 ≤ x3 → (∃ k : Nat, wlX2_unite_99 g P k i2 (-1) 0 x1 σ)) ∧ (¬ (σ g 0 0 12 ≤ x3) → ((0 ≤ x3 ∧ x3 < 128) ∧ (inI (σ g 14 x3.toNat 5) ∧ ((σ g 14 x3.toNat 5 ≠ 0 → (∀ σ8 : Tab, σ8 = st σ g 14 x3.toNat 5 1 → wlX2_unite_28 g P n x1 i2 (x3 + 1) σ8)) ∧ (¬ (σ g 14 x3.toNat 5 ≠ 0) → (inI (σ g 14 x3.toNat 4) ∧ ((σ g 14 x3.toNat 4 = 0 → (∀ σ11 : Tab, σ11 = st σ g 14 x3.toNat 5 0 → wlX2_unite_28 g P n x1 i2 (x3 + 1) σ11)) ∧ (¬ (σ g 14 x3.toNat 4 = 0) → wpX3_same g 15 x3.toNat g 17 i2 σ (fun z12 σ12 => (inI z12 ∧ ((z12 = 0 → (∀ σ15 : Tab, σ15 = st σ12 g 14 x3.toNat 5 0 → wlX2_unite_28 g P n x1 i2 (x3 + 1) σ15)) ∧ (¬ (z12 = 0) → (∀ σ16 : Tab, σ16 = st σ12 g 14 x3.toNat 5 1 → wlX2_unite_28 g P n x1 i2 (x3 + 1) σ16))))))))))))))))
def wpX2_unite (g : Nat) (x1 : Int) (σ : Tab) (P : Tab → Prop) : Prop := ((0 ≤ σ g 0 0 13 ∧ σ g 0 0 13 < 44) ∧ ((0 ≤ σ g 3 0 ((σ g 0 0 13).toNat) ∧ σ g 3 0 ((σ g 0 0 13).toNat) < 44) ∧ ((0 ≤ x1 ∧ x1 < 128) ∧ wpX3_copy g 17 ((σ g 3 0 ((σ g 0 0 13).toNat)).toNat) g 15 x1.toNat σ (fun σ4 => (∃ k : Nat, wlX2_unite_28 g P k x1 ((σ g 3 0 ((σ g 0 0 13).toNat)).toNat) x1 σ4)))))
abbrev rmX2_unite : Room := { frames := 2, cells := 0, slots := 0, locals := 63 }
set_option maxHeartbeats 4000000 in
set_option maxRecDepth 100000 in
theorem klX2_unite_235 {l : Launch} {p : Program} {e : Env} {s : State} {m : MethodId} {args : Array Value} {below : List Frame} {meth : Method} {c : Code} {D : va_G} {ids : Ids} {ad : Lay} {cA : Nat → ClassId} {A : Nat → Prop} {g : Nat} {P : Tab → Prop} (X : Cx p m c meth cX2_unite 8 s args RX2 D cA A nwW) (hr : meth.sig.returnType = none) (hg : HasH ids g) :
    ∀ (n : Nat) (i2 : Nat) (x4 : Int) (x5 : Int) (x6 : Int) (σ : Tab) (H : Heap) (locs : List Loc) (ls : Array Slot), i2 < 44 → wlX2_unite_235 g P n i2 x4 x5 x6 σ → ww D ids ad cA A σ s.heap H locs → lv_has ls 8 [(0, .ref (ad g 0 0)), (2, .ref (ad g 16 i2)), (4, vI x4), (5, vI x5), (6, vI x6)] → W p l e rmX2_unite s m args below meth c H locs 0 0 (MQ below (QV D ids ad cA A P) args s 0 0 A) (F0 m 235 ls []) := by
  intro n
  induction n with
  | zero => intro i2 x4 x5 x6 σ H locs ls m2 hq w hl; exact hq.elim
  | succ n ih =>
    intro i2 x4 x5 x6 σ H locs ls m2 hq w hl
    unfold wlX2_unite_235 at hq
    refine lv_iload X.x X.b dX2_unite_235 (lv_at hl 4 rfl) ?_
    refine lv_iload X.x X.b dX2_unite_237 (lv_at hl 2 rfl) ?_
    obtain ⟨o1, hq⟩ := hq
    obtain ⟨o2, hq⟩ := hq
    refine ra_icmp_ge (tgt := 266) X.x X.b o1 o2 dX2_unite_239 (by decide) (fun c3 => ?_) (fun c3 => ?_)
    · have hq := hq.1 c3
      refine lv_aload_n X.x X.b dX2_unite_266 rfl (lv_at hl 1 rfl) ?_
      refine lv_aload_n X.x X.b dX2_unite_267 rfl (lv_at hl 0 rfl) ?_
      refine x_get X w (hg 0 0 (by decide)) rfl in_X2 rfl 5 (by decide) q206 rfl rfl dX2_unite_268 ?_
      refine x_callVv (n := 1) (As := [.ref (ad g 6 0)]) (rest := []) X w (hg 16 i2 m2) rfl rfl (mX6_rotate l D ids ad cA A g hg i2 m2 σ _ hq) (lw_V q504 q505 q506 q41 q507) ⟨rfl, rfl⟩ (by decide +kernel) ⟨Nat.le_of_ble_eq_true rfl, Nat.le_of_ble_eq_true rfl⟩ ⟨Nat.le_refl _, Nat.le_refl _⟩ rfl hl.1 rfl (Nat.le_of_ble_eq_true rfl) dX2_unite_271 (fun σ4 H locs hq w => ?_)
      refine lv_aload_n X.x X.b dX2_unite_274 rfl (lv_at hl 0 rfl) ?_
      refine lv_dup X.x X.b dX2_unite_275 rfl ?_
      refine x_get X w (hg 0 0 (by decide)) rfl in_X2 rfl 13 (by decide) q216 rfl rfl dX2_unite_276 ?_
      refine ra_iconst X.x X.b dX2_unite_279 ?_
      refine ra_iadd X.x X.b dX2_unite_280 ?_
      refine x_put (z := ((σ4 g 0 0 13) + 1)) X w (hg 0 0 (by decide)) rfl in_X2 tyX2 tyX2_ok nmX2 rfl 13 (by decide) q216 rfl rfl rfl rfl (Nat.le_of_ble_eq_true rfl) rfl dX2_unite_281 (fun σ5 H locs eσ5 w => ?_)
      have hq := hq σ5 eσ5
      exact x_vret X hr w hq dX2_unite_284
    · have hq := hq.2 c3
      refine lv_aload_n X.x X.b dX2_unite_242 rfl (lv_at hl 1 rfl) ?_
      refine x_get X w (hg 16 i2 m2) rfl in_X6 rfl 1 (by decide) q165 rfl rfl dX2_unite_243 ?_
      refine lv_iload X.x X.b dX2_unite_246 (lv_at hl 4 rfl) ?_
      refine lv_iload X.x X.b dX2_unite_248 (lv_at hl 3 rfl) ?_
      obtain ⟨o6, hq⟩ := hq
      refine x_iast X w (hg 18 i2 m2) (fun _ => rfl) (by decide) o6.1 o6.2 dX2_unite_250 (fun σ7 H locs eσ7 w => ?_)
      have hq := hq σ7 eσ7
      refine lv_aload_n X.x X.b dX2_unite_251 rfl (lv_at hl 0 rfl) ?_
      refine x_get X w (hg 0 0 (by decide)) rfl in_X2 rfl 4 (by decide) q205 rfl rfl dX2_unite_252 ?_
      refine lv_iload X.x X.b dX2_unite_255 (lv_at hl 3 rfl) ?_
      obtain ⟨o8, hq⟩ := hq
      refine x_iald X w (hg 5 0 (by decide)) rfl (by decide) o8.1 o8.2 dX2_unite_257 ?_
      refine ra_nmI (fun y9 ey9 => ?_)
      have hq := hq y9 ey9
      refine lv_istore (lv' := [(5, vI y9), (0, .ref (ad g 0 0)), (2, .ref (ad g 16 i2)), (4, vI x4), (6, vI x6)]) X.x X.b dX2_unite_258 hl (by decide) rfl (fun ls hl => ?_)
      refine lv_iinc (v := Int32.ofInt (x6 + 1)) (lv' := [(6, vI (x6 + 1)), (5, vI y9), (0, .ref (ad g 0 0)), (2, .ref (ad g 16 i2)), (4, vI x4)]) X.x X.b dX2_unite_260 hl (k := 4) rfl (Int32.ofInt_add _ _).symm (by decide) rfl (fun ls hl => ?_)
      refine lv_goto (tgt := 235) X.x X.b dX2_unite_263 (by decide) ?_
      exact ih i2 x4 y9 (x6 + 1) σ7 _ _ _ m2 hq w (lv_sub hl [2, 3, 4, 1, 0] rfl)
set_option maxHeartbeats 4000000 in
set_option maxRecDepth 100000 in
theorem klX2_unite_120 {l : Launch} {p : Program} {e : Env} {s : State} {m : MethodId} {args : Array Value} {below : List Frame} {meth : Method} {c : Code} {D : va_G} {ids : Ids} {ad : Lay} {cA : Nat → ClassId} {A : Nat → Prop} {g : Nat} {P : Tab → Prop} {K99 : Nat → Int → Int → Int → Tab → Prop} (X : Cx p m c meth cX2_unite 8 s args RX2 D cA A nwW) (hr : meth.sig.returnType = none) (hg : HasH ids g) (kk99 : ∀ (i2 : Nat) (x3 : Int) (x4 : Int) (x5 : Int) (σ : Tab) (H : Heap) (locs : List Loc) (ls : Array Slot), i2 < 44 → K99 i2 x3 x4 x5 σ → ww D ids ad cA A σ s.heap H locs → lv_has ls 8 [(0, .ref (ad g 0 0)), (2, .ref (ad g 16 i2)), (3, vI x3), (4, vI x4), (5, vI x5)] → W p l e rmX2_unite s m args below meth c H locs 0 0 (MQ below (QV D ids ad cA A P) args s 0 0 A) (F0 m 99 ls [])) :
    ∀ (n : Nat) (i2 : Nat) (x3 : Int) (x4 : Int) (x5 : Int) (i6 : Nat) (x7 : Int) (σ : Tab) (H : Heap) (locs : List Loc) (ls : Array Slot), i2 < 44 → i6 < 128 → wlX2_unite_120 g P K99 n i2 x3 x4 x5 i6 x7 σ → ww D ids ad cA A σ s.heap H locs → lv_has ls 8 [(0, .ref (ad g 0 0)), (2, .ref (ad g 16 i2)), (3, vI x3), (4, vI x4), (5, vI x5), (6, .ref (ad g 14 i6)), (7, vI x7)] → W p l e rmX2_unite s m args below meth c H locs 0 0 (MQ below (QV D ids ad cA A P) args s 0 0 A) (F0 m 120 ls []) := by
  intro n
  induction n with
  | zero => intro i2 x3 x4 x5 i6 x7 σ H locs ls m2 m6 hq w hl; exact hq.elim
  | succ n ih =>
    intro i2 x3 x4 x5 i6 x7 σ H locs ls m2 m6 hq w hl
    unfold wlX2_unite_120 at hq
    refine lv_iload X.x X.b dX2_unite_120 (lv_at hl 6 rfl) ?_
    refine ra_iconst X.x X.b dX2_unite_122 ?_
    obtain ⟨o1, hq⟩ := hq
    refine ra_icmp_ge (tgt := 217) X.x X.b o1 ⟨by decide, by decide⟩ dX2_unite_123 (by decide) (fun c2 => ?_) (fun c2 => ?_)
    · have hq := hq.1 c2
      refine lv_iinc (v := Int32.ofInt (x5 + 1)) (lv' := [(5, vI (x5 + 1)), (0, .ref (ad g 0 0)), (2, .ref (ad g 16 i2)), (3, vI x3), (4, vI x4), (6, .ref (ad g 14 i6)), (7, vI x7)]) X.x X.b dX2_unite_217 hl (k := 4) rfl (Int32.ofInt_add _ _).symm (by decide) rfl (fun ls hl => ?_)
      refine lv_goto (tgt := 99) X.x X.b dX2_unite_220 (by decide) ?_
      exact kk99 i2 x3 x4 (x5 + 1) σ _ _ _ m2 hq w (lv_sub hl [1, 2, 3, 4, 0] rfl)
    · have hq := hq.2 c2
      refine lv_aload X.x X.b dX2_unite_126 (lv_at hl 5 rfl) ?_
      refine x_get X w (hg 14 i6 m6) rfl in_X5 rfl 4 (by decide) q139 rfl rfl dX2_unite_128 ?_
      obtain ⟨o3, hq⟩ := hq
      refine ra_if_eq (tgt := 217) X.x X.b o3 dX2_unite_131 (by decide) (fun c4 => ?_) (fun c4 => ?_)
      · have hq := hq.1 c4
        refine lv_iinc (v := Int32.ofInt (x5 + 1)) (lv' := [(5, vI (x5 + 1)), (0, .ref (ad g 0 0)), (2, .ref (ad g 16 i2)), (3, vI x3), (4, vI x4), (6, .ref (ad g 14 i6)), (7, vI x7)]) X.x X.b dX2_unite_217 hl (k := 4) rfl (Int32.ofInt_add _ _).symm (by decide) rfl (fun ls hl => ?_)
        refine lv_goto (tgt := 99) X.x X.b dX2_unite_220 (by decide) ?_
        exact kk99 i2 x3 x4 (x5 + 1) σ _ _ _ m2 hq w (lv_sub hl [1, 2, 3, 4, 0] rfl)
      · have hq := hq.2 c4
        refine lv_aload X.x X.b dX2_unite_134 (lv_at hl 5 rfl) ?_
        refine x_get X w (hg 14 i6 m6) rfl in_X5 rfl 0 (by decide) q132 rfl rfl dX2_unite_136 ?_
        refine lv_aload_n X.x X.b dX2_unite_139 rfl (lv_at hl 1 rfl) ?_
        refine x_get X w (hg 16 i2 m2) rfl in_X6 rfl 0 (by decide) q162 rfl rfl dX2_unite_140 ?_
        refine x_callVi (n := 1) (As := [.ref (ad g 17 i2)]) (rest := []) X w (hg 15 i6 m6) rfl rfl (mX3_same l D ids ad cA A g 15 i6 (hg 15 i6 m6) (by unfold isPl; decide) g 17 i2 (hg 17 i2 m2) (by unfold isPl; decide) σ _ hq) (lw_V q496 q497 q498 q38 q499) ⟨rfl, rfl⟩ (by decide +kernel) ⟨Nat.le_of_ble_eq_true rfl, Nat.le_of_ble_eq_true rfl⟩ ⟨Nat.le_refl _, Nat.le_refl _⟩ rfl hl.1 rfl (Nat.le_of_ble_eq_true rfl) dX2_unite_143 (fun z5 σ5 H locs hq w => ?_)
        obtain ⟨o6, hq⟩ := hq
        refine ra_if_eq (tgt := 217) X.x X.b o6 dX2_unite_146 (by decide) (fun c7 => ?_) (fun c7 => ?_)
        · have hq := hq.1 c7
          refine lv_iinc (v := Int32.ofInt (x5 + 1)) (lv' := [(5, vI (x5 + 1)), (0, .ref (ad g 0 0)), (2, .ref (ad g 16 i2)), (3, vI x3), (4, vI x4), (6, .ref (ad g 14 i6)), (7, vI x7)]) X.x X.b dX2_unite_217 hl (k := 4) rfl (Int32.ofInt_add _ _).symm (by decide) rfl (fun ls hl => ?_)
          refine lv_goto (tgt := 99) X.x X.b dX2_unite_220 (by decide) ?_
          exact kk99 i2 x3 x4 (x5 + 1) σ5 _ _ _ m2 hq w (lv_sub hl [1, 2, 3, 4, 0] rfl)
        · have hq := hq.2 c7
          refine lv_aload_n X.x X.b dX2_unite_149 rfl (lv_at hl 0 rfl) ?_
          refine lv_aload_n X.x X.b dX2_unite_150 rfl (lv_at hl 1 rfl) ?_
          refine x_get X w (hg 16 i2 m2) rfl in_X6 rfl 0 (by decide) q162 rfl rfl dX2_unite_151 ?_
          refine lv_aload X.x X.b dX2_unite_154 (lv_at hl 5 rfl) ?_
          refine lv_iload X.x X.b dX2_unite_156 (lv_at hl 6 rfl) ?_
          refine ra_iconst X.x X.b dX2_unite_158 ?_
          refine ra_iadd X.x X.b dX2_unite_159 ?_
          refine x_callVi (n := 1) (As := [vI (x7 + 1)]) (rest := [.ref (ad g 17 i2), .ref (ad g 0 0)]) X w (hg 14 i6 m6) rfl rfl (mX5_get l D ids ad cA A g hg i6 m6 (x7 + 1) σ5 _ hq) (lw_V q476 q477 q478 q40 q479) ⟨rfl, rfl⟩ (by decide +kernel) ⟨Nat.le_of_ble_eq_true rfl, Nat.le_of_ble_eq_true rfl⟩ ⟨Nat.le_refl _, Nat.le_refl _⟩ rfl hl.1 rfl (Nat.le_of_ble_eq_true rfl) dX2_unite_160 (fun z8 σ8 H locs hq w => ?_)
          refine lv_aload X.x X.b dX2_unite_163 (lv_at hl 5 rfl) ?_
          refine lv_iload X.x X.b dX2_unite_165 (lv_at hl 6 rfl) ?_
          refine x_callVi (n := 1) (As := [vI x7]) (rest := [vI z8, .ref (ad g 17 i2), .ref (ad g 0 0)]) X w (hg 14 i6 m6) rfl rfl (mX5_get l D ids ad cA A g hg i6 m6 x7 σ8 _ hq) (lw_V q476 q477 q478 q40 q479) ⟨rfl, rfl⟩ (by decide +kernel) ⟨Nat.le_of_ble_eq_true rfl, Nat.le_of_ble_eq_true rfl⟩ ⟨Nat.le_refl _, Nat.le_refl _⟩ rfl hl.1 rfl (Nat.le_of_ble_eq_true rfl) dX2_unite_167 (fun z9 σ9 H locs hq w => ?_)
          refine x_callVi (n := 3) (As := [.ref (ad g 17 i2), vI z8, vI z9]) (rest := []) X w (hg 0 0 (by decide)) rfl rfl (mX2_within l D ids ad cA A g hg g 17 i2 (hg 17 i2 m2) (by unfold isPl; decide) z8 z9 σ9 _ hq) (lw_V q500 q502 qs7 q37 q503) ⟨rfl, rfl⟩ (by decide +kernel) ⟨Nat.le_of_ble_eq_true rfl, Nat.le_of_ble_eq_true rfl⟩ ⟨Nat.le_refl _, Nat.le_refl _⟩ rfl hl.1 rfl (Nat.le_of_ble_eq_true rfl) dX2_unite_170 (fun z10 σ10 H locs hq w => ?_)
          obtain ⟨o11, hq⟩ := hq
          refine ra_if_eq (tgt := 179) X.x X.b o11 dX2_unite_173 (by decide) (fun c12 => ?_) (fun c12 => ?_)
          · have hq := hq.1 c12
            refine lv_aload_n X.x X.b dX2_unite_179 rfl (lv_at hl 0 rfl) ?_
            refine x_get X w (hg 0 0 (by decide)) rfl in_X2 rfl 4 (by decide) q205 rfl rfl dX2_unite_180 ?_
            refine lv_aload X.x X.b dX2_unite_183 (lv_at hl 5 rfl) ?_
            refine lv_iload X.x X.b dX2_unite_185 (lv_at hl 6 rfl) ?_
            refine x_callVi (n := 1) (As := [vI x7]) (rest := [.ref (ad g 5 0)]) X w (hg 14 i6 m6) rfl rfl (mX5_get l D ids ad cA A g hg i6 m6 x7 σ10 _ hq) (lw_V q476 q477 q478 q40 q479) ⟨rfl, rfl⟩ (by decide +kernel) ⟨Nat.le_of_ble_eq_true rfl, Nat.le_of_ble_eq_true rfl⟩ ⟨Nat.le_refl _, Nat.le_refl _⟩ rfl hl.1 rfl (Nat.le_of_ble_eq_true rfl) dX2_unite_187 (fun z13 σ13 H locs hq w => ?_)
            refine lv_aload X.x X.b dX2_unite_190 (lv_at hl 5 rfl) ?_
            refine lv_iload X.x X.b dX2_unite_192 (lv_at hl 6 rfl) ?_
            refine ra_iconst X.x X.b dX2_unite_194 ?_
            refine ra_iadd X.x X.b dX2_unite_195 ?_
            refine x_callVi (n := 1) (As := [vI (x7 + 1)]) (rest := [vI z13, .ref (ad g 5 0)]) X w (hg 14 i6 m6) rfl rfl (mX5_get l D ids ad cA A g hg i6 m6 (x7 + 1) σ13 _ hq) (lw_V q476 q477 q478 q40 q479) ⟨rfl, rfl⟩ (by decide +kernel) ⟨Nat.le_of_ble_eq_true rfl, Nat.le_of_ble_eq_true rfl⟩ ⟨Nat.le_refl _, Nat.le_refl _⟩ rfl hl.1 rfl (Nat.le_of_ble_eq_true rfl) dX2_unite_196 (fun z14 σ14 H locs hq w => ?_)
            obtain ⟨o15, hq⟩ := hq
            refine x_iast X w (hg 5 0 (by decide)) (fun _ => rfl) (by decide) o15.1 o15.2 dX2_unite_199 (fun σ16 H locs eσ16 w => ?_)
            have hq := hq σ16 eσ16
            refine lv_aload X.x X.b dX2_unite_200 (lv_at hl 5 rfl) ?_
            refine lv_iload X.x X.b dX2_unite_202 (lv_at hl 6 rfl) ?_
            refine x_callVi (n := 1) (As := [vI x7]) (rest := []) X w (hg 14 i6 m6) rfl rfl (mX5_get l D ids ad cA A g hg i6 m6 x7 σ16 _ hq) (lw_V q476 q477 q478 q40 q479) ⟨rfl, rfl⟩ (by decide +kernel) ⟨Nat.le_of_ble_eq_true rfl, Nat.le_of_ble_eq_true rfl⟩ ⟨Nat.le_refl _, Nat.le_refl _⟩ rfl hl.1 rfl (Nat.le_of_ble_eq_true rfl) dX2_unite_204 (fun z17 σ17 H locs hq w => ?_)
            refine lv_istore_n (lv' := [(3, vI z17), (0, .ref (ad g 0 0)), (2, .ref (ad g 16 i2)), (4, vI x4), (5, vI x5), (6, .ref (ad g 14 i6)), (7, vI x7)]) X.x X.b dX2_unite_207 rfl hl (by decide) rfl (fun ls hl => ?_)
            refine lv_iinc (v := Int32.ofInt (x4 + 1)) (lv' := [(4, vI (x4 + 1)), (3, vI z17), (0, .ref (ad g 0 0)), (2, .ref (ad g 16 i2)), (5, vI x5), (6, .ref (ad g 14 i6)), (7, vI x7)]) X.x X.b dX2_unite_208 hl (k := 3) rfl (Int32.ofInt_add _ _).symm (by decide) rfl (fun ls hl => ?_)
            refine lv_iinc (v := Int32.ofInt (x7 + 1)) (lv' := [(7, vI (x7 + 1)), (4, vI (x4 + 1)), (3, vI z17), (0, .ref (ad g 0 0)), (2, .ref (ad g 16 i2)), (5, vI x5), (6, .ref (ad g 14 i6))]) X.x X.b dX2_unite_211 hl (k := 6) rfl (Int32.ofInt_add _ _).symm (by decide) rfl (fun ls hl => ?_)
            refine lv_goto (tgt := 120) X.x X.b dX2_unite_214 (by decide) ?_
            exact ih i2 z17 (x4 + 1) x5 i6 (x7 + 1) σ17 _ _ _ m2 m6 hq w (lv_sub hl [3, 4, 2, 1, 5, 6, 0] rfl)
          · have hq := hq.2 c12
            refine lv_goto (tgt := 211) X.x X.b dX2_unite_176 (by decide) ?_
            refine lv_iinc (v := Int32.ofInt (x7 + 1)) (lv' := [(7, vI (x7 + 1)), (0, .ref (ad g 0 0)), (2, .ref (ad g 16 i2)), (3, vI x3), (4, vI x4), (5, vI x5), (6, .ref (ad g 14 i6))]) X.x X.b dX2_unite_211 hl (k := 6) rfl (Int32.ofInt_add _ _).symm (by decide) rfl (fun ls hl => ?_)
            refine lv_goto (tgt := 120) X.x X.b dX2_unite_214 (by decide) ?_
            exact ih i2 x3 x4 x5 i6 (x7 + 1) σ10 _ _ _ m2 m6 hq w (lv_sub hl [1, 2, 3, 4, 5, 6, 0] rfl)
set_option maxHeartbeats 4000000 in
set_option maxRecDepth 100000 in
theorem klX2_unite_99 {l : Launch} {p : Program} {e : Env} {s : State} {m : MethodId} {args : Array Value} {below : List Frame} {meth : Method} {c : Code} {D : va_G} {ids : Ids} {ad : Lay} {cA : Nat → ClassId} {A : Nat → Prop} {g : Nat} {P : Tab → Prop} (X : Cx p m c meth cX2_unite 8 s args RX2 D cA A nwW) (hr : meth.sig.returnType = none) (hg : HasH ids g) :
    ∀ (n : Nat) (i2 : Nat) (x3 : Int) (x4 : Int) (x5 : Int) (σ : Tab) (H : Heap) (locs : List Loc) (ls : Array Slot), i2 < 44 → wlX2_unite_99 g P n i2 x3 x4 x5 σ → ww D ids ad cA A σ s.heap H locs → lv_has ls 8 [(0, .ref (ad g 0 0)), (2, .ref (ad g 16 i2)), (3, vI x3), (4, vI x4), (5, vI x5)] → W p l e rmX2_unite s m args below meth c H locs 0 0 (MQ below (QV D ids ad cA A P) args s 0 0 A) (F0 m 99 ls []) := by
  intro n
  induction n with
  | zero => intro i2 x3 x4 x5 σ H locs ls m2 hq w hl; exact hq.elim
  | succ n ih =>
    intro i2 x3 x4 x5 σ H locs ls m2 hq w hl
    unfold wlX2_unite_99 at hq
    refine lv_iload X.x X.b dX2_unite_99 (lv_at hl 4 rfl) ?_
    refine lv_aload_n X.x X.b dX2_unite_101 rfl (lv_at hl 0 rfl) ?_
    refine x_get X w (hg 0 0 (by decide)) rfl in_X2 rfl 12 (by decide) q215 rfl rfl dX2_unite_102 ?_
    obtain ⟨o1, hq⟩ := hq
    obtain ⟨o2, hq⟩ := hq
    refine ra_icmp_ge (tgt := 223) X.x X.b o1 o2 dX2_unite_105 (by decide) (fun c3 => ?_) (fun c3 => ?_)
    · have hq := hq.1 c3
      refine lv_aload_n X.x X.b dX2_unite_223 rfl (lv_at hl 1 rfl) ?_
      refine lv_iload X.x X.b dX2_unite_224 (lv_at hl 3 rfl) ?_
      refine x_put (z := x4) X w (hg 16 i2 m2) rfl in_X6 tyX6 tyX6_ok nmX6 rfl 2 (by decide) q168 rfl rfl rfl rfl (Nat.le_of_ble_eq_true rfl) rfl dX2_unite_226 (fun σ4 H locs eσ4 w => ?_)
      have hq := hq σ4 eσ4
      refine lv_iload_n X.x X.b dX2_unite_229 rfl (lv_at hl 2 rfl) ?_
      refine lv_istore (lv' := [(5, vI x3), (0, .ref (ad g 0 0)), (2, .ref (ad g 16 i2)), (3, vI x3), (4, vI x4)]) X.x X.b dX2_unite_230 hl (by decide) rfl (fun ls hl => ?_)
      refine ra_iconst X.x X.b dX2_unite_232 ?_
      refine lv_istore (lv' := [(6, vI 0), (5, vI x3), (0, .ref (ad g 0 0)), (2, .ref (ad g 16 i2)), (3, vI x3), (4, vI x4)]) X.x X.b dX2_unite_233 hl (by decide) rfl (fun ls hl => ?_)
      obtain ⟨n5, hq⟩ := hq
      exact klX2_unite_235 X hr hg  n5 i2 x4 x3 0 σ4 _ _ _ m2 hq w (lv_sub hl [2, 3, 5, 1, 0] rfl)
    · have hq := hq.2 c3
      refine lv_aload_n X.x X.b dX2_unite_108 rfl (lv_at hl 0 rfl) ?_
      refine x_get X w (hg 0 0 (by decide)) rfl in_X2 rfl 1 (by decide) q200 rfl rfl dX2_unite_109 ?_
      refine lv_iload X.x X.b dX2_unite_112 (lv_at hl 4 rfl) ?_
      obtain ⟨o6, hq⟩ := hq
      refine x_aald X w (hg 2 0 (by decide)) (.object RX5) rfl rfl rfl (by decide) o6.1 o6.2 rfl dX2_unite_114 ?_
      refine lv_astore (lv' := [(6, .ref (ad g 14 x5.toNat)), (0, .ref (ad g 0 0)), (2, .ref (ad g 16 i2)), (3, vI x3), (4, vI x4), (5, vI x5)]) X.x X.b dX2_unite_115 hl (by decide) rfl (fun ls hl => ?_)
      refine ra_iconst X.x X.b dX2_unite_117 ?_
      refine lv_istore (lv' := [(7, vI 0), (6, .ref (ad g 14 x5.toNat)), (0, .ref (ad g 0 0)), (2, .ref (ad g 16 i2)), (3, vI x3), (4, vI x4), (5, vI x5)]) X.x X.b dX2_unite_118 hl (by decide) rfl (fun ls hl => ?_)
      obtain ⟨n7, hq⟩ := hq
      exact klX2_unite_120 X hr hg (fun a0 a1 a2 a3 τ H L ls b0 q w h => ih a0 a1 a2 a3 τ H L ls b0 q w h) n7 i2 x3 x4 x5 x5.toNat 0 σ _ _ _ m2 (tn o6) hq w (lv_sub hl [2, 3, 4, 5, 6, 1, 0] rfl)
set_option maxHeartbeats 4000000 in
set_option maxRecDepth 100000 in
theorem klX2_unite_28 {l : Launch} {p : Program} {e : Env} {s : State} {m : MethodId} {args : Array Value} {below : List Frame} {meth : Method} {c : Code} {D : va_G} {ids : Ids} {ad : Lay} {cA : Nat → ClassId} {A : Nat → Prop} {g : Nat} {P : Tab → Prop} (X : Cx p m c meth cX2_unite 8 s args RX2 D cA A nwW) (hr : meth.sig.returnType = none) (hg : HasH ids g) :
    ∀ (n : Nat) (x1 : Int) (i2 : Nat) (x3 : Int) (σ : Tab) (H : Heap) (locs : List Loc) (ls : Array Slot), i2 < 44 → wlX2_unite_28 g P n x1 i2 x3 σ → ww D ids ad cA A σ s.heap H locs → lv_has ls 8 [(0, .ref (ad g 0 0)), (1, vI x1), (2, .ref (ad g 16 i2)), (3, vI x3)] → W p l e rmX2_unite s m args below meth c H locs 0 0 (MQ below (QV D ids ad cA A P) args s 0 0 A) (F0 m 28 ls []) := by
  intro n
  induction n with
  | zero => intro x1 i2 x3 σ H locs ls m2 hq w hl; exact hq.elim
  | succ n ih =>
    intro x1 i2 x3 σ H locs ls m2 hq w hl
    unfold wlX2_unite_28 at hq
    refine lv_iload_n X.x X.b dX2_unite_28 rfl (lv_at hl 3 rfl) ?_
    refine lv_aload_n X.x X.b dX2_unite_29 rfl (lv_at hl 0 rfl) ?_
    refine x_get X w (hg 0 0 (by decide)) rfl in_X2 rfl 12 (by decide) q215 rfl rfl dX2_unite_30 ?_
    obtain ⟨o1, hq⟩ := hq
    obtain ⟨o2, hq⟩ := hq
    refine ra_icmp_ge (tgt := 91) X.x X.b o1 o2 dX2_unite_33 (by decide) (fun c3 => ?_) (fun c3 => ?_)
    · have hq := hq.1 c3
      refine ra_iconst X.x X.b dX2_unite_91 ?_
      refine lv_istore_n (lv' := [(3, vI (-1)), (0, .ref (ad g 0 0)), (1, vI x1), (2, .ref (ad g 16 i2))]) X.x X.b dX2_unite_92 rfl hl (by decide) rfl (fun ls hl => ?_)
      refine ra_iconst X.x X.b dX2_unite_93 ?_
      refine lv_istore (lv' := [(4, vI 0), (3, vI (-1)), (0, .ref (ad g 0 0)), (1, vI x1), (2, .ref (ad g 16 i2))]) X.x X.b dX2_unite_94 hl (by decide) rfl (fun ls hl => ?_)
      refine lv_iload_n X.x X.b dX2_unite_96 rfl (lv_at hl 3 rfl) ?_
      refine lv_istore (lv' := [(5, vI x1), (4, vI 0), (3, vI (-1)), (0, .ref (ad g 0 0)), (1, vI x1), (2, .ref (ad g 16 i2))]) X.x X.b dX2_unite_97 hl (by decide) rfl (fun ls hl => ?_)
      obtain ⟨n4, hq⟩ := hq
      exact klX2_unite_99 X hr hg  n4 i2 (-1) 0 x1 σ _ _ _ m2 hq w (lv_sub hl [3, 5, 2, 1, 0] rfl)
    · have hq := hq.2 c3
      refine lv_aload_n X.x X.b dX2_unite_36 rfl (lv_at hl 0 rfl) ?_
      refine x_get X w (hg 0 0 (by decide)) rfl in_X2 rfl 1 (by decide) q200 rfl rfl dX2_unite_37 ?_
      refine lv_iload_n X.x X.b dX2_unite_40 rfl (lv_at hl 3 rfl) ?_
      obtain ⟨o5, hq⟩ := hq
      refine x_aald X w (hg 2 0 (by decide)) (.object RX5) rfl rfl rfl (by decide) o5.1 o5.2 rfl dX2_unite_41 ?_
      refine lv_astore (lv' := [(4, .ref (ad g 14 x3.toNat)), (0, .ref (ad g 0 0)), (1, vI x1), (2, .ref (ad g 16 i2)), (3, vI x3)]) X.x X.b dX2_unite_42 hl (by decide) rfl (fun ls hl => ?_)
      refine lv_aload X.x X.b dX2_unite_44 (lv_at hl 0 rfl) ?_
      refine lv_aload X.x X.b dX2_unite_46 (lv_at hl 0 rfl) ?_
      refine x_get X w (hg 14 x3.toNat (tn o5)) rfl in_X5 rfl 5 (by decide) q140 rfl rfl dX2_unite_48 ?_
      obtain ⟨o6, hq⟩ := hq
      refine ra_if_ne (tgt := 77) X.x X.b o6 dX2_unite_51 (by decide) (fun c7 => ?_) (fun c7 => ?_)
      · have hq := hq.1 c7
        refine ra_iconst X.x X.b dX2_unite_77 ?_
        refine lv_goto (tgt := 82) X.x X.b dX2_unite_78 (by decide) ?_
        refine x_put (z := 1) X w (hg 14 x3.toNat (tn o5)) rfl in_X5 tyX5 tyX5_ok nmX5 rfl 5 (by decide) q140 rfl rfl (by decide) (by decide) (Nat.le_of_ble_eq_true rfl) rfl dX2_unite_82 (fun σ8 H locs eσ8 w => ?_)
        have hq := hq σ8 eσ8
        refine lv_iinc (v := Int32.ofInt (x3 + 1)) (lv' := [(3, vI (x3 + 1)), (4, .ref (ad g 14 x3.toNat)), (0, .ref (ad g 0 0)), (1, vI x1), (2, .ref (ad g 16 i2))]) X.x X.b dX2_unite_85 hl (k := 4) rfl (Int32.ofInt_add _ _).symm (by decide) rfl (fun ls hl => ?_)
        refine lv_goto (tgt := 28) X.x X.b dX2_unite_88 (by decide) ?_
        exact ih x1 i2 (x3 + 1) σ8 _ _ _ m2 hq w (lv_sub hl [2, 3, 4, 0] rfl)
      · have hq := hq.2 c7
        refine lv_aload X.x X.b dX2_unite_54 (lv_at hl 0 rfl) ?_
        refine x_get X w (hg 14 x3.toNat (tn o5)) rfl in_X5 rfl 4 (by decide) q139 rfl rfl dX2_unite_56 ?_
        obtain ⟨o9, hq⟩ := hq
        refine ra_if_eq (tgt := 81) X.x X.b o9 dX2_unite_59 (by decide) (fun c10 => ?_) (fun c10 => ?_)
        · have hq := hq.1 c10
          refine ra_iconst X.x X.b dX2_unite_81 ?_
          refine x_put (z := 0) X w (hg 14 x3.toNat (tn o5)) rfl in_X5 tyX5 tyX5_ok nmX5 rfl 5 (by decide) q140 rfl rfl (by decide) (by decide) (Nat.le_of_ble_eq_true rfl) rfl dX2_unite_82 (fun σ11 H locs eσ11 w => ?_)
          have hq := hq σ11 eσ11
          refine lv_iinc (v := Int32.ofInt (x3 + 1)) (lv' := [(3, vI (x3 + 1)), (4, .ref (ad g 14 x3.toNat)), (0, .ref (ad g 0 0)), (1, vI x1), (2, .ref (ad g 16 i2))]) X.x X.b dX2_unite_85 hl (k := 4) rfl (Int32.ofInt_add _ _).symm (by decide) rfl (fun ls hl => ?_)
          refine lv_goto (tgt := 28) X.x X.b dX2_unite_88 (by decide) ?_
          exact ih x1 i2 (x3 + 1) σ11 _ _ _ m2 hq w (lv_sub hl [2, 3, 4, 0] rfl)
        · have hq := hq.2 c10
          refine lv_aload X.x X.b dX2_unite_62 (lv_at hl 0 rfl) ?_
          refine x_get X w (hg 14 x3.toNat (tn o5)) rfl in_X5 rfl 0 (by decide) q132 rfl rfl dX2_unite_64 ?_
          refine lv_aload_n X.x X.b dX2_unite_67 rfl (lv_at hl 3 rfl) ?_
          refine x_get X w (hg 16 i2 m2) rfl in_X6 rfl 0 (by decide) q162 rfl rfl dX2_unite_68 ?_
          refine x_callVi (n := 1) (As := [.ref (ad g 17 i2)]) (rest := [.ref (ad g 14 x3.toNat)]) X w (hg 15 x3.toNat (tn o5)) rfl rfl (mX3_same l D ids ad cA A g 15 x3.toNat (hg 15 x3.toNat (tn o5)) (by unfold isPl; decide) g 17 i2 (hg 17 i2 m2) (by unfold isPl; decide) σ _ hq) (lw_V q496 q497 q498 q38 q499) ⟨rfl, rfl⟩ (by decide +kernel) ⟨Nat.le_of_ble_eq_true rfl, Nat.le_of_ble_eq_true rfl⟩ ⟨Nat.le_refl _, Nat.le_refl _⟩ rfl hl.1 rfl (Nat.le_of_ble_eq_true rfl) dX2_unite_71 (fun z12 σ12 H locs hq w => ?_)
          obtain ⟨o13, hq⟩ := hq
          refine ra_if_eq (tgt := 81) X.x X.b o13 dX2_unite_74 (by decide) (fun c14 => ?_) (fun c14 => ?_)
          · have hq := hq.1 c14
            refine ra_iconst X.x X.b dX2_unite_81 ?_
            refine x_put (z := 0) X w (hg 14 x3.toNat (tn o5)) rfl in_X5 tyX5 tyX5_ok nmX5 rfl 5 (by decide) q140 rfl rfl (by decide) (by decide) (Nat.le_of_ble_eq_true rfl) rfl dX2_unite_82 (fun σ15 H locs eσ15 w => ?_)
            have hq := hq σ15 eσ15
            refine lv_iinc (v := Int32.ofInt (x3 + 1)) (lv' := [(3, vI (x3 + 1)), (4, .ref (ad g 14 x3.toNat)), (0, .ref (ad g 0 0)), (1, vI x1), (2, .ref (ad g 16 i2))]) X.x X.b dX2_unite_85 hl (k := 4) rfl (Int32.ofInt_add _ _).symm (by decide) rfl (fun ls hl => ?_)
            refine lv_goto (tgt := 28) X.x X.b dX2_unite_88 (by decide) ?_
            exact ih x1 i2 (x3 + 1) σ15 _ _ _ m2 hq w (lv_sub hl [2, 3, 4, 0] rfl)
          · have hq := hq.2 c14
            refine ra_iconst X.x X.b dX2_unite_77 ?_
            refine lv_goto (tgt := 82) X.x X.b dX2_unite_78 (by decide) ?_
            refine x_put (z := 1) X w (hg 14 x3.toNat (tn o5)) rfl in_X5 tyX5 tyX5_ok nmX5 rfl 5 (by decide) q140 rfl rfl (by decide) (by decide) (Nat.le_of_ble_eq_true rfl) rfl dX2_unite_82 (fun σ16 H locs eσ16 w => ?_)
            have hq := hq σ16 eσ16
            refine lv_iinc (v := Int32.ofInt (x3 + 1)) (lv' := [(3, vI (x3 + 1)), (4, .ref (ad g 14 x3.toNat)), (0, .ref (ad g 0 0)), (1, vI x1), (2, .ref (ad g 16 i2))]) X.x X.b dX2_unite_85 hl (k := 4) rfl (Int32.ofInt_add _ _).symm (by decide) rfl (fun ls hl => ?_)
            refine lv_goto (tgt := 28) X.x X.b dX2_unite_88 (by decide) ?_
            exact ih x1 i2 (x3 + 1) σ16 _ _ _ m2 hq w (lv_sub hl [2, 3, 4, 0] rfl)
set_option maxHeartbeats 4000000 in
set_option maxRecDepth 100000 in
theorem mX2_unite (l : Launch) (D : va_G) (ids : Ids) (ad : Lay) (cA : Nat → ClassId) (A : Nat → Prop) (g : Nat) (hg : HasH ids g) (x1 : Int) (σ : Tab) (P : Tab → Prop) (hq : wpX2_unite g x1 σ P) : Met l yX2_unite (ws_ yX2_unite cX2_unite 8 (none)) rmX2_unite (PcW D ids ad cA A σ [.ref (ad g 0 0), vI x1]) (QV D ids ad cA A P) 0 0 A := by
  refine m_entry (own := RX2) (by decide) (Nat.le_of_ble_eq_true rfl) rfl ?_
  intro p e s m below meth c ls X hr w hl
  have hl : lv_has ls 8 [(0, .ref (ad g 0 0)), (1, vI x1)] := hl
  unfold wpX2_unite at hq
  refine lv_aload_n X.x X.b dX2_unite_0 rfl (lv_at hl 0 rfl) ?_
  refine x_get X w (hg 0 0 (by decide)) rfl in_X2 rfl 2 (by decide) q201 rfl rfl dX2_unite_1 ?_
  refine lv_aload_n X.x X.b dX2_unite_4 rfl (lv_at hl 0 rfl) ?_
  refine x_get X w (hg 0 0 (by decide)) rfl in_X2 rfl 13 (by decide) q216 rfl rfl dX2_unite_5 ?_
  obtain ⟨o1, hq⟩ := hq
  refine x_aald X w (hg 3 0 (by decide)) (.object RX6) rfl rfl rfl (by decide) o1.1 o1.2 rfl dX2_unite_8 ?_
  obtain ⟨o2, hq⟩ := hq
  refine lv_astore_n (lv' := [(2, .ref (ad g 16 ((σ g 3 0 ((σ g 0 0 13).toNat)).toNat))), (0, .ref (ad g 0 0)), (1, vI x1)]) X.x X.b dX2_unite_9 rfl hl (by decide) rfl (fun ls hl => ?_)
  refine lv_aload_n X.x X.b dX2_unite_10 rfl (lv_at hl 0 rfl) ?_
  refine x_get X w (hg 16 ((σ g 3 0 ((σ g 0 0 13).toNat)).toNat) (tn o2)) rfl in_X6 rfl 0 (by decide) q162 rfl rfl dX2_unite_11 ?_
  refine lv_aload_n X.x X.b dX2_unite_14 rfl (lv_at hl 1 rfl) ?_
  refine x_get X w (hg 0 0 (by decide)) rfl in_X2 rfl 1 (by decide) q200 rfl rfl dX2_unite_15 ?_
  refine lv_iload_n X.x X.b dX2_unite_18 rfl (lv_at hl 2 rfl) ?_
  obtain ⟨o3, hq⟩ := hq
  refine x_aald X w (hg 2 0 (by decide)) (.object RX5) rfl rfl rfl (by decide) o3.1 o3.2 rfl dX2_unite_19 ?_
  refine x_get X w (hg 14 x1.toNat (tn o3)) rfl in_X5 rfl 0 (by decide) q132 rfl rfl dX2_unite_20 ?_
  refine x_callVv (n := 1) (As := [.ref (ad g 15 x1.toNat)]) (rest := []) X w (hg 17 ((σ g 3 0 ((σ g 0 0 13).toNat)).toNat) (tn o2)) rfl rfl (mX3_copy l D ids ad cA A g 17 ((σ g 3 0 ((σ g 0 0 13).toNat)).toNat) (hg 17 ((σ g 3 0 ((σ g 0 0 13).toNat)).toNat) (tn o2)) (by unfold isPl; decide) g 15 x1.toNat (hg 15 x1.toNat (tn o3)) (by unfold isPl; decide) σ _ hq) (lw_V q492 q493 q494 q38 q495) ⟨rfl, rfl⟩ (by decide +kernel) ⟨Nat.le_of_ble_eq_true rfl, Nat.le_of_ble_eq_true rfl⟩ ⟨Nat.le_refl _, Nat.le_refl _⟩ rfl hl.1 rfl (Nat.le_of_ble_eq_true rfl) dX2_unite_23 (fun σ4 H locs hq w => ?_)
  refine lv_iload_n X.x X.b dX2_unite_26 rfl (lv_at hl 2 rfl) ?_
  refine lv_istore_n (lv' := [(3, vI x1), (2, .ref (ad g 16 ((σ g 3 0 ((σ g 0 0 13).toNat)).toNat))), (0, .ref (ad g 0 0)), (1, vI x1)]) X.x X.b dX2_unite_27 rfl hl (by decide) rfl (fun ls hl => ?_)
  obtain ⟨n5, hq⟩ := hq
  exact klX2_unite_28 X hr hg  n5 x1 ((σ g 3 0 ((σ g 0 0 13).toNat)).toNat) x1 σ4 _ _ _ (tn o2) hq w (lv_sub hl [2, 3, 1, 0] rfl)
def wlX2_order_58 (g : Nat) (P : Tab → Prop) (K2 : Int → Tab → Prop) (x1 : Int) (i2 : Nat) (x3 : Int) (σ : Tab) : Prop := ((0 ≤ x3 ∧ x3 < 44) ∧ (∀ σ2 : Tab, σ2 = st σ g 3 0 x3.toNat (((i2 : Nat) : Int)) → K2 (x1 + 1) σ2))
def wlX2_order_19 (g : Nat) (P : Tab → Prop) (K2 : Int → Tab → Prop) : Nat → Int → Nat → Int → Tab → Prop
  | 0, _, _, _, _ => False
  | n + 1, x1, i2, x3, σ => (inI x3 ∧ ((x3 ≤ 0 → wlX2_order_58 g P K2 x1 i2 x3 σ) ∧ (¬ (x3 ≤ 0) → ((0 ≤ x3 - 1 ∧ x3 - 1 < 44) ∧ ((0 ≤ σ g 3 0 ((x3 - 1).toNat) ∧ σ g 3 0 ((x3 - 1).toNat) < 44) ∧ wpX6_before g i2 ((σ g 3 0 ((x3 - 1).toNat)).toNat) σ (fun z5 σ5 => (inI z5 ∧ ((z5 = 0 → wlX2_order_58 g P K2 x1 i2 x3 σ5) ∧ (¬ (z5 = 0) → ((0 ≤ x3 - 1 ∧ x3 - 1 < 44) ∧ ((0 ≤ σ5 g 3 0 ((x3 - 1).toNat) ∧ σ5 g 3 0 ((x3 - 1).toNat) < 44) ∧ ((0 ≤ x3 ∧ x3 < 44) ∧ (∀ σ11 : Tab, σ11 = st σ5 g 3 0 x3.toNat ((σ5 g 3 0 ((x3 - 1).toNat))) → wlX2_order_19 g P K2 n x1 i2 (x3 + (-1)) σ11)))))))))))))
def wlX2_order_2 (g : Nat) (P : Tab → Prop) : Nat → Int → Tab → Prop
  | 0, _, _ => False
  | n + 1, x1, σ => (inI x1 ∧ (inI (σ g 0 0 13) ∧ ((σ g 0 0 13 ≤ x1 → P σ) ∧ (¬ (σ g 0 0 13 ≤ x1) → ((0 ≤ x1 ∧ x1 < 44) ∧ ((0 ≤ σ g 3 0 x1.toNat ∧ σ g 3 0 x1.toNat < 44) ∧ (∃ k : Nat, wlX2_order_19 g P (fun x1 τ => wlX2_order_2 g P n x1 τ) k x1 ((σ g 3 0 x1.toNat).toNat) x1 σ)))))))
def wpX2_order (g : Nat) (σ : Tab) (P : Tab → Prop) : Prop := (∃ k : Nat, wlX2_order_2 g P k 1 σ)
abbrev rmX2_order : Room := { frames := 1, cells := 0, slots := 0, locals := 21 }
set_option maxHeartbeats 4000000 in
set_option maxRecDepth 100000 in
theorem klX2_order_58 {l : Launch} {p : Program} {e : Env} {s : State} {m : MethodId} {args : Array Value} {below : List Frame} {meth : Method} {c : Code} {D : va_G} {ids : Ids} {ad : Lay} {cA : Nat → ClassId} {A : Nat → Prop} {g : Nat} {P : Tab → Prop} {K2 : Int → Tab → Prop} (X : Cx p m c meth cX2_order 4 s args RX2 D cA A nwW) (hr : meth.sig.returnType = none) (hg : HasH ids g) (kk2 : ∀ (x1 : Int) (σ : Tab) (H : Heap) (locs : List Loc) (ls : Array Slot), K2 x1 σ → ww D ids ad cA A σ s.heap H locs → lv_has ls 4 [(0, .ref (ad g 0 0)), (1, vI x1)] → W p l e rmX2_order s m args below meth c H locs 0 0 (MQ below (QV D ids ad cA A P) args s 0 0 A) (F0 m 2 ls [])) :
    ∀ (x1 : Int) (i2 : Nat) (x3 : Int) (σ : Tab) (H : Heap) (locs : List Loc) (ls : Array Slot), i2 < 44 → wlX2_order_58 g P K2 x1 i2 x3 σ → ww D ids ad cA A σ s.heap H locs → lv_has ls 4 [(0, .ref (ad g 0 0)), (1, vI x1), (2, .ref (ad g 16 i2)), (3, vI x3)] → W p l e rmX2_order s m args below meth c H locs 0 0 (MQ below (QV D ids ad cA A P) args s 0 0 A) (F0 m 58 ls []) := by
  intro x1 i2 x3 σ H locs ls m2 hq w hl
  unfold wlX2_order_58 at hq
  refine lv_aload_n X.x X.b dX2_order_58 rfl (lv_at hl 0 rfl) ?_
  refine x_get X w (hg 0 0 (by decide)) rfl in_X2 rfl 2 (by decide) q201 rfl rfl dX2_order_59 ?_
  refine lv_iload_n X.x X.b dX2_order_62 rfl (lv_at hl 3 rfl) ?_
  refine lv_aload_n X.x X.b dX2_order_63 rfl (lv_at hl 2 rfl) ?_
  obtain ⟨o1, hq⟩ := hq
  refine x_fast (z := (((i2 : Nat) : Int))) X w (hg 3 0 (by decide)) (hg 16 i2 m2) o1.1 o1.2 dX2_order_64 (fun σ2 H locs eσ2 w => ?_)
  have hq := hq σ2 eσ2
  refine lv_iinc (v := Int32.ofInt (x1 + 1)) (lv' := [(1, vI (x1 + 1)), (0, .ref (ad g 0 0)), (2, .ref (ad g 16 i2)), (3, vI x3)]) X.x X.b dX2_order_65 hl (k := 1) rfl (Int32.ofInt_add _ _).symm (by decide) rfl (fun ls hl => ?_)
  refine lv_goto (tgt := 2) X.x X.b dX2_order_68 (by decide) ?_
  exact kk2 (x1 + 1) σ2 _ _ _ hq w (lv_sub hl [1, 0] rfl)
set_option maxHeartbeats 4000000 in
set_option maxRecDepth 100000 in
theorem klX2_order_19 {l : Launch} {p : Program} {e : Env} {s : State} {m : MethodId} {args : Array Value} {below : List Frame} {meth : Method} {c : Code} {D : va_G} {ids : Ids} {ad : Lay} {cA : Nat → ClassId} {A : Nat → Prop} {g : Nat} {P : Tab → Prop} {K2 : Int → Tab → Prop} (X : Cx p m c meth cX2_order 4 s args RX2 D cA A nwW) (hr : meth.sig.returnType = none) (hg : HasH ids g) (kk2 : ∀ (x1 : Int) (σ : Tab) (H : Heap) (locs : List Loc) (ls : Array Slot), K2 x1 σ → ww D ids ad cA A σ s.heap H locs → lv_has ls 4 [(0, .ref (ad g 0 0)), (1, vI x1)] → W p l e rmX2_order s m args below meth c H locs 0 0 (MQ below (QV D ids ad cA A P) args s 0 0 A) (F0 m 2 ls [])) :
    ∀ (n : Nat) (x1 : Int) (i2 : Nat) (x3 : Int) (σ : Tab) (H : Heap) (locs : List Loc) (ls : Array Slot), i2 < 44 → wlX2_order_19 g P K2 n x1 i2 x3 σ → ww D ids ad cA A σ s.heap H locs → lv_has ls 4 [(0, .ref (ad g 0 0)), (1, vI x1), (2, .ref (ad g 16 i2)), (3, vI x3)] → W p l e rmX2_order s m args below meth c H locs 0 0 (MQ below (QV D ids ad cA A P) args s 0 0 A) (F0 m 19 ls []) := by
  intro n
  induction n with
  | zero => intro x1 i2 x3 σ H locs ls m2 hq w hl; exact hq.elim
  | succ n ih =>
    intro x1 i2 x3 σ H locs ls m2 hq w hl
    unfold wlX2_order_19 at hq
    refine lv_iload_n X.x X.b dX2_order_19 rfl (lv_at hl 3 rfl) ?_
    obtain ⟨o1, hq⟩ := hq
    refine ra_if_le (tgt := 58) X.x X.b o1 dX2_order_20 (by decide) (fun c2 => ?_) (fun c2 => ?_)
    · have hq := hq.1 c2
      exact klX2_order_58 X hr hg kk2 x1 i2 x3 σ _ _ _ m2 hq w (lv_sub hl [0, 1, 2, 3] rfl)
    · have hq := hq.2 c2
      refine lv_aload_n X.x X.b dX2_order_23 rfl (lv_at hl 2 rfl) ?_
      refine lv_aload_n X.x X.b dX2_order_24 rfl (lv_at hl 0 rfl) ?_
      refine x_get X w (hg 0 0 (by decide)) rfl in_X2 rfl 2 (by decide) q201 rfl rfl dX2_order_25 ?_
      refine lv_iload_n X.x X.b dX2_order_28 rfl (lv_at hl 3 rfl) ?_
      refine ra_iconst X.x X.b dX2_order_29 ?_
      refine ra_isub X.x X.b dX2_order_30 ?_
      obtain ⟨o3, hq⟩ := hq
      refine x_aald X w (hg 3 0 (by decide)) (.object RX6) rfl rfl rfl (by decide) o3.1 o3.2 rfl dX2_order_31 ?_
      obtain ⟨o4, hq⟩ := hq
      refine x_callVi (n := 1) (As := [.ref (ad g 16 ((σ g 3 0 ((x3 - 1).toNat)).toNat))]) (rest := []) X w (hg 16 i2 m2) rfl rfl (mX6_before l D ids ad cA A g hg i2 m2 ((σ g 3 0 ((x3 - 1).toNat)).toNat) (tn o4) σ _ hq) (lw_V q515 q516 q517 q41 q518) ⟨rfl, rfl⟩ (by decide +kernel) ⟨Nat.le_of_ble_eq_true rfl, Nat.le_of_ble_eq_true rfl⟩ ⟨Nat.le_refl _, Nat.le_refl _⟩ rfl hl.1 rfl (Nat.le_of_ble_eq_true rfl) dX2_order_32 (fun z5 σ5 H locs hq w => ?_)
      obtain ⟨o6, hq⟩ := hq
      refine ra_if_eq (tgt := 58) X.x X.b o6 dX2_order_35 (by decide) (fun c7 => ?_) (fun c7 => ?_)
      · have hq := hq.1 c7
        exact klX2_order_58 X hr hg kk2 x1 i2 x3 σ5 _ _ _ m2 hq w (lv_sub hl [0, 1, 2, 3] rfl)
      · have hq := hq.2 c7
        refine lv_aload_n X.x X.b dX2_order_38 rfl (lv_at hl 0 rfl) ?_
        refine x_get X w (hg 0 0 (by decide)) rfl in_X2 rfl 2 (by decide) q201 rfl rfl dX2_order_39 ?_
        refine lv_iload_n X.x X.b dX2_order_42 rfl (lv_at hl 3 rfl) ?_
        refine lv_aload_n X.x X.b dX2_order_43 rfl (lv_at hl 0 rfl) ?_
        refine x_get X w (hg 0 0 (by decide)) rfl in_X2 rfl 2 (by decide) q201 rfl rfl dX2_order_44 ?_
        refine lv_iload_n X.x X.b dX2_order_47 rfl (lv_at hl 3 rfl) ?_
        refine ra_iconst X.x X.b dX2_order_48 ?_
        refine ra_isub X.x X.b dX2_order_49 ?_
        obtain ⟨o8, hq⟩ := hq
        refine x_aald X w (hg 3 0 (by decide)) (.object RX6) rfl rfl rfl (by decide) o8.1 o8.2 rfl dX2_order_50 ?_
        obtain ⟨o9, hq⟩ := hq
        obtain ⟨o10, hq⟩ := hq
        refine x_fast (z := ((σ5 g 3 0 ((x3 - 1).toNat)))) X w (hg 3 0 (by decide)) (hg 16 ((σ5 g 3 0 ((x3 - 1).toNat)).toNat) (tn o9)) o10.1 o10.2 dX2_order_51 (fun σ11 H locs eσ11 w => ?_)
        have hq := hq σ11 eσ11
        refine lv_iinc (v := Int32.ofInt (x3 + (-1))) (lv' := [(3, vI (x3 + (-1))), (0, .ref (ad g 0 0)), (1, vI x1), (2, .ref (ad g 16 i2))]) X.x X.b dX2_order_52 hl (k := 3) rfl (Int32.ofInt_add _ _).symm (by decide) rfl (fun ls hl => ?_)
        refine lv_goto (tgt := 19) X.x X.b dX2_order_55 (by decide) ?_
        exact ih x1 i2 (x3 + (-1)) σ11 _ _ _ m2 hq w (lv_sub hl [1, 2, 3, 0] rfl)
set_option maxHeartbeats 4000000 in
set_option maxRecDepth 100000 in
theorem klX2_order_2 {l : Launch} {p : Program} {e : Env} {s : State} {m : MethodId} {args : Array Value} {below : List Frame} {meth : Method} {c : Code} {D : va_G} {ids : Ids} {ad : Lay} {cA : Nat → ClassId} {A : Nat → Prop} {g : Nat} {P : Tab → Prop} (X : Cx p m c meth cX2_order 4 s args RX2 D cA A nwW) (hr : meth.sig.returnType = none) (hg : HasH ids g) :
    ∀ (n : Nat) (x1 : Int) (σ : Tab) (H : Heap) (locs : List Loc) (ls : Array Slot), wlX2_order_2 g P n x1 σ → ww D ids ad cA A σ s.heap H locs → lv_has ls 4 [(0, .ref (ad g 0 0)), (1, vI x1)] → W p l e rmX2_order s m args below meth c H locs 0 0 (MQ below (QV D ids ad cA A P) args s 0 0 A) (F0 m 2 ls []) := by
  intro n
  induction n with
  | zero => intro x1 σ H locs ls hq w hl; exact hq.elim
  | succ n ih =>
    intro x1 σ H locs ls hq w hl
    unfold wlX2_order_2 at hq
    refine lv_iload_n X.x X.b dX2_order_2 rfl (lv_at hl 1 rfl) ?_
    refine lv_aload_n X.x X.b dX2_order_3 rfl (lv_at hl 0 rfl) ?_
    refine x_get X w (hg 0 0 (by decide)) rfl in_X2 rfl 13 (by decide) q216 rfl rfl dX2_order_4 ?_
    obtain ⟨o1, hq⟩ := hq
    obtain ⟨o2, hq⟩ := hq
    refine ra_icmp_ge (tgt := 71) X.x X.b o1 o2 dX2_order_7 (by decide) (fun c3 => ?_) (fun c3 => ?_)
    · have hq := hq.1 c3
      exact x_vret X hr w hq dX2_order_71
    · have hq := hq.2 c3
      refine lv_aload_n X.x X.b dX2_order_10 rfl (lv_at hl 0 rfl) ?_
      refine x_get X w (hg 0 0 (by decide)) rfl in_X2 rfl 2 (by decide) q201 rfl rfl dX2_order_11 ?_
      refine lv_iload_n X.x X.b dX2_order_14 rfl (lv_at hl 1 rfl) ?_
      obtain ⟨o4, hq⟩ := hq
      refine x_aald X w (hg 3 0 (by decide)) (.object RX6) rfl rfl rfl (by decide) o4.1 o4.2 rfl dX2_order_15 ?_
      obtain ⟨o5, hq⟩ := hq
      refine lv_astore_n (lv' := [(2, .ref (ad g 16 ((σ g 3 0 x1.toNat).toNat))), (0, .ref (ad g 0 0)), (1, vI x1)]) X.x X.b dX2_order_16 rfl hl (by decide) rfl (fun ls hl => ?_)
      refine lv_iload_n X.x X.b dX2_order_17 rfl (lv_at hl 2 rfl) ?_
      refine lv_istore_n (lv' := [(3, vI x1), (2, .ref (ad g 16 ((σ g 3 0 x1.toNat).toNat))), (0, .ref (ad g 0 0)), (1, vI x1)]) X.x X.b dX2_order_18 rfl hl (by decide) rfl (fun ls hl => ?_)
      obtain ⟨n6, hq⟩ := hq
      exact klX2_order_19 X hr hg (fun a0 τ H L ls q w h => ih a0 τ H L ls q w h) n6 x1 ((σ g 3 0 x1.toNat).toNat) x1 σ _ _ _ (tn o5) hq w (lv_sub hl [2, 3, 1, 0] rfl)
set_option maxHeartbeats 4000000 in
set_option maxRecDepth 100000 in
theorem mX2_order (l : Launch) (D : va_G) (ids : Ids) (ad : Lay) (cA : Nat → ClassId) (A : Nat → Prop) (g : Nat) (hg : HasH ids g) (σ : Tab) (P : Tab → Prop) (hq : wpX2_order g σ P) : Met l yX2_order (ws_ yX2_order cX2_order 4 (none)) rmX2_order (PcW D ids ad cA A σ [.ref (ad g 0 0)]) (QV D ids ad cA A P) 0 0 A := by
  refine m_entry (own := RX2) (by decide) (Nat.le_of_ble_eq_true rfl) rfl ?_
  intro p e s m below meth c ls X hr w hl
  have hl : lv_has ls 4 [(0, .ref (ad g 0 0))] := hl
  unfold wpX2_order at hq
  refine ra_iconst X.x X.b dX2_order_0 ?_
  refine lv_istore_n (lv' := [(1, vI 1), (0, .ref (ad g 0 0))]) X.x X.b dX2_order_1 rfl hl (by decide) rfl (fun ls hl => ?_)
  obtain ⟨n1, hq⟩ := hq
  exact klX2_order_2 X hr hg  n1 1 σ _ _ _ hq w (lv_sub hl [1, 0] rfl)
end
