/-! the walk of X2_join X2_build (written by wip/D-68248w/tools/genwalk.py) -/
section
def wlX2_join_167 (g : Nat) (P : Tab → Prop) (K138 : Int → Tab → Prop) : Nat → Int → Int → Tab → Prop
  | 0, _, _, _ => False
  | n + 1, x1, x2, σ => (inI x2 ∧ ((24 ≤ x2 → K138 (x1 + 1) σ) ∧ (¬ (24 ≤ x2) → ((0 ≤ x1 ∧ x1 < 24) ∧ ((0 ≤ x2 ∧ x2 < 24) ∧ (inI (σ g 11 x1.toNat x2.toNat) ∧ ((σ g 11 x1.toNat x2.toNat ≠ 0 → ((0 ≤ σ g 0 0 14 ∧ σ g 0 0 14 < 66) ∧ (∀ σ8 : Tab, σ8 = st σ g 19 ((σ g 0 0 14).toNat) 0 x1 → (∀ σ9 : Tab, σ9 = st σ8 g 19 ((σ g 0 0 14).toNat) 1 x2 → wpX2_faceOf g x1 x2 σ9 (fun z10 σ10 => (∀ σ11 : Tab, σ11 = st σ10 g 19 ((σ g 0 0 14).toNat) 2 z10 → wpX2_faceOf g x2 x1 σ11 (fun z12 σ12 => (∀ σ13 : Tab, σ13 = st σ12 g 19 ((σ g 0 0 14).toNat) 3 z12 → (∀ σ14 : Tab, σ14 = st σ13 g 0 0 14 ((σ13 g 0 0 14) + 1) → wlX2_join_167 g P K138 n x1 (x2 + 1) σ14))))))))) ∧ (¬ (σ g 11 x1.toNat x2.toNat ≠ 0) → wlX2_join_167 g P K138 n x1 (x2 + 1) σ))))))))
def wlX2_join_138 (g : Nat) (P : Tab → Prop) : Nat → Int → Tab → Prop
  | 0, _, _ => False
  | n + 1, x1, σ => (inI x1 ∧ ((24 ≤ x1 → P σ) ∧ (¬ (24 ≤ x1) → ((0 ≤ x1 ∧ x1 < 24) ∧ (inI (σ g 9 0 x1.toNat) ∧ ((σ g 9 0 x1.toNat = 0 → (∃ k : Nat, wlX2_join_167 g P (fun x1 τ => wlX2_join_138 g P n x1 τ) k x1 (x1 + 1) σ)) ∧ (¬ (σ g 9 0 x1.toNat = 0) → (∀ σ7 : Tab, σ7 = st σ g 0 0 15 ((σ g 0 0 15) + 1) → (∃ k : Nat, wlX2_join_167 g P (fun x1 τ => wlX2_join_138 g P n x1 τ) k x1 (x1 + 1) σ7)))))))))
def wlX2_join_56 (g : Nat) (P : Tab → Prop) (K46 : Int → Tab → Prop) : Nat → Int → Int → Tab → Prop
  | 0, _, _, _ => False
  | n + 1, x1, x2, σ => ((0 ≤ x1 ∧ x1 < 44) ∧ ((0 ≤ σ g 3 0 x1.toNat ∧ σ g 3 0 x1.toNat < 44) ∧ (inI x2 ∧ (inI (σ g 16 ((σ g 3 0 x1.toNat).toNat) 2) ∧ ((σ g 16 ((σ g 3 0 x1.toNat).toNat) 2 ≤ x2 → K46 (x1 + 1) σ) ∧ (¬ (σ g 16 ((σ g 3 0 x1.toNat).toNat) 2 ≤ x2) → ((0 ≤ x2 ∧ x2 < 24) ∧ ((0 ≤ σ g 18 ((σ g 3 0 x1.toNat).toNat) x2.toNat ∧ σ g 18 ((σ g 3 0 x1.toNat).toNat) x2.toNat < 24) ∧ (∀ σ8 : Tab, σ8 = st σ g 9 0 ((σ g 18 ((σ g 3 0 x1.toNat).toNat) x2.toNat).toNat) 1 → ((0 ≤ σ8 g 3 0 x1.toNat ∧ σ8 g 3 0 x1.toNat < 44) ∧ ((0 ≤ σ8 g 18 ((σ8 g 3 0 x1.toNat).toNat) x2.toNat ∧ σ8 g 18 ((σ8 g 3 0 x1.toNat).toNat) x2.toNat < 24) ∧ wpX6_next g ((σ8 g 3 0 x1.toNat).toNat) x2 σ8 (fun z11 σ11 => ((0 ≤ z11 ∧ z11 < 24) ∧ (∀ σ13 : Tab, σ13 = st σ11 g 11 ((σ8 g 18 ((σ8 g 3 0 x1.toNat).toNat) x2.toNat).toNat) z11.toNat 1 → wlX2_join_56 g P K46 n x1 (x2 + 1) σ13))))))))))))))
def wlX2_join_46 (g : Nat) (P : Tab → Prop) : Nat → Int → Tab → Prop
  | 0, _, _ => False
  | n + 1, x1, σ => (inI x1 ∧ (inI (σ g 0 0 13) ∧ ((σ g 0 0 13 ≤ x1 → (∀ σ4 : Tab, σ4 = st σ g 0 0 14 0 → (∀ σ5 : Tab, σ5 = st σ4 g 0 0 15 0 → (∃ k : Nat, wlX2_join_138 g P k 0 σ5)))) ∧ (¬ (σ g 0 0 13 ≤ x1) → (∃ k : Nat, wlX2_join_56 g P (fun x1 τ => wlX2_join_46 g P n x1 τ) k x1 0 σ)))))
def wlX2_join_17 (g : Nat) (P : Tab → Prop) (K2 : Int → Tab → Prop) : Nat → Int → Int → Tab → Prop
  | 0, _, _, _ => False
  | n + 1, x1, x2, σ => (inI x2 ∧ ((24 ≤ x2 → K2 (x1 + 1) σ) ∧ (¬ (24 ≤ x2) → ((0 ≤ x1 ∧ x1 < 24) ∧ ((0 ≤ x2 ∧ x2 < 24) ∧ (∀ σ5 : Tab, σ5 = st σ g 11 x1.toNat x2.toNat 0 → wlX2_join_17 g P K2 n x1 (x2 + 1) σ5))))))
def wlX2_join_2 (g : Nat) (P : Tab → Prop) : Nat → Int → Tab → Prop
  | 0, _, _ => False
  | n + 1, x1, σ => (inI x1 ∧ ((24 ≤ x1 → (∃ k : Nat, wlX2_join_46 g P k 0 σ)) ∧ (¬ (24 ≤ x1) → ((0 ≤ x1 ∧ x1 < 24) ∧ (∀ σ5 : Tab, σ5 = st σ g 9 0 x1.toNat 0 → (∃ k : Nat, wlX2_join_17 g P (fun x1 τ => wlX2_join_2 g P n x1 τ) k x1 0 σ5))))))
def wpX2_join (g : Nat) (σ : Tab) (P : Tab → Prop) : Prop := (∃ k : Nat, wlX2_join_2 g P k 0 σ)
abbrev rmX2_join : Room := { frames := 2, cells := 0, slots := 0, locals := 45 }
set_option maxHeartbeats 4000000 in
set_option maxRecDepth 100000 in
theorem klX2_join_167 {l : Launch} {p : Program} {e : Env} {s : State} {m : MethodId} {args : Array Value} {below : List Frame} {meth : Method} {c : Code} {D : va_G} {ids : Ids} {ad : Lay} {cA : Nat → ClassId} {A : Nat → Prop} {g : Nat} {P : Tab → Prop} {K138 : Int → Tab → Prop} (X : Cx p m c meth cX2_join 4 s args RX2 D cA A nwW) (hr : meth.sig.returnType = none) (hg : HasH ids g) (kk138 : ∀ (x1 : Int) (σ : Tab) (H : Heap) (locs : List Loc) (ls : Array Slot), K138 x1 σ → ww D ids ad cA A σ s.heap H locs → lv_has ls 4 [(0, .ref (ad g 0 0)), (1, vI x1)] → W p l e rmX2_join s m args below meth c H locs 0 0 (MQ below (QV D ids ad cA A P) args s 0 0 A) (F0 m 138 ls [])) :
    ∀ (n : Nat) (x1 : Int) (x2 : Int) (σ : Tab) (H : Heap) (locs : List Loc) (ls : Array Slot), wlX2_join_167 g P K138 n x1 x2 σ → ww D ids ad cA A σ s.heap H locs → lv_has ls 4 [(0, .ref (ad g 0 0)), (1, vI x1), (2, vI x2)] → W p l e rmX2_join s m args below meth c H locs 0 0 (MQ below (QV D ids ad cA A P) args s 0 0 A) (F0 m 167 ls []) := by
  intro n
  induction n with
  | zero => intro x1 x2 σ H locs ls hq w hl; exact hq.elim
  | succ n ih =>
    intro x1 x2 σ H locs ls hq w hl
    unfold wlX2_join_167 at hq
    refine lv_iload_n X.x X.b dX2_join_167 rfl (lv_at hl 2 rfl) ?_
    refine ra_bipush X.x X.b dX2_join_168 rfl ?_
    obtain ⟨o1, hq⟩ := hq
    refine ra_icmp_ge (tgt := 243) X.x X.b o1 ⟨by decide, by decide⟩ dX2_join_170 (by decide) (fun c2 => ?_) (fun c2 => ?_)
    · have hq := hq.1 c2
      refine lv_iinc (v := Int32.ofInt (x1 + 1)) (lv' := [(1, vI (x1 + 1)), (0, .ref (ad g 0 0)), (2, vI x2)]) X.x X.b dX2_join_243 hl (k := 1) rfl (Int32.ofInt_add _ _).symm (by decide) rfl (fun ls hl => ?_)
      refine lv_goto (tgt := 138) X.x X.b dX2_join_246 (by decide) ?_
      exact kk138 (x1 + 1) σ _ _ _ hq w (lv_sub hl [1, 0] rfl)
    · have hq := hq.2 c2
      refine lv_aload_n X.x X.b dX2_join_173 rfl (lv_at hl 0 rfl) ?_
      refine x_get X w (hg 0 0 (by decide)) rfl in_X2 rfl 9 (by decide) q212 rfl rfl dX2_join_174 ?_
      refine lv_iload_n X.x X.b dX2_join_177 rfl (lv_at hl 1 rfl) ?_
      obtain ⟨o3, hq⟩ := hq
      refine x_aald X w (hg 10 0 (by decide)) (.array .boolean) rfl rfl rfl (by decide) o3.1 o3.2 rfl dX2_join_178 ?_
      refine lv_iload_n X.x X.b dX2_join_179 rfl (lv_at hl 2 rfl) ?_
      obtain ⟨o4, hq⟩ := hq
      refine x_zald X w (hg 11 x1.toNat (tn o3)) rfl (by decide) o4.1 o4.2 dX2_join_180 ?_
      obtain ⟨o5, hq⟩ := hq
      refine ra_if_ne (tgt := 187) X.x X.b o5 dX2_join_181 (by decide) (fun c6 => ?_) (fun c6 => ?_)
      · have hq := hq.1 c6
        refine lv_aload_n X.x X.b dX2_join_187 rfl (lv_at hl 0 rfl) ?_
        refine x_get X w (hg 0 0 (by decide)) rfl in_X2 rfl 3 (by decide) q203 rfl rfl dX2_join_188 ?_
        refine lv_aload_n X.x X.b dX2_join_191 rfl (lv_at hl 0 rfl) ?_
        refine x_get X w (hg 0 0 (by decide)) rfl in_X2 rfl 14 (by decide) q218 rfl rfl dX2_join_192 ?_
        obtain ⟨o7, hq⟩ := hq
        refine x_aald X w (hg 4 0 (by decide)) (.object RX7) rfl rfl rfl (by decide) o7.1 o7.2 rfl dX2_join_195 ?_
        refine lv_astore_n (lv' := [(3, .ref (ad g 19 ((σ g 0 0 14).toNat))), (0, .ref (ad g 0 0)), (1, vI x1), (2, vI x2)]) X.x X.b dX2_join_196 rfl hl (by decide) rfl (fun ls hl => ?_)
        refine lv_aload_n X.x X.b dX2_join_197 rfl (lv_at hl 0 rfl) ?_
        refine lv_iload_n X.x X.b dX2_join_198 rfl (lv_at hl 2 rfl) ?_
        refine x_put (z := x1) X w (hg 19 ((σ g 0 0 14).toNat) (tn o7)) rfl in_X7 tyX7 tyX7_ok nmX7 rfl 0 (by decide) q183 rfl rfl rfl rfl (Nat.le_of_ble_eq_true rfl) rfl dX2_join_199 (fun σ8 H locs eσ8 w => ?_)
        have hq := hq σ8 eσ8
        refine lv_aload_n X.x X.b dX2_join_202 rfl (lv_at hl 0 rfl) ?_
        refine lv_iload_n X.x X.b dX2_join_203 rfl (lv_at hl 3 rfl) ?_
        refine x_put (z := x2) X w (hg 19 ((σ g 0 0 14).toNat) (tn o7)) rfl in_X7 tyX7 tyX7_ok nmX7 rfl 1 (by decide) q185 rfl rfl rfl rfl (Nat.le_of_ble_eq_true rfl) rfl dX2_join_204 (fun σ9 H locs eσ9 w => ?_)
        have hq := hq σ9 eσ9
        refine lv_aload_n X.x X.b dX2_join_207 rfl (lv_at hl 0 rfl) ?_
        refine lv_aload_n X.x X.b dX2_join_208 rfl (lv_at hl 1 rfl) ?_
        refine lv_iload_n X.x X.b dX2_join_209 rfl (lv_at hl 2 rfl) ?_
        refine lv_iload_n X.x X.b dX2_join_210 rfl (lv_at hl 3 rfl) ?_
        refine x_callVi (n := 2) (As := [vI x1, vI x2]) (rest := [.ref (ad g 19 ((σ g 0 0 14).toNat))]) X w (hg 0 0 (by decide)) rfl rfl (mX2_faceOf l D ids ad cA A g hg x1 x2 σ9 _ hq) (lw_V q527 q529 qs10 q37 q530) ⟨rfl, rfl⟩ (by decide +kernel) ⟨Nat.le_of_ble_eq_true rfl, Nat.le_of_ble_eq_true rfl⟩ ⟨Nat.le_refl _, Nat.le_refl _⟩ rfl hl.1 rfl (Nat.le_of_ble_eq_true rfl) dX2_join_211 (fun z10 σ10 H locs hq w => ?_)
        refine x_put (z := z10) X w (hg 19 ((σ g 0 0 14).toNat) (tn o7)) rfl in_X7 tyX7 tyX7_ok nmX7 rfl 2 (by decide) q187 rfl rfl rfl rfl (Nat.le_of_ble_eq_true rfl) rfl dX2_join_214 (fun σ11 H locs eσ11 w => ?_)
        have hq := hq σ11 eσ11
        refine lv_aload_n X.x X.b dX2_join_217 rfl (lv_at hl 0 rfl) ?_
        refine lv_aload_n X.x X.b dX2_join_218 rfl (lv_at hl 1 rfl) ?_
        refine lv_iload_n X.x X.b dX2_join_219 rfl (lv_at hl 3 rfl) ?_
        refine lv_iload_n X.x X.b dX2_join_220 rfl (lv_at hl 2 rfl) ?_
        refine x_callVi (n := 2) (As := [vI x2, vI x1]) (rest := [.ref (ad g 19 ((σ g 0 0 14).toNat))]) X w (hg 0 0 (by decide)) rfl rfl (mX2_faceOf l D ids ad cA A g hg x2 x1 σ11 _ hq) (lw_V q527 q529 qs10 q37 q530) ⟨rfl, rfl⟩ (by decide +kernel) ⟨Nat.le_of_ble_eq_true rfl, Nat.le_of_ble_eq_true rfl⟩ ⟨Nat.le_refl _, Nat.le_refl _⟩ rfl hl.1 rfl (Nat.le_of_ble_eq_true rfl) dX2_join_221 (fun z12 σ12 H locs hq w => ?_)
        refine x_put (z := z12) X w (hg 19 ((σ g 0 0 14).toNat) (tn o7)) rfl in_X7 tyX7 tyX7_ok nmX7 rfl 3 (by decide) q189 rfl rfl rfl rfl (Nat.le_of_ble_eq_true rfl) rfl dX2_join_224 (fun σ13 H locs eσ13 w => ?_)
        have hq := hq σ13 eσ13
        refine lv_aload_n X.x X.b dX2_join_227 rfl (lv_at hl 1 rfl) ?_
        refine lv_dup X.x X.b dX2_join_228 rfl ?_
        refine x_get X w (hg 0 0 (by decide)) rfl in_X2 rfl 14 (by decide) q218 rfl rfl dX2_join_229 ?_
        refine ra_iconst X.x X.b dX2_join_232 ?_
        refine ra_iadd X.x X.b dX2_join_233 ?_
        refine x_put (z := ((σ13 g 0 0 14) + 1)) X w (hg 0 0 (by decide)) rfl in_X2 tyX2 tyX2_ok nmX2 rfl 14 (by decide) q218 rfl rfl rfl rfl (Nat.le_of_ble_eq_true rfl) rfl dX2_join_234 (fun σ14 H locs eσ14 w => ?_)
        have hq := hq σ14 eσ14
        refine lv_iinc (v := Int32.ofInt (x2 + 1)) (lv' := [(2, vI (x2 + 1)), (3, .ref (ad g 19 ((σ g 0 0 14).toNat))), (0, .ref (ad g 0 0)), (1, vI x1)]) X.x X.b dX2_join_237 hl (k := 3) rfl (Int32.ofInt_add _ _).symm (by decide) rfl (fun ls hl => ?_)
        refine lv_goto (tgt := 167) X.x X.b dX2_join_240 (by decide) ?_
        exact ih x1 (x2 + 1) σ14 _ _ _ hq w (lv_sub hl [2, 3, 0] rfl)
      · have hq := hq.2 c6
        refine lv_goto (tgt := 237) X.x X.b dX2_join_184 (by decide) ?_
        refine lv_iinc (v := Int32.ofInt (x2 + 1)) (lv' := [(2, vI (x2 + 1)), (0, .ref (ad g 0 0)), (1, vI x1)]) X.x X.b dX2_join_237 hl (k := 2) rfl (Int32.ofInt_add _ _).symm (by decide) rfl (fun ls hl => ?_)
        refine lv_goto (tgt := 167) X.x X.b dX2_join_240 (by decide) ?_
        exact ih x1 (x2 + 1) σ _ _ _ hq w (lv_sub hl [1, 2, 0] rfl)
set_option maxHeartbeats 4000000 in
set_option maxRecDepth 100000 in
theorem klX2_join_138 {l : Launch} {p : Program} {e : Env} {s : State} {m : MethodId} {args : Array Value} {below : List Frame} {meth : Method} {c : Code} {D : va_G} {ids : Ids} {ad : Lay} {cA : Nat → ClassId} {A : Nat → Prop} {g : Nat} {P : Tab → Prop} (X : Cx p m c meth cX2_join 4 s args RX2 D cA A nwW) (hr : meth.sig.returnType = none) (hg : HasH ids g) :
    ∀ (n : Nat) (x1 : Int) (σ : Tab) (H : Heap) (locs : List Loc) (ls : Array Slot), wlX2_join_138 g P n x1 σ → ww D ids ad cA A σ s.heap H locs → lv_has ls 4 [(0, .ref (ad g 0 0)), (1, vI x1)] → W p l e rmX2_join s m args below meth c H locs 0 0 (MQ below (QV D ids ad cA A P) args s 0 0 A) (F0 m 138 ls []) := by
  intro n
  induction n with
  | zero => intro x1 σ H locs ls hq w hl; exact hq.elim
  | succ n ih =>
    intro x1 σ H locs ls hq w hl
    unfold wlX2_join_138 at hq
    refine lv_iload_n X.x X.b dX2_join_138 rfl (lv_at hl 1 rfl) ?_
    refine ra_bipush X.x X.b dX2_join_139 rfl ?_
    obtain ⟨o1, hq⟩ := hq
    refine ra_icmp_ge (tgt := 249) X.x X.b o1 ⟨by decide, by decide⟩ dX2_join_141 (by decide) (fun c2 => ?_) (fun c2 => ?_)
    · have hq := hq.1 c2
      exact x_vret X hr w hq dX2_join_249
    · have hq := hq.2 c2
      refine lv_aload_n X.x X.b dX2_join_144 rfl (lv_at hl 0 rfl) ?_
      refine x_get X w (hg 0 0 (by decide)) rfl in_X2 rfl 8 (by decide) q210 rfl rfl dX2_join_145 ?_
      refine lv_iload_n X.x X.b dX2_join_148 rfl (lv_at hl 1 rfl) ?_
      obtain ⟨o3, hq⟩ := hq
      refine x_zald X w (hg 9 0 (by decide)) rfl (by decide) o3.1 o3.2 dX2_join_149 ?_
      obtain ⟨o4, hq⟩ := hq
      refine ra_if_eq (tgt := 163) X.x X.b o4 dX2_join_150 (by decide) (fun c5 => ?_) (fun c5 => ?_)
      · have hq := hq.1 c5
        refine lv_iload_n X.x X.b dX2_join_163 rfl (lv_at hl 1 rfl) ?_
        refine ra_iconst X.x X.b dX2_join_164 ?_
        refine ra_iadd X.x X.b dX2_join_165 ?_
        refine lv_istore_n (lv' := [(2, vI (x1 + 1)), (0, .ref (ad g 0 0)), (1, vI x1)]) X.x X.b dX2_join_166 rfl hl (by decide) rfl (fun ls hl => ?_)
        obtain ⟨n6, hq⟩ := hq
        exact klX2_join_167 X hr hg (fun a0 τ H L ls q w h => ih a0 τ H L ls q w h) n6 x1 (x1 + 1) σ _ _ _ hq w (lv_sub hl [1, 2, 0] rfl)
      · have hq := hq.2 c5
        refine lv_aload_n X.x X.b dX2_join_153 rfl (lv_at hl 0 rfl) ?_
        refine lv_dup X.x X.b dX2_join_154 rfl ?_
        refine x_get X w (hg 0 0 (by decide)) rfl in_X2 rfl 15 (by decide) q220 rfl rfl dX2_join_155 ?_
        refine ra_iconst X.x X.b dX2_join_158 ?_
        refine ra_iadd X.x X.b dX2_join_159 ?_
        refine x_put (z := ((σ g 0 0 15) + 1)) X w (hg 0 0 (by decide)) rfl in_X2 tyX2 tyX2_ok nmX2 rfl 15 (by decide) q220 rfl rfl rfl rfl (Nat.le_of_ble_eq_true rfl) rfl dX2_join_160 (fun σ7 H locs eσ7 w => ?_)
        have hq := hq σ7 eσ7
        refine lv_iload_n X.x X.b dX2_join_163 rfl (lv_at hl 1 rfl) ?_
        refine ra_iconst X.x X.b dX2_join_164 ?_
        refine ra_iadd X.x X.b dX2_join_165 ?_
        refine lv_istore_n (lv' := [(2, vI (x1 + 1)), (0, .ref (ad g 0 0)), (1, vI x1)]) X.x X.b dX2_join_166 rfl hl (by decide) rfl (fun ls hl => ?_)
        obtain ⟨n8, hq⟩ := hq
        exact klX2_join_167 X hr hg (fun a0 τ H L ls q w h => ih a0 τ H L ls q w h) n8 x1 (x1 + 1) σ7 _ _ _ hq w (lv_sub hl [1, 2, 0] rfl)
set_option maxHeartbeats 4000000 in
set_option maxRecDepth 100000 in
theorem klX2_join_56 {l : Launch} {p : Program} {e : Env} {s : State} {m : MethodId} {args : Array Value} {below : List Frame} {meth : Method} {c : Code} {D : va_G} {ids : Ids} {ad : Lay} {cA : Nat → ClassId} {A : Nat → Prop} {g : Nat} {P : Tab → Prop} {K46 : Int → Tab → Prop} (X : Cx p m c meth cX2_join 4 s args RX2 D cA A nwW) (hr : meth.sig.returnType = none) (hg : HasH ids g) (kk46 : ∀ (x1 : Int) (σ : Tab) (H : Heap) (locs : List Loc) (ls : Array Slot), K46 x1 σ → ww D ids ad cA A σ s.heap H locs → lv_has ls 4 [(0, .ref (ad g 0 0)), (1, vI x1)] → W p l e rmX2_join s m args below meth c H locs 0 0 (MQ below (QV D ids ad cA A P) args s 0 0 A) (F0 m 46 ls [])) :
    ∀ (n : Nat) (x1 : Int) (x2 : Int) (σ : Tab) (H : Heap) (locs : List Loc) (ls : Array Slot), wlX2_join_56 g P K46 n x1 x2 σ → ww D ids ad cA A σ s.heap H locs → lv_has ls 4 [(0, .ref (ad g 0 0)), (1, vI x1), (2, vI x2)] → W p l e rmX2_join s m args below meth c H locs 0 0 (MQ below (QV D ids ad cA A P) args s 0 0 A) (F0 m 56 ls []) := by
  intro n
  induction n with
  | zero => intro x1 x2 σ H locs ls hq w hl; exact hq.elim
  | succ n ih =>
    intro x1 x2 σ H locs ls hq w hl
    unfold wlX2_join_56 at hq
    refine lv_iload_n X.x X.b dX2_join_56 rfl (lv_at hl 2 rfl) ?_
    refine lv_aload_n X.x X.b dX2_join_57 rfl (lv_at hl 0 rfl) ?_
    refine x_get X w (hg 0 0 (by decide)) rfl in_X2 rfl 2 (by decide) q201 rfl rfl dX2_join_58 ?_
    refine lv_iload_n X.x X.b dX2_join_61 rfl (lv_at hl 1 rfl) ?_
    obtain ⟨o1, hq⟩ := hq
    refine x_aald X w (hg 3 0 (by decide)) (.object RX6) rfl rfl rfl (by decide) o1.1 o1.2 rfl dX2_join_62 ?_
    obtain ⟨o2, hq⟩ := hq
    refine x_get X w (hg 16 ((σ g 3 0 x1.toNat).toNat) (tn o2)) rfl in_X6 rfl 2 (by decide) q168 rfl rfl dX2_join_63 ?_
    obtain ⟨o3, hq⟩ := hq
    obtain ⟨o4, hq⟩ := hq
    refine ra_icmp_ge (tgt := 120) X.x X.b o3 o4 dX2_join_66 (by decide) (fun c5 => ?_) (fun c5 => ?_)
    · have hq := hq.1 c5
      refine lv_iinc (v := Int32.ofInt (x1 + 1)) (lv' := [(1, vI (x1 + 1)), (0, .ref (ad g 0 0)), (2, vI x2)]) X.x X.b dX2_join_120 hl (k := 1) rfl (Int32.ofInt_add _ _).symm (by decide) rfl (fun ls hl => ?_)
      refine lv_goto (tgt := 46) X.x X.b dX2_join_123 (by decide) ?_
      exact kk46 (x1 + 1) σ _ _ _ hq w (lv_sub hl [1, 0] rfl)
    · have hq := hq.2 c5
      refine lv_aload_n X.x X.b dX2_join_69 rfl (lv_at hl 0 rfl) ?_
      refine x_get X w (hg 0 0 (by decide)) rfl in_X2 rfl 8 (by decide) q210 rfl rfl dX2_join_70 ?_
      refine lv_aload_n X.x X.b dX2_join_73 rfl (lv_at hl 0 rfl) ?_
      refine x_get X w (hg 0 0 (by decide)) rfl in_X2 rfl 2 (by decide) q201 rfl rfl dX2_join_74 ?_
      refine lv_iload_n X.x X.b dX2_join_77 rfl (lv_at hl 1 rfl) ?_
      refine x_aald X w (hg 3 0 (by decide)) (.object RX6) rfl rfl rfl (by decide) o1.1 o1.2 rfl dX2_join_78 ?_
      refine x_get X w (hg 16 ((σ g 3 0 x1.toNat).toNat) (tn o2)) rfl in_X6 rfl 1 (by decide) q165 rfl rfl dX2_join_79 ?_
      refine lv_iload_n X.x X.b dX2_join_82 rfl (lv_at hl 2 rfl) ?_
      obtain ⟨o6, hq⟩ := hq
      refine x_iald X w (hg 18 ((σ g 3 0 x1.toNat).toNat) (tn o2)) rfl (by decide) o6.1 o6.2 dX2_join_83 ?_
      refine ra_iconst X.x X.b dX2_join_84 ?_
      obtain ⟨o7, hq⟩ := hq
      refine x_zast X w (hg 9 0 (by decide)) (fun _ => rfl) (by decide) (by decide) o7.1 o7.2 dX2_join_85 (fun σ8 H locs eσ8 w => ?_)
      have hq := hq σ8 eσ8
      refine lv_aload_n X.x X.b dX2_join_86 rfl (lv_at hl 0 rfl) ?_
      refine x_get X w (hg 0 0 (by decide)) rfl in_X2 rfl 9 (by decide) q212 rfl rfl dX2_join_87 ?_
      refine lv_aload_n X.x X.b dX2_join_90 rfl (lv_at hl 0 rfl) ?_
      refine x_get X w (hg 0 0 (by decide)) rfl in_X2 rfl 2 (by decide) q201 rfl rfl dX2_join_91 ?_
      refine lv_iload_n X.x X.b dX2_join_94 rfl (lv_at hl 1 rfl) ?_
      refine x_aald X w (hg 3 0 (by decide)) (.object RX6) rfl rfl rfl (by decide) o1.1 o1.2 rfl dX2_join_95 ?_
      obtain ⟨o9, hq⟩ := hq
      refine x_get X w (hg 16 ((σ8 g 3 0 x1.toNat).toNat) (tn o9)) rfl in_X6 rfl 1 (by decide) q165 rfl rfl dX2_join_96 ?_
      refine lv_iload_n X.x X.b dX2_join_99 rfl (lv_at hl 2 rfl) ?_
      refine x_iald X w (hg 18 ((σ8 g 3 0 x1.toNat).toNat) (tn o9)) rfl (by decide) o6.1 o6.2 dX2_join_100 ?_
      obtain ⟨o10, hq⟩ := hq
      refine x_aald X w (hg 10 0 (by decide)) (.array .boolean) rfl rfl rfl (by decide) o10.1 o10.2 rfl dX2_join_101 ?_
      refine lv_aload_n X.x X.b dX2_join_102 rfl (lv_at hl 0 rfl) ?_
      refine x_get X w (hg 0 0 (by decide)) rfl in_X2 rfl 2 (by decide) q201 rfl rfl dX2_join_103 ?_
      refine lv_iload_n X.x X.b dX2_join_106 rfl (lv_at hl 1 rfl) ?_
      refine x_aald X w (hg 3 0 (by decide)) (.object RX6) rfl rfl rfl (by decide) o1.1 o1.2 rfl dX2_join_107 ?_
      refine lv_iload_n X.x X.b dX2_join_108 rfl (lv_at hl 2 rfl) ?_
      refine x_callVi (n := 1) (As := [vI x2]) (rest := [.ref (ad g 11 ((σ8 g 18 ((σ8 g 3 0 x1.toNat).toNat) x2.toNat).toNat))]) X w (hg 16 ((σ8 g 3 0 x1.toNat).toNat) (tn o9)) rfl rfl (mX6_next l D ids ad cA A g hg ((σ8 g 3 0 x1.toNat).toNat) (tn o9) x2 σ8 _ hq) (lw_V q523 q524 q525 q41 q526) ⟨rfl, rfl⟩ (by decide +kernel) ⟨Nat.le_of_ble_eq_true rfl, Nat.le_of_ble_eq_true rfl⟩ ⟨Nat.le_refl _, Nat.le_refl _⟩ rfl hl.1 rfl (Nat.le_of_ble_eq_true rfl) dX2_join_109 (fun z11 σ11 H locs hq w => ?_)
      refine ra_iconst X.x X.b dX2_join_112 ?_
      obtain ⟨o12, hq⟩ := hq
      refine x_zast X w (hg 11 ((σ8 g 18 ((σ8 g 3 0 x1.toNat).toNat) x2.toNat).toNat) (tn o10)) (fun _ => rfl) (by decide) (by decide) o12.1 o12.2 dX2_join_113 (fun σ13 H locs eσ13 w => ?_)
      have hq := hq σ13 eσ13
      refine lv_iinc (v := Int32.ofInt (x2 + 1)) (lv' := [(2, vI (x2 + 1)), (0, .ref (ad g 0 0)), (1, vI x1)]) X.x X.b dX2_join_114 hl (k := 2) rfl (Int32.ofInt_add _ _).symm (by decide) rfl (fun ls hl => ?_)
      refine lv_goto (tgt := 56) X.x X.b dX2_join_117 (by decide) ?_
      exact ih x1 (x2 + 1) σ13 _ _ _ hq w (lv_sub hl [1, 2, 0] rfl)
set_option maxHeartbeats 4000000 in
set_option maxRecDepth 100000 in
theorem klX2_join_46 {l : Launch} {p : Program} {e : Env} {s : State} {m : MethodId} {args : Array Value} {below : List Frame} {meth : Method} {c : Code} {D : va_G} {ids : Ids} {ad : Lay} {cA : Nat → ClassId} {A : Nat → Prop} {g : Nat} {P : Tab → Prop} (X : Cx p m c meth cX2_join 4 s args RX2 D cA A nwW) (hr : meth.sig.returnType = none) (hg : HasH ids g) :
    ∀ (n : Nat) (x1 : Int) (σ : Tab) (H : Heap) (locs : List Loc) (ls : Array Slot), wlX2_join_46 g P n x1 σ → ww D ids ad cA A σ s.heap H locs → lv_has ls 4 [(0, .ref (ad g 0 0)), (1, vI x1)] → W p l e rmX2_join s m args below meth c H locs 0 0 (MQ below (QV D ids ad cA A P) args s 0 0 A) (F0 m 46 ls []) := by
  intro n
  induction n with
  | zero => intro x1 σ H locs ls hq w hl; exact hq.elim
  | succ n ih =>
    intro x1 σ H locs ls hq w hl
    unfold wlX2_join_46 at hq
    refine lv_iload_n X.x X.b dX2_join_46 rfl (lv_at hl 1 rfl) ?_
    refine lv_aload_n X.x X.b dX2_join_47 rfl (lv_at hl 0 rfl) ?_
    refine x_get X w (hg 0 0 (by decide)) rfl in_X2 rfl 13 (by decide) q216 rfl rfl dX2_join_48 ?_
    obtain ⟨o1, hq⟩ := hq
    obtain ⟨o2, hq⟩ := hq
    refine ra_icmp_ge (tgt := 126) X.x X.b o1 o2 dX2_join_51 (by decide) (fun c3 => ?_) (fun c3 => ?_)
    · have hq := hq.1 c3
      refine lv_aload_n X.x X.b dX2_join_126 rfl (lv_at hl 0 rfl) ?_
      refine ra_iconst X.x X.b dX2_join_127 ?_
      refine x_put (z := 0) X w (hg 0 0 (by decide)) rfl in_X2 tyX2 tyX2_ok nmX2 rfl 14 (by decide) q218 rfl rfl rfl rfl (Nat.le_of_ble_eq_true rfl) rfl dX2_join_128 (fun σ4 H locs eσ4 w => ?_)
      have hq := hq σ4 eσ4
      refine lv_aload_n X.x X.b dX2_join_131 rfl (lv_at hl 0 rfl) ?_
      refine ra_iconst X.x X.b dX2_join_132 ?_
      refine x_put (z := 0) X w (hg 0 0 (by decide)) rfl in_X2 tyX2 tyX2_ok nmX2 rfl 15 (by decide) q220 rfl rfl rfl rfl (Nat.le_of_ble_eq_true rfl) rfl dX2_join_133 (fun σ5 H locs eσ5 w => ?_)
      have hq := hq σ5 eσ5
      refine ra_iconst X.x X.b dX2_join_136 ?_
      refine lv_istore_n (lv' := [(1, vI 0), (0, .ref (ad g 0 0))]) X.x X.b dX2_join_137 rfl hl (by decide) rfl (fun ls hl => ?_)
      obtain ⟨n6, hq⟩ := hq
      exact klX2_join_138 X hr hg  n6 0 σ5 _ _ _ hq w (lv_sub hl [1, 0] rfl)
    · have hq := hq.2 c3
      refine ra_iconst X.x X.b dX2_join_54 ?_
      refine lv_istore_n (lv' := [(2, vI 0), (0, .ref (ad g 0 0)), (1, vI x1)]) X.x X.b dX2_join_55 rfl hl (by decide) rfl (fun ls hl => ?_)
      obtain ⟨n7, hq⟩ := hq
      exact klX2_join_56 X hr hg (fun a0 τ H L ls q w h => ih a0 τ H L ls q w h) n7 x1 0 σ _ _ _ hq w (lv_sub hl [1, 2, 0] rfl)
set_option maxHeartbeats 4000000 in
set_option maxRecDepth 100000 in
theorem klX2_join_17 {l : Launch} {p : Program} {e : Env} {s : State} {m : MethodId} {args : Array Value} {below : List Frame} {meth : Method} {c : Code} {D : va_G} {ids : Ids} {ad : Lay} {cA : Nat → ClassId} {A : Nat → Prop} {g : Nat} {P : Tab → Prop} {K2 : Int → Tab → Prop} (X : Cx p m c meth cX2_join 4 s args RX2 D cA A nwW) (hr : meth.sig.returnType = none) (hg : HasH ids g) (kk2 : ∀ (x1 : Int) (σ : Tab) (H : Heap) (locs : List Loc) (ls : Array Slot), K2 x1 σ → ww D ids ad cA A σ s.heap H locs → lv_has ls 4 [(0, .ref (ad g 0 0)), (1, vI x1)] → W p l e rmX2_join s m args below meth c H locs 0 0 (MQ below (QV D ids ad cA A P) args s 0 0 A) (F0 m 2 ls [])) :
    ∀ (n : Nat) (x1 : Int) (x2 : Int) (σ : Tab) (H : Heap) (locs : List Loc) (ls : Array Slot), wlX2_join_17 g P K2 n x1 x2 σ → ww D ids ad cA A σ s.heap H locs → lv_has ls 4 [(0, .ref (ad g 0 0)), (1, vI x1), (2, vI x2)] → W p l e rmX2_join s m args below meth c H locs 0 0 (MQ below (QV D ids ad cA A P) args s 0 0 A) (F0 m 17 ls []) := by
  intro n
  induction n with
  | zero => intro x1 x2 σ H locs ls hq w hl; exact hq.elim
  | succ n ih =>
    intro x1 x2 σ H locs ls hq w hl
    unfold wlX2_join_17 at hq
    refine lv_iload_n X.x X.b dX2_join_17 rfl (lv_at hl 2 rfl) ?_
    refine ra_bipush X.x X.b dX2_join_18 rfl ?_
    obtain ⟨o1, hq⟩ := hq
    refine ra_icmp_ge (tgt := 38) X.x X.b o1 ⟨by decide, by decide⟩ dX2_join_20 (by decide) (fun c2 => ?_) (fun c2 => ?_)
    · have hq := hq.1 c2
      refine lv_iinc (v := Int32.ofInt (x1 + 1)) (lv' := [(1, vI (x1 + 1)), (0, .ref (ad g 0 0)), (2, vI x2)]) X.x X.b dX2_join_38 hl (k := 1) rfl (Int32.ofInt_add _ _).symm (by decide) rfl (fun ls hl => ?_)
      refine lv_goto (tgt := 2) X.x X.b dX2_join_41 (by decide) ?_
      exact kk2 (x1 + 1) σ _ _ _ hq w (lv_sub hl [1, 0] rfl)
    · have hq := hq.2 c2
      refine lv_aload_n X.x X.b dX2_join_23 rfl (lv_at hl 0 rfl) ?_
      refine x_get X w (hg 0 0 (by decide)) rfl in_X2 rfl 9 (by decide) q212 rfl rfl dX2_join_24 ?_
      refine lv_iload_n X.x X.b dX2_join_27 rfl (lv_at hl 1 rfl) ?_
      obtain ⟨o3, hq⟩ := hq
      refine x_aald X w (hg 10 0 (by decide)) (.array .boolean) rfl rfl rfl (by decide) o3.1 o3.2 rfl dX2_join_28 ?_
      refine lv_iload_n X.x X.b dX2_join_29 rfl (lv_at hl 2 rfl) ?_
      refine ra_iconst X.x X.b dX2_join_30 ?_
      obtain ⟨o4, hq⟩ := hq
      refine x_zast X w (hg 11 x1.toNat (tn o3)) (fun _ => rfl) (by decide) (by decide) o4.1 o4.2 dX2_join_31 (fun σ5 H locs eσ5 w => ?_)
      have hq := hq σ5 eσ5
      refine lv_iinc (v := Int32.ofInt (x2 + 1)) (lv' := [(2, vI (x2 + 1)), (0, .ref (ad g 0 0)), (1, vI x1)]) X.x X.b dX2_join_32 hl (k := 2) rfl (Int32.ofInt_add _ _).symm (by decide) rfl (fun ls hl => ?_)
      refine lv_goto (tgt := 17) X.x X.b dX2_join_35 (by decide) ?_
      exact ih x1 (x2 + 1) σ5 _ _ _ hq w (lv_sub hl [1, 2, 0] rfl)
set_option maxHeartbeats 4000000 in
set_option maxRecDepth 100000 in
theorem klX2_join_2 {l : Launch} {p : Program} {e : Env} {s : State} {m : MethodId} {args : Array Value} {below : List Frame} {meth : Method} {c : Code} {D : va_G} {ids : Ids} {ad : Lay} {cA : Nat → ClassId} {A : Nat → Prop} {g : Nat} {P : Tab → Prop} (X : Cx p m c meth cX2_join 4 s args RX2 D cA A nwW) (hr : meth.sig.returnType = none) (hg : HasH ids g) :
    ∀ (n : Nat) (x1 : Int) (σ : Tab) (H : Heap) (locs : List Loc) (ls : Array Slot), wlX2_join_2 g P n x1 σ → ww D ids ad cA A σ s.heap H locs → lv_has ls 4 [(0, .ref (ad g 0 0)), (1, vI x1)] → W p l e rmX2_join s m args below meth c H locs 0 0 (MQ below (QV D ids ad cA A P) args s 0 0 A) (F0 m 2 ls []) := by
  intro n
  induction n with
  | zero => intro x1 σ H locs ls hq w hl; exact hq.elim
  | succ n ih =>
    intro x1 σ H locs ls hq w hl
    unfold wlX2_join_2 at hq
    refine lv_iload_n X.x X.b dX2_join_2 rfl (lv_at hl 1 rfl) ?_
    refine ra_bipush X.x X.b dX2_join_3 rfl ?_
    obtain ⟨o1, hq⟩ := hq
    refine ra_icmp_ge (tgt := 44) X.x X.b o1 ⟨by decide, by decide⟩ dX2_join_5 (by decide) (fun c2 => ?_) (fun c2 => ?_)
    · have hq := hq.1 c2
      refine ra_iconst X.x X.b dX2_join_44 ?_
      refine lv_istore_n (lv' := [(1, vI 0), (0, .ref (ad g 0 0))]) X.x X.b dX2_join_45 rfl hl (by decide) rfl (fun ls hl => ?_)
      obtain ⟨n3, hq⟩ := hq
      exact klX2_join_46 X hr hg  n3 0 σ _ _ _ hq w (lv_sub hl [1, 0] rfl)
    · have hq := hq.2 c2
      refine lv_aload_n X.x X.b dX2_join_8 rfl (lv_at hl 0 rfl) ?_
      refine x_get X w (hg 0 0 (by decide)) rfl in_X2 rfl 8 (by decide) q210 rfl rfl dX2_join_9 ?_
      refine lv_iload_n X.x X.b dX2_join_12 rfl (lv_at hl 1 rfl) ?_
      refine ra_iconst X.x X.b dX2_join_13 ?_
      obtain ⟨o4, hq⟩ := hq
      refine x_zast X w (hg 9 0 (by decide)) (fun _ => rfl) (by decide) (by decide) o4.1 o4.2 dX2_join_14 (fun σ5 H locs eσ5 w => ?_)
      have hq := hq σ5 eσ5
      refine ra_iconst X.x X.b dX2_join_15 ?_
      refine lv_istore_n (lv' := [(2, vI 0), (0, .ref (ad g 0 0)), (1, vI x1)]) X.x X.b dX2_join_16 rfl hl (by decide) rfl (fun ls hl => ?_)
      obtain ⟨n6, hq⟩ := hq
      exact klX2_join_17 X hr hg (fun a0 τ H L ls q w h => ih a0 τ H L ls q w h) n6 x1 0 σ5 _ _ _ hq w (lv_sub hl [1, 2, 0] rfl)
set_option maxHeartbeats 4000000 in
set_option maxRecDepth 100000 in
theorem mX2_join (l : Launch) (D : va_G) (ids : Ids) (ad : Lay) (cA : Nat → ClassId) (A : Nat → Prop) (g : Nat) (hg : HasH ids g) (σ : Tab) (P : Tab → Prop) (hq : wpX2_join g σ P) : Met l yX2_join (ws_ yX2_join cX2_join 4 (none)) rmX2_join (PcW D ids ad cA A σ [.ref (ad g 0 0)]) (QV D ids ad cA A P) 0 0 A := by
  refine m_entry (own := RX2) (by decide) (Nat.le_of_ble_eq_true rfl) rfl ?_
  intro p e s m below meth c ls X hr w hl
  have hl : lv_has ls 4 [(0, .ref (ad g 0 0))] := hl
  unfold wpX2_join at hq
  refine ra_iconst X.x X.b dX2_join_0 ?_
  refine lv_istore_n (lv' := [(1, vI 0), (0, .ref (ad g 0 0))]) X.x X.b dX2_join_1 rfl hl (by decide) rfl (fun ls hl => ?_)
  obtain ⟨n1, hq⟩ := hq
  exact klX2_join_2 X hr hg  n1 0 σ _ _ _ hq w (lv_sub hl [1, 0] rfl)
def wlX2_build_159 (g : Nat) (P : Int → Tab → Prop) : Nat → Int → Tab → Prop
  | 0, _, _ => False
  | n + 1, x5, σ => (inI x5 ∧ (inI (σ g 0 0 12) ∧ ((σ g 0 0 12 ≤ x5 → wpX2_order g σ (fun σ4 => wpX2_join g σ4 (fun σ5 => P 1 σ5))) ∧ (¬ (σ g 0 0 12 ≤ x5) → ((0 ≤ x5 ∧ x5 < 128) ∧ (inI (σ g 14 x5.toNat 4) ∧ ((σ g 14 x5.toNat 4 = 0 → wlX2_build_159 g P n (x5 + 1) σ) ∧ (¬ (σ g 14 x5.toNat 4 = 0) → (inI (σ g 14 x5.toNat 5) ∧ ((σ g 14 x5.toNat 5 ≠ 0 → wlX2_build_159 g P n (x5 + 1) σ) ∧ (¬ (σ g 14 x5.toNat 5 ≠ 0) → wpX2_unite g x5 σ (fun σ11 => wlX2_build_159 g P n (x5 + 1) σ11))))))))))))
def wlX2_build_130 (g : Nat) (P : Int → Tab → Prop) : Nat → Int → Tab → Prop
  | 0, _, _ => False
  | n + 1, x5, σ => (inI x5 ∧ (inI (σ g 0 0 12) ∧ ((σ g 0 0 12 ≤ x5 → (∃ k : Nat, wlX2_build_159 g P k 0 σ)) ∧ (¬ (σ g 0 0 12 ≤ x5) → ((0 ≤ x5 ∧ x5 < 128) ∧ (∀ σ6 : Tab, σ6 = st σ g 14 x5.toNat 5 0 → wlX2_build_130 g P n (x5 + 1) σ6))))))
def wlX2_build_91 (g : Nat) (P : Int → Tab → Prop) : Nat → Int → Int → Int → Int → Tab → Prop
  | 0, _, _, _, _, _ => False
  | n + 1, x2, x3, x4, x5, σ => (inI x5 ∧ (inI x2 ∧ ((x2 ≤ x5 → (∀ σ4 : Tab, σ4 = st σ g 0 0 13 0 → (∃ k : Nat, wlX2_build_130 g P k 0 σ4))) ∧ (¬ (x2 ≤ x5) → (inI x4 ∧ ((x5 = x4 → wlX2_build_91 g P n x2 x3 x4 (x5 + 1) σ) ∧ (¬ (x5 = x4) → (inI x3 ∧ ((x5 = x3 → wlX2_build_91 g P n x2 x3 x4 (x5 + 1) σ) ∧ (¬ (x5 = x3) → wpX2_add g x5 σ (fun σ10 => wlX2_build_91 g P n x2 x3 x4 (x5 + 1) σ10)))))))))))
def wlX2_build_73 (g : Nat) (P : Int → Tab → Prop) (x2 : Int) (y0 : Int) (σ : Tab) : Prop := (inI y0 ∧ ((0 ≤ y0 → (∃ k : Nat, wlX2_build_91 g P k x2 y0 (σ g 6 0 0) 2 σ)) ∧ (¬ (0 ≤ y0) → P 0 σ)))
def wlX2_build_32 (g : Nat) (P : Int → Tab → Prop) : Nat → Int → Int → Tab → Prop
  | 0, _, _, _ => False
  | n + 1, x2, x3, σ => (inI x3 ∧ ((128 ≤ x3 → (∀ σ3 : Tab, σ3 = st σ g 0 0 12 0 → (inI x2 ∧ ((4 ≤ x2 → wpX2_begin g σ3 (fun z6 σ6 => wlX2_build_73 g P x2 z6 σ6)) ∧ (¬ (4 ≤ x2) → wlX2_build_73 g P x2 (-1) σ3))))) ∧ (¬ (128 ≤ x3) → ((0 ≤ x3 ∧ x3 < 128) ∧ (∀ σ8 : Tab, σ8 = st σ g 14 x3.toNat 4 0 → wlX2_build_32 g P n x2 (x3 + 1) σ8)))))
def wlX2_build_7 (g : Nat) (P : Int → Tab → Prop) : Nat → Int → Int → Tab → Prop
  | 0, _, _, _ => False
  | n + 1, x2, x3, σ => (inI x3 ∧ (inI x2 ∧ ((x2 ≤ x3 → (∃ k : Nat, wlX2_build_32 g P k x2 0 σ)) ∧ (¬ (x2 ≤ x3) → ((0 ≤ x3 ∧ x3 < 24) ∧ wpX4_copy g 13 x3.toNat 0 22 x3.toNat σ (fun σ6 => wlX2_build_7 g P n x2 (x3 + 1) σ6))))))
def wpX2_build (g : Nat) (x2 : Int) (σ : Tab) (P : Int → Tab → Prop) : Prop := (∀ σ1 : Tab, σ1 = st σ g 0 0 11 x2 → (∃ k : Nat, wlX2_build_7 g P k x2 0 σ1))
abbrev rmX2_build : Room := { frames := 4, cells := 0, slots := 0, locals := 117 }
set_option maxHeartbeats 4000000 in
set_option maxRecDepth 100000 in
theorem klX2_build_159 {l : Launch} {p : Program} {e : Env} {s : State} {m : MethodId} {args : Array Value} {below : List Frame} {meth : Method} {c : Code} {D : va_G} {ids : Ids} {ad : Lay} {cA : Nat → ClassId} {A : Nat → Prop} {g : Nat} {P : Int → Tab → Prop} (X : Cx p m c meth cX2_build 6 s args RX2 D cA A nwW) (hr : meth.sig.returnType = some .boolean) (hg : HasH ids g) (hB : HasB ids) :
    ∀ (n : Nat) (x5 : Int) (σ : Tab) (H : Heap) (locs : List Loc) (ls : Array Slot), wlX2_build_159 g P n x5 σ → ww D ids ad cA A σ s.heap H locs → lv_has ls 6 [(0, .ref (ad g 0 0)), (5, vI x5)] → W p l e rmX2_build s m args below meth c H locs 0 0 (MQ below (QI D ids ad cA A P) args s 0 0 A) (F0 m 159 ls []) := by
  intro n
  induction n with
  | zero => intro x5 σ H locs ls hq w hl; exact hq.elim
  | succ n ih =>
    intro x5 σ H locs ls hq w hl
    unfold wlX2_build_159 at hq
    refine lv_iload X.x X.b dX2_build_159 (lv_at hl 1 rfl) ?_
    refine lv_aload_n X.x X.b dX2_build_161 rfl (lv_at hl 0 rfl) ?_
    refine x_get X w (hg 0 0 (by decide)) rfl in_X2 rfl 12 (by decide) q215 rfl rfl dX2_build_162 ?_
    obtain ⟨o1, hq⟩ := hq
    obtain ⟨o2, hq⟩ := hq
    refine ra_icmp_ge (tgt := 206) X.x X.b o1 o2 dX2_build_165 (by decide) (fun c3 => ?_) (fun c3 => ?_)
    · have hq := hq.1 c3
      refine lv_aload_n X.x X.b dX2_build_206 rfl (lv_at hl 0 rfl) ?_
      refine x_callVv (n := 0) (As := []) (rest := []) X w (hg 0 0 (by decide)) rfl rfl (mX2_order l D ids ad cA A g hg σ _ hq) (lw_V q511 q513 qs8 q37 q514) ⟨rfl, rfl⟩ (by decide +kernel) ⟨Nat.le_of_ble_eq_true rfl, Nat.le_of_ble_eq_true rfl⟩ ⟨Nat.le_refl _, Nat.le_refl _⟩ rfl hl.1 rfl (Nat.le_of_ble_eq_true rfl) dX2_build_207 (fun σ4 H locs hq w => ?_)
      refine lv_aload_n X.x X.b dX2_build_210 rfl (lv_at hl 0 rfl) ?_
      refine x_callVv (n := 0) (As := []) (rest := []) X w (hg 0 0 (by decide)) rfl rfl (mX2_join l D ids ad cA A g hg σ4 _ hq) (lw_V q519 q521 qs9 q37 q522) ⟨rfl, rfl⟩ (by decide +kernel) ⟨Nat.le_of_ble_eq_true rfl, Nat.le_of_ble_eq_true rfl⟩ ⟨Nat.le_refl _, Nat.le_refl _⟩ rfl hl.1 rfl (Nat.le_of_ble_eq_true rfl) dX2_build_211 (fun σ5 H locs hq w => ?_)
      refine ra_iconst X.x X.b dX2_build_214 ?_
      exact x_zret X hr w (by decide) hq dX2_build_215
    · have hq := hq.2 c3
      refine lv_aload_n X.x X.b dX2_build_168 rfl (lv_at hl 0 rfl) ?_
      refine x_get X w (hg 0 0 (by decide)) rfl in_X2 rfl 1 (by decide) q200 rfl rfl dX2_build_169 ?_
      refine lv_iload X.x X.b dX2_build_172 (lv_at hl 1 rfl) ?_
      obtain ⟨o6, hq⟩ := hq
      refine x_aald X w (hg 2 0 (by decide)) (.object RX5) rfl rfl rfl (by decide) o6.1 o6.2 rfl dX2_build_174 ?_
      refine x_get X w (hg 14 x5.toNat (tn o6)) rfl in_X5 rfl 4 (by decide) q139 rfl rfl dX2_build_175 ?_
      obtain ⟨o7, hq⟩ := hq
      refine ra_if_eq (tgt := 200) X.x X.b o7 dX2_build_178 (by decide) (fun c8 => ?_) (fun c8 => ?_)
      · have hq := hq.1 c8
        refine lv_iinc (v := Int32.ofInt (x5 + 1)) (lv' := [(5, vI (x5 + 1)), (0, .ref (ad g 0 0))]) X.x X.b dX2_build_200 hl (k := 1) rfl (Int32.ofInt_add _ _).symm (by decide) rfl (fun ls hl => ?_)
        refine lv_goto (tgt := 159) X.x X.b dX2_build_203 (by decide) ?_
        exact ih (x5 + 1) σ _ _ _ hq w (lv_sub hl [1, 0] rfl)
      · have hq := hq.2 c8
        refine lv_aload_n X.x X.b dX2_build_181 rfl (lv_at hl 0 rfl) ?_
        refine x_get X w (hg 0 0 (by decide)) rfl in_X2 rfl 1 (by decide) q200 rfl rfl dX2_build_182 ?_
        refine lv_iload X.x X.b dX2_build_185 (lv_at hl 1 rfl) ?_
        refine x_aald X w (hg 2 0 (by decide)) (.object RX5) rfl rfl rfl (by decide) o6.1 o6.2 rfl dX2_build_187 ?_
        refine x_get X w (hg 14 x5.toNat (tn o6)) rfl in_X5 rfl 5 (by decide) q140 rfl rfl dX2_build_188 ?_
        obtain ⟨o9, hq⟩ := hq
        refine ra_if_ne (tgt := 200) X.x X.b o9 dX2_build_191 (by decide) (fun c10 => ?_) (fun c10 => ?_)
        · have hq := hq.1 c10
          refine lv_iinc (v := Int32.ofInt (x5 + 1)) (lv' := [(5, vI (x5 + 1)), (0, .ref (ad g 0 0))]) X.x X.b dX2_build_200 hl (k := 1) rfl (Int32.ofInt_add _ _).symm (by decide) rfl (fun ls hl => ?_)
          refine lv_goto (tgt := 159) X.x X.b dX2_build_203 (by decide) ?_
          exact ih (x5 + 1) σ _ _ _ hq w (lv_sub hl [1, 0] rfl)
        · have hq := hq.2 c10
          refine lv_aload_n X.x X.b dX2_build_194 rfl (lv_at hl 0 rfl) ?_
          refine lv_iload X.x X.b dX2_build_195 (lv_at hl 1 rfl) ?_
          refine x_callVv (n := 1) (As := [vI x5]) (rest := []) X w (hg 0 0 (by decide)) rfl rfl (mX2_unite l D ids ad cA A g hg x5 σ _ hq) (lw_V q488 q490 qs6 q37 q491) ⟨rfl, rfl⟩ (by decide +kernel) ⟨Nat.le_of_ble_eq_true rfl, Nat.le_of_ble_eq_true rfl⟩ ⟨Nat.le_refl _, Nat.le_refl _⟩ rfl hl.1 rfl (Nat.le_of_ble_eq_true rfl) dX2_build_197 (fun σ11 H locs hq w => ?_)
          refine lv_iinc (v := Int32.ofInt (x5 + 1)) (lv' := [(5, vI (x5 + 1)), (0, .ref (ad g 0 0))]) X.x X.b dX2_build_200 hl (k := 1) rfl (Int32.ofInt_add _ _).symm (by decide) rfl (fun ls hl => ?_)
          refine lv_goto (tgt := 159) X.x X.b dX2_build_203 (by decide) ?_
          exact ih (x5 + 1) σ11 _ _ _ hq w (lv_sub hl [1, 0] rfl)
set_option maxHeartbeats 4000000 in
set_option maxRecDepth 100000 in
theorem klX2_build_130 {l : Launch} {p : Program} {e : Env} {s : State} {m : MethodId} {args : Array Value} {below : List Frame} {meth : Method} {c : Code} {D : va_G} {ids : Ids} {ad : Lay} {cA : Nat → ClassId} {A : Nat → Prop} {g : Nat} {P : Int → Tab → Prop} (X : Cx p m c meth cX2_build 6 s args RX2 D cA A nwW) (hr : meth.sig.returnType = some .boolean) (hg : HasH ids g) (hB : HasB ids) :
    ∀ (n : Nat) (x5 : Int) (σ : Tab) (H : Heap) (locs : List Loc) (ls : Array Slot), wlX2_build_130 g P n x5 σ → ww D ids ad cA A σ s.heap H locs → lv_has ls 6 [(0, .ref (ad g 0 0)), (5, vI x5)] → W p l e rmX2_build s m args below meth c H locs 0 0 (MQ below (QI D ids ad cA A P) args s 0 0 A) (F0 m 130 ls []) := by
  intro n
  induction n with
  | zero => intro x5 σ H locs ls hq w hl; exact hq.elim
  | succ n ih =>
    intro x5 σ H locs ls hq w hl
    unfold wlX2_build_130 at hq
    refine lv_iload X.x X.b dX2_build_130 (lv_at hl 1 rfl) ?_
    refine lv_aload_n X.x X.b dX2_build_132 rfl (lv_at hl 0 rfl) ?_
    refine x_get X w (hg 0 0 (by decide)) rfl in_X2 rfl 12 (by decide) q215 rfl rfl dX2_build_133 ?_
    obtain ⟨o1, hq⟩ := hq
    obtain ⟨o2, hq⟩ := hq
    refine ra_icmp_ge (tgt := 156) X.x X.b o1 o2 dX2_build_136 (by decide) (fun c3 => ?_) (fun c3 => ?_)
    · have hq := hq.1 c3
      refine ra_iconst X.x X.b dX2_build_156 ?_
      refine lv_istore (lv' := [(5, vI 0), (0, .ref (ad g 0 0))]) X.x X.b dX2_build_157 hl (by decide) rfl (fun ls hl => ?_)
      obtain ⟨n4, hq⟩ := hq
      exact klX2_build_159 X hr hg hB  n4 0 σ _ _ _ hq w (lv_sub hl [1, 0] rfl)
    · have hq := hq.2 c3
      refine lv_aload_n X.x X.b dX2_build_139 rfl (lv_at hl 0 rfl) ?_
      refine x_get X w (hg 0 0 (by decide)) rfl in_X2 rfl 1 (by decide) q200 rfl rfl dX2_build_140 ?_
      refine lv_iload X.x X.b dX2_build_143 (lv_at hl 1 rfl) ?_
      obtain ⟨o5, hq⟩ := hq
      refine x_aald X w (hg 2 0 (by decide)) (.object RX5) rfl rfl rfl (by decide) o5.1 o5.2 rfl dX2_build_145 ?_
      refine ra_iconst X.x X.b dX2_build_146 ?_
      refine x_put (z := 0) X w (hg 14 x5.toNat (tn o5)) rfl in_X5 tyX5 tyX5_ok nmX5 rfl 5 (by decide) q140 rfl rfl (by decide) (by decide) (Nat.le_of_ble_eq_true rfl) rfl dX2_build_147 (fun σ6 H locs eσ6 w => ?_)
      have hq := hq σ6 eσ6
      refine lv_iinc (v := Int32.ofInt (x5 + 1)) (lv' := [(5, vI (x5 + 1)), (0, .ref (ad g 0 0))]) X.x X.b dX2_build_150 hl (k := 1) rfl (Int32.ofInt_add _ _).symm (by decide) rfl (fun ls hl => ?_)
      refine lv_goto (tgt := 130) X.x X.b dX2_build_153 (by decide) ?_
      exact ih (x5 + 1) σ6 _ _ _ hq w (lv_sub hl [1, 0] rfl)
set_option maxHeartbeats 4000000 in
set_option maxRecDepth 100000 in
theorem klX2_build_91 {l : Launch} {p : Program} {e : Env} {s : State} {m : MethodId} {args : Array Value} {below : List Frame} {meth : Method} {c : Code} {D : va_G} {ids : Ids} {ad : Lay} {cA : Nat → ClassId} {A : Nat → Prop} {g : Nat} {P : Int → Tab → Prop} (X : Cx p m c meth cX2_build 6 s args RX2 D cA A nwW) (hr : meth.sig.returnType = some .boolean) (hg : HasH ids g) (hB : HasB ids) :
    ∀ (n : Nat) (x2 : Int) (x3 : Int) (x4 : Int) (x5 : Int) (σ : Tab) (H : Heap) (locs : List Loc) (ls : Array Slot), wlX2_build_91 g P n x2 x3 x4 x5 σ → ww D ids ad cA A σ s.heap H locs → lv_has ls 6 [(0, .ref (ad g 0 0)), (2, vI x2), (3, vI x3), (4, vI x4), (5, vI x5)] → W p l e rmX2_build s m args below meth c H locs 0 0 (MQ below (QI D ids ad cA A P) args s 0 0 A) (F0 m 91 ls []) := by
  intro n
  induction n with
  | zero => intro x2 x3 x4 x5 σ H locs ls hq w hl; exact hq.elim
  | succ n ih =>
    intro x2 x3 x4 x5 σ H locs ls hq w hl
    unfold wlX2_build_91 at hq
    refine lv_iload X.x X.b dX2_build_91 (lv_at hl 4 rfl) ?_
    refine lv_iload_n X.x X.b dX2_build_93 rfl (lv_at hl 1 rfl) ?_
    obtain ⟨o1, hq⟩ := hq
    obtain ⟨o2, hq⟩ := hq
    refine ra_icmp_ge (tgt := 122) X.x X.b o1 o2 dX2_build_94 (by decide) (fun c3 => ?_) (fun c3 => ?_)
    · have hq := hq.1 c3
      refine lv_aload_n X.x X.b dX2_build_122 rfl (lv_at hl 0 rfl) ?_
      refine ra_iconst X.x X.b dX2_build_123 ?_
      refine x_put (z := 0) X w (hg 0 0 (by decide)) rfl in_X2 tyX2 tyX2_ok nmX2 rfl 13 (by decide) q216 rfl rfl rfl rfl (Nat.le_of_ble_eq_true rfl) rfl dX2_build_124 (fun σ4 H locs eσ4 w => ?_)
      have hq := hq σ4 eσ4
      refine ra_iconst X.x X.b dX2_build_127 ?_
      refine lv_istore (lv' := [(5, vI 0), (0, .ref (ad g 0 0)), (2, vI x2), (3, vI x3), (4, vI x4)]) X.x X.b dX2_build_128 hl (by decide) rfl (fun ls hl => ?_)
      obtain ⟨n5, hq⟩ := hq
      exact klX2_build_130 X hr hg hB  n5 0 σ4 _ _ _ hq w (lv_sub hl [1, 0] rfl)
    · have hq := hq.2 c3
      refine lv_iload X.x X.b dX2_build_97 (lv_at hl 4 rfl) ?_
      refine lv_iload X.x X.b dX2_build_99 (lv_at hl 3 rfl) ?_
      obtain ⟨o6, hq⟩ := hq
      refine ra_icmp_eq (tgt := 116) X.x X.b o1 o6 dX2_build_101 (by decide) (fun c7 => ?_) (fun c7 => ?_)
      · have hq := hq.1 c7
        refine lv_iinc (v := Int32.ofInt (x5 + 1)) (lv' := [(5, vI (x5 + 1)), (0, .ref (ad g 0 0)), (2, vI x2), (3, vI x3), (4, vI x4)]) X.x X.b dX2_build_116 hl (k := 4) rfl (Int32.ofInt_add _ _).symm (by decide) rfl (fun ls hl => ?_)
        refine lv_goto (tgt := 91) X.x X.b dX2_build_119 (by decide) ?_
        exact ih x2 x3 x4 (x5 + 1) σ _ _ _ hq w (lv_sub hl [1, 2, 3, 4, 0] rfl)
      · have hq := hq.2 c7
        refine lv_iload X.x X.b dX2_build_104 (lv_at hl 4 rfl) ?_
        refine lv_iload_n X.x X.b dX2_build_106 rfl (lv_at hl 2 rfl) ?_
        obtain ⟨o8, hq⟩ := hq
        refine ra_icmp_eq (tgt := 116) X.x X.b o1 o8 dX2_build_107 (by decide) (fun c9 => ?_) (fun c9 => ?_)
        · have hq := hq.1 c9
          refine lv_iinc (v := Int32.ofInt (x5 + 1)) (lv' := [(5, vI (x5 + 1)), (0, .ref (ad g 0 0)), (2, vI x2), (3, vI x3), (4, vI x4)]) X.x X.b dX2_build_116 hl (k := 4) rfl (Int32.ofInt_add _ _).symm (by decide) rfl (fun ls hl => ?_)
          refine lv_goto (tgt := 91) X.x X.b dX2_build_119 (by decide) ?_
          exact ih x2 x3 x4 (x5 + 1) σ _ _ _ hq w (lv_sub hl [1, 2, 3, 4, 0] rfl)
        · have hq := hq.2 c9
          refine lv_aload_n X.x X.b dX2_build_110 rfl (lv_at hl 0 rfl) ?_
          refine lv_iload X.x X.b dX2_build_111 (lv_at hl 4 rfl) ?_
          refine x_callVv (n := 1) (As := [vI x5]) (rest := []) X w (hg 0 0 (by decide)) rfl rfl (mX2_add l D ids ad cA A g hg x5 σ _ hq) (lw_V q471 q473 qs4 q37 q474) ⟨rfl, rfl⟩ (by decide +kernel) ⟨Nat.le_of_ble_eq_true rfl, Nat.le_of_ble_eq_true rfl⟩ ⟨Nat.le_refl _, Nat.le_refl _⟩ rfl hl.1 rfl (Nat.le_of_ble_eq_true rfl) dX2_build_113 (fun σ10 H locs hq w => ?_)
          refine lv_iinc (v := Int32.ofInt (x5 + 1)) (lv' := [(5, vI (x5 + 1)), (0, .ref (ad g 0 0)), (2, vI x2), (3, vI x3), (4, vI x4)]) X.x X.b dX2_build_116 hl (k := 4) rfl (Int32.ofInt_add _ _).symm (by decide) rfl (fun ls hl => ?_)
          refine lv_goto (tgt := 91) X.x X.b dX2_build_119 (by decide) ?_
          exact ih x2 x3 x4 (x5 + 1) σ10 _ _ _ hq w (lv_sub hl [1, 2, 3, 4, 0] rfl)
set_option maxHeartbeats 4000000 in
set_option maxRecDepth 100000 in
theorem klX2_build_73 {l : Launch} {p : Program} {e : Env} {s : State} {m : MethodId} {args : Array Value} {below : List Frame} {meth : Method} {c : Code} {D : va_G} {ids : Ids} {ad : Lay} {cA : Nat → ClassId} {A : Nat → Prop} {g : Nat} {P : Int → Tab → Prop} (X : Cx p m c meth cX2_build 6 s args RX2 D cA A nwW) (hr : meth.sig.returnType = some .boolean) (hg : HasH ids g) (hB : HasB ids) :
    ∀ (x2 : Int) (y0 : Int) (σ : Tab) (H : Heap) (locs : List Loc) (ls : Array Slot), wlX2_build_73 g P x2 y0 σ → ww D ids ad cA A σ s.heap H locs → lv_has ls 6 [(0, .ref (ad g 0 0)), (2, vI x2)] → W p l e rmX2_build s m args below meth c H locs 0 0 (MQ below (QI D ids ad cA A P) args s 0 0 A) (F0 m 73 ls [vI y0]) := by
  intro x2 y0 σ H locs ls hq w hl
  unfold wlX2_build_73 at hq
  refine lv_istore_n (lv' := [(3, vI y0), (0, .ref (ad g 0 0)), (2, vI x2)]) X.x X.b dX2_build_73 rfl hl (by decide) rfl (fun ls hl => ?_)
  refine lv_iload_n X.x X.b dX2_build_74 rfl (lv_at hl 0 rfl) ?_
  obtain ⟨o1, hq⟩ := hq
  refine ra_if_ge (tgt := 80) X.x X.b o1 dX2_build_75 (by decide) (fun c2 => ?_) (fun c2 => ?_)
  · have hq := hq.1 c2
    refine lv_aload_n X.x X.b dX2_build_80 rfl (lv_at hl 1 rfl) ?_
    refine x_get X w (hg 0 0 (by decide)) rfl in_X2 rfl 5 (by decide) q206 rfl rfl dX2_build_81 ?_
    refine ra_iconst X.x X.b dX2_build_84 ?_
    refine x_iald X w (hg 6 0 (by decide)) rfl (by decide) (by decide) (by decide) dX2_build_85 ?_
    refine lv_istore (lv' := [(4, vI (σ g 6 0 0)), (3, vI y0), (0, .ref (ad g 0 0)), (2, vI x2)]) X.x X.b dX2_build_86 hl (by decide) rfl (fun ls hl => ?_)
    refine ra_iconst X.x X.b dX2_build_88 ?_
    refine lv_istore (lv' := [(5, vI 2), (4, vI (σ g 6 0 0)), (3, vI y0), (0, .ref (ad g 0 0)), (2, vI x2)]) X.x X.b dX2_build_89 hl (by decide) rfl (fun ls hl => ?_)
    obtain ⟨n3, hq⟩ := hq
    exact klX2_build_91 X hr hg hB  n3 x2 y0 (σ g 6 0 0) 2 σ _ _ _ hq w (lv_sub hl [3, 4, 2, 1, 0] rfl)
  · have hq := hq.2 c2
    refine ra_iconst X.x X.b dX2_build_78 ?_
    exact x_zret X hr w (by decide) hq dX2_build_79
set_option maxHeartbeats 4000000 in
set_option maxRecDepth 100000 in
theorem klX2_build_32 {l : Launch} {p : Program} {e : Env} {s : State} {m : MethodId} {args : Array Value} {below : List Frame} {meth : Method} {c : Code} {D : va_G} {ids : Ids} {ad : Lay} {cA : Nat → ClassId} {A : Nat → Prop} {g : Nat} {P : Int → Tab → Prop} (X : Cx p m c meth cX2_build 6 s args RX2 D cA A nwW) (hr : meth.sig.returnType = some .boolean) (hg : HasH ids g) (hB : HasB ids) :
    ∀ (n : Nat) (x2 : Int) (x3 : Int) (σ : Tab) (H : Heap) (locs : List Loc) (ls : Array Slot), wlX2_build_32 g P n x2 x3 σ → ww D ids ad cA A σ s.heap H locs → lv_has ls 6 [(0, .ref (ad g 0 0)), (2, vI x2), (3, vI x3)] → W p l e rmX2_build s m args below meth c H locs 0 0 (MQ below (QI D ids ad cA A P) args s 0 0 A) (F0 m 32 ls []) := by
  intro n
  induction n with
  | zero => intro x2 x3 σ H locs ls hq w hl; exact hq.elim
  | succ n ih =>
    intro x2 x3 σ H locs ls hq w hl
    unfold wlX2_build_32 at hq
    refine lv_iload_n X.x X.b dX2_build_32 rfl (lv_at hl 2 rfl) ?_
    refine ra_sipush X.x X.b dX2_build_33 rfl ?_
    obtain ⟨o1, hq⟩ := hq
    refine ra_icmp_ge (tgt := 55) X.x X.b o1 ⟨by decide, by decide⟩ dX2_build_36 (by decide) (fun c2 => ?_) (fun c2 => ?_)
    · have hq := hq.1 c2
      refine lv_aload_n X.x X.b dX2_build_55 rfl (lv_at hl 0 rfl) ?_
      refine ra_iconst X.x X.b dX2_build_56 ?_
      refine x_put (z := 0) X w (hg 0 0 (by decide)) rfl in_X2 tyX2 tyX2_ok nmX2 rfl 12 (by decide) q215 rfl rfl rfl rfl (Nat.le_of_ble_eq_true rfl) rfl dX2_build_57 (fun σ3 H locs eσ3 w => ?_)
      have hq := hq σ3 eσ3
      refine lv_iload_n X.x X.b dX2_build_60 rfl (lv_at hl 1 rfl) ?_
      refine ra_iconst X.x X.b dX2_build_61 ?_
      obtain ⟨o4, hq⟩ := hq
      refine ra_icmp_ge (tgt := 69) X.x X.b o4 ⟨by decide, by decide⟩ dX2_build_62 (by decide) (fun c5 => ?_) (fun c5 => ?_)
      · have hq := hq.1 c5
        refine lv_aload_n X.x X.b dX2_build_69 rfl (lv_at hl 0 rfl) ?_
        refine x_callVi (n := 0) (As := []) (rest := []) X w (hg 0 0 (by decide)) rfl rfl (mX2_begin l D ids ad cA A g hg σ3 _ hq) (lw_V q448 q450 qs2 q37 q451) ⟨rfl, rfl⟩ (by decide +kernel) ⟨Nat.le_of_ble_eq_true rfl, Nat.le_of_ble_eq_true rfl⟩ ⟨Nat.le_refl _, Nat.le_refl _⟩ rfl hl.1 rfl (Nat.le_of_ble_eq_true rfl) dX2_build_70 (fun z6 σ6 H locs hq w => ?_)
        exact klX2_build_73 X hr hg hB  x2 z6 σ6 _ _ _ hq w (lv_sub hl [0, 1] rfl)
      · have hq := hq.2 c5
        refine ra_iconst X.x X.b dX2_build_65 ?_
        refine lv_goto (tgt := 73) X.x X.b dX2_build_66 (by decide) ?_
        exact klX2_build_73 X hr hg hB  x2 (-1) σ3 _ _ _ hq w (lv_sub hl [0, 1] rfl)
    · have hq := hq.2 c2
      refine lv_aload_n X.x X.b dX2_build_39 rfl (lv_at hl 0 rfl) ?_
      refine x_get X w (hg 0 0 (by decide)) rfl in_X2 rfl 1 (by decide) q200 rfl rfl dX2_build_40 ?_
      refine lv_iload_n X.x X.b dX2_build_43 rfl (lv_at hl 2 rfl) ?_
      obtain ⟨o7, hq⟩ := hq
      refine x_aald X w (hg 2 0 (by decide)) (.object RX5) rfl rfl rfl (by decide) o7.1 o7.2 rfl dX2_build_44 ?_
      refine ra_iconst X.x X.b dX2_build_45 ?_
      refine x_put (z := 0) X w (hg 14 x3.toNat (tn o7)) rfl in_X5 tyX5 tyX5_ok nmX5 rfl 4 (by decide) q139 rfl rfl (by decide) (by decide) (Nat.le_of_ble_eq_true rfl) rfl dX2_build_46 (fun σ8 H locs eσ8 w => ?_)
      have hq := hq σ8 eσ8
      refine lv_iinc (v := Int32.ofInt (x3 + 1)) (lv' := [(3, vI (x3 + 1)), (0, .ref (ad g 0 0)), (2, vI x2)]) X.x X.b dX2_build_49 hl (k := 2) rfl (Int32.ofInt_add _ _).symm (by decide) rfl (fun ls hl => ?_)
      refine lv_goto (tgt := 32) X.x X.b dX2_build_52 (by decide) ?_
      exact ih x2 (x3 + 1) σ8 _ _ _ hq w (lv_sub hl [1, 2, 0] rfl)
set_option maxHeartbeats 4000000 in
set_option maxRecDepth 100000 in
theorem klX2_build_7 {l : Launch} {p : Program} {e : Env} {s : State} {m : MethodId} {args : Array Value} {below : List Frame} {meth : Method} {c : Code} {D : va_G} {ids : Ids} {ad : Lay} {cA : Nat → ClassId} {A : Nat → Prop} {g : Nat} {P : Int → Tab → Prop} (X : Cx p m c meth cX2_build 6 s args RX2 D cA A nwW) (hr : meth.sig.returnType = some .boolean) (hg : HasH ids g) (hB : HasB ids) :
    ∀ (n : Nat) (x2 : Int) (x3 : Int) (σ : Tab) (H : Heap) (locs : List Loc) (ls : Array Slot), wlX2_build_7 g P n x2 x3 σ → ww D ids ad cA A σ s.heap H locs → lv_has ls 6 [(0, .ref (ad g 0 0)), (1, .ref (ad 0 21 0)), (2, vI x2), (3, vI x3)] → W p l e rmX2_build s m args below meth c H locs 0 0 (MQ below (QI D ids ad cA A P) args s 0 0 A) (F0 m 7 ls []) := by
  intro n
  induction n with
  | zero => intro x2 x3 σ H locs ls hq w hl; exact hq.elim
  | succ n ih =>
    intro x2 x3 σ H locs ls hq w hl
    unfold wlX2_build_7 at hq
    refine lv_iload_n X.x X.b dX2_build_7 rfl (lv_at hl 3 rfl) ?_
    refine lv_iload_n X.x X.b dX2_build_8 rfl (lv_at hl 2 rfl) ?_
    obtain ⟨o1, hq⟩ := hq
    obtain ⟨o2, hq⟩ := hq
    refine ra_icmp_ge (tgt := 30) X.x X.b o1 o2 dX2_build_9 (by decide) (fun c3 => ?_) (fun c3 => ?_)
    · have hq := hq.1 c3
      refine ra_iconst X.x X.b dX2_build_30 ?_
      refine lv_istore_n (lv' := [(3, vI 0), (0, .ref (ad g 0 0)), (1, .ref (ad 0 21 0)), (2, vI x2)]) X.x X.b dX2_build_31 rfl hl (by decide) rfl (fun ls hl => ?_)
      obtain ⟨n4, hq⟩ := hq
      exact klX2_build_32 X hr hg hB  n4 x2 0 σ _ _ _ hq w (lv_sub hl [1, 3, 0] rfl)
    · have hq := hq.2 c3
      refine lv_aload_n X.x X.b dX2_build_12 rfl (lv_at hl 0 rfl) ?_
      refine x_get X w (hg 0 0 (by decide)) rfl in_X2 rfl 0 (by decide) q199 rfl rfl dX2_build_13 ?_
      refine lv_iload_n X.x X.b dX2_build_16 rfl (lv_at hl 3 rfl) ?_
      obtain ⟨o5, hq⟩ := hq
      refine x_aald X w (hg 1 0 (by decide)) (.object RX4) rfl rfl rfl (by decide) o5.1 o5.2 rfl dX2_build_17 ?_
      refine lv_aload_n X.x X.b dX2_build_18 rfl (lv_at hl 1 rfl) ?_
      refine lv_iload_n X.x X.b dX2_build_19 rfl (lv_at hl 3 rfl) ?_
      refine x_aald X w hB.2.1 (.object RX4) rfl rfl rfl (by decide) o5.1 o5.2 rfl dX2_build_20 ?_
      refine x_callVv (n := 1) (As := [.ref (ad 0 22 x3.toNat)]) (rest := []) X w (hg 13 x3.toNat (tn o5)) rfl rfl (mX4_copy l D ids ad cA A g 13 x3.toNat (hg 13 x3.toNat (tn o5)) (by unfold isPt; decide) 0 22 x3.toNat (hB.2.2 x3.toNat (tn o5)) (by unfold isPt; decide) σ _ hq) (lw_V q447 q432 q433 q39 q434) ⟨rfl, rfl⟩ (by decide +kernel) ⟨Nat.le_of_ble_eq_true rfl, Nat.le_of_ble_eq_true rfl⟩ ⟨Nat.le_refl _, Nat.le_refl _⟩ rfl hl.1 rfl (Nat.le_of_ble_eq_true rfl) dX2_build_21 (fun σ6 H locs hq w => ?_)
      refine lv_iinc (v := Int32.ofInt (x3 + 1)) (lv' := [(3, vI (x3 + 1)), (0, .ref (ad g 0 0)), (1, .ref (ad 0 21 0)), (2, vI x2)]) X.x X.b dX2_build_24 hl (k := 3) rfl (Int32.ofInt_add _ _).symm (by decide) rfl (fun ls hl => ?_)
      refine lv_goto (tgt := 7) X.x X.b dX2_build_27 (by decide) ?_
      exact ih x2 (x3 + 1) σ6 _ _ _ hq w (lv_sub hl [1, 2, 3, 0] rfl)
set_option maxHeartbeats 4000000 in
set_option maxRecDepth 100000 in
theorem mX2_build (l : Launch) (D : va_G) (ids : Ids) (ad : Lay) (cA : Nat → ClassId) (A : Nat → Prop) (g : Nat) (hg : HasH ids g) (hB : HasB ids) (x2 : Int) (σ : Tab) (P : Int → Tab → Prop) (hq : wpX2_build g x2 σ P) : Met l yX2_build (ws_ yX2_build cX2_build 6 (some .boolean)) rmX2_build (PcW D ids ad cA A σ [.ref (ad g 0 0), .ref (ad 0 21 0), vI x2]) (QI D ids ad cA A P) 0 0 A := by
  refine m_entry (own := RX2) (by decide) (Nat.le_of_ble_eq_true rfl) rfl ?_
  intro p e s m below meth c ls X hr w hl
  have hl : lv_has ls 6 [(0, .ref (ad g 0 0)), (1, .ref (ad 0 21 0)), (2, vI x2)] := hl
  unfold wpX2_build at hq
  refine lv_aload_n X.x X.b dX2_build_0 rfl (lv_at hl 0 rfl) ?_
  refine lv_iload_n X.x X.b dX2_build_1 rfl (lv_at hl 2 rfl) ?_
  refine x_put (z := x2) X w (hg 0 0 (by decide)) rfl in_X2 tyX2 tyX2_ok nmX2 rfl 11 (by decide) q214 rfl rfl rfl rfl (Nat.le_of_ble_eq_true rfl) rfl dX2_build_2 (fun σ1 H locs eσ1 w => ?_)
  have hq := hq σ1 eσ1
  refine ra_iconst X.x X.b dX2_build_5 ?_
  refine lv_istore_n (lv' := [(3, vI 0), (0, .ref (ad g 0 0)), (1, .ref (ad 0 21 0)), (2, vI x2)]) X.x X.b dX2_build_6 rfl hl (by decide) rfl (fun ls hl => ?_)
  obtain ⟨n2, hq⟩ := hq
  exact klX2_build_7 X hr hg hB  n2 x2 0 σ1 _ _ _ hq w (lv_sub hl [1, 2, 3, 0] rfl)
end
