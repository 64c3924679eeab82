/-! the walk of X2_support X2_walk X2_side X2_moment (written by wip/D-68248w/tools/genwalk.py) -/
section
def wlX2_support_164 (g : Nat) (P : Int → Tab → Prop) (K154 : Int → Int → Int → Int → Int → Int → Int → Tab → Prop) : Nat → Int → Int → Int → Int → Int → Int → Int → Int → Tab → Prop
  | 0, _, _, _, _, _, _, _, _, _ => False
  | n + 1, x1, x3, x5, x9, x11, x12, x13, x14, σ => (inI x14 ∧ ((24 ≤ x14 → K154 x1 x3 x5 x9 x11 x12 (x13 + 1) σ) ∧ (¬ (24 ≤ x14) → ((0 ≤ x13 ∧ x13 < 24) ∧ ((0 ≤ σ g 8 0 x13.toNat ∧ σ g 8 0 x13.toNat < 24) ∧ ((0 ≤ x14 ∧ x14 < 24) ∧ (inI (σ g 11 ((σ g 8 0 x13.toNat).toNat) x14.toNat) ∧ ((σ g 11 ((σ g 8 0 x13.toNat).toNat) x14.toNat = 0 → wlX2_support_164 g P K154 n x1 x3 x5 x9 x11 x12 x13 (x14 + 1) σ) ∧ (¬ (σ g 11 ((σ g 8 0 x13.toNat).toNat) x14.toNat = 0) → (inI (σ g 7 0 x14.toNat) ∧ ((0 ≤ σ g 7 0 x14.toNat → wlX2_support_164 g P K154 n x1 x3 x5 x9 x11 x12 x13 (x14 + 1) σ) ∧ (¬ (0 ≤ σ g 7 0 x14.toNat) → wpX2_along g x14 x1 x3 x5 σ (fun z10 σ10 => (inL z10 ∧ (inL x9 ∧ ((z10 = x9 → ((0 ≤ x14 ∧ x14 < 24) ∧ (∀ σ15 : Tab, σ15 = st σ10 g 7 0 x14.toNat 0 → ((0 ≤ x12 ∧ x12 < 24) ∧ (∀ σ17 : Tab, σ17 = st σ15 g 8 0 x12.toNat x14 → (inI x11 ∧ ((x11 ≤ x14 → wlX2_support_164 g P K154 n x1 x3 x5 x9 x11 (x12 + 1) x13 (x14 + 1) σ17) ∧ (¬ (x11 ≤ x14) → wlX2_support_164 g P K154 n x1 x3 x5 x9 x14 (x12 + 1) x13 (x14 + 1) σ17)))))))) ∧ (¬ (z10 = x9) → wlX2_support_164 g P K154 n x1 x3 x5 x9 x11 x12 x13 (x14 + 1) σ10)))))))))))))))))
def wlX2_support_154 (g : Nat) (P : Int → Tab → Prop) : Nat → Int → Int → Int → Int → Int → Int → Int → Tab → Prop
  | 0, _, _, _, _, _, _, _, _ => False
  | n + 1, x1, x3, x5, x9, x11, x12, x13, σ => (inI x13 ∧ (inI x12 ∧ ((x12 ≤ x13 → P x11 σ) ∧ (¬ (x12 ≤ x13) → (∃ k : Nat, wlX2_support_164 g P (fun x1 x3 x5 x9 x11 x12 x13 τ => wlX2_support_154 g P n x1 x3 x5 x9 x11 x12 x13 τ) k x1 x3 x5 x9 x11 x12 x13 0 σ)))))
def wlX2_support_107 (g : Nat) (P : Int → Tab → Prop) : Nat → Int → Int → Int → Int → Int → Int → Tab → Prop
  | 0, _, _, _, _, _, _, _ => False
  | n + 1, x1, x3, x5, x7, x9, x11, σ => (inI x11 ∧ ((24 ≤ x11 → ((0 ≤ x7 ∧ x7 < 24) ∧ (∀ σ4 : Tab, σ4 = st σ g 7 0 x7.toNat 0 → (∀ σ5 : Tab, σ5 = st σ4 g 8 0 0 x7 → (∃ k : Nat, wlX2_support_154 g P k x1 x3 x5 x9 x7 1 0 σ5))))) ∧ (¬ (24 ≤ x11) → ((0 ≤ x11 ∧ x11 < 24) ∧ (∀ σ8 : Tab, σ8 = st σ g 7 0 x11.toNat (-1) → wlX2_support_107 g P n x1 x3 x5 x7 x9 (x11 + 1) σ8)))))
def wlX2_support_27 (g : Nat) (P : Int → Tab → Prop) (K16 : Int → Int → Int → Int → Int → Tab → Prop) : Nat → Int → Int → Int → Int → Int → Int → Tab → Prop
  | 0, _, _, _, _, _, _, _ => False
  | n + 1, x1, x3, x5, x7, x8, x9, σ => (inI x9 ∧ ((24 ≤ x9 → K16 x1 x3 x5 x7 x8 σ) ∧ (¬ (24 ≤ x9) → (inI x8 ∧ ((x8 ≠ 0 → K16 x1 x3 x5 x7 x8 σ) ∧ (¬ (x8 ≠ 0) → ((0 ≤ x7 ∧ x7 < 24) ∧ ((0 ≤ x9 ∧ x9 < 24) ∧ (inI (σ g 11 x7.toNat x9.toNat) ∧ ((σ g 11 x7.toNat x9.toNat = 0 → wlX2_support_27 g P K16 n x1 x3 x5 x7 x8 (x9 + 1) σ) ∧ (¬ (σ g 11 x7.toNat x9.toNat = 0) → wpX2_along g x9 x1 x3 x5 σ (fun z9 σ9 => wpX2_along g x7 x1 x3 x5 σ9 (fun z10 σ10 => (inL z9 ∧ (inL z10 ∧ ((z9 ≤ z10 → wlX2_support_27 g P K16 n x1 x3 x5 x7 x8 (x9 + 1) σ10) ∧ (¬ (z9 ≤ z10) → wlX2_support_27 g P K16 n x1 x3 x5 x9 1 (x9 + 1) σ10)))))))))))))))))
def wlX2_support_16 (g : Nat) (P : Int → Tab → Prop) : Nat → Int → Int → Int → Int → Int → Tab → Prop
  | 0, _, _, _, _, _, _ => False
  | n + 1, x1, x3, x5, x7, x8, σ => (inI x8 ∧ ((x8 = 0 → wpX2_along g x7 x1 x3 x5 σ (fun z3 σ3 => (∃ k : Nat, wlX2_support_107 g P k x1 x3 x5 x7 z3 0 σ3))) ∧ (¬ (x8 = 0) → (∃ k : Nat, wlX2_support_27 g P (fun x1 x3 x5 x7 x8 τ => wlX2_support_16 g P n x1 x3 x5 x7 x8 τ) k x1 x3 x5 x7 0 0 σ))))
def wpX2_support (g : Nat) (x1 : Int) (x3 : Int) (x5 : Int) (σ : Tab) (P : Int → Tab → Prop) : Prop := ((0 ≤ σ g 3 0 0 ∧ σ g 3 0 0 < 44) ∧ (∀ y2 : Int, y2 = σ g 18 ((σ g 3 0 0).toNat) 0 → (∃ k : Nat, wlX2_support_16 g P k x1 x3 x5 y2 1 σ)))
abbrev rmX2_support : Room := { frames := 1, cells := 0, slots := 0, locals := 27 }
set_option maxHeartbeats 4000000 in
set_option maxRecDepth 100000 in
theorem klX2_support_164 {l : Launch} {p : Program} {e : Env} {s : State} {m : MethodId} {args : Array Value} {below : List Frame} {meth : Method} {c : Code} {D : va_G} {ids : Ids} {ad : Lay} {cA : Nat → ClassId} {A : Nat → Prop} {g : Nat} {P : Int → Tab → Prop} {K154 : Int → Int → Int → Int → Int → Int → Int → Tab → Prop} (X : Cx p m c meth cX2_support 15 s args RX2 D cA A nwW) (hr : meth.sig.returnType = some .int) (hg : HasH ids g) (kk154 : ∀ (x1 : Int) (x3 : Int) (x5 : Int) (x9 : Int) (x11 : Int) (x12 : Int) (x13 : Int) (σ : Tab) (H : Heap) (locs : List Loc) (ls : Array Slot), K154 x1 x3 x5 x9 x11 x12 x13 σ → ww D ids ad cA A σ s.heap H locs → lv_has ls 15 [(0, .ref (ad g 0 0)), (1, vL x1), (3, vL x3), (5, vL x5), (9, vL x9), (11, vI x11), (12, vI x12), (13, vI x13)] → W p l e rmX2_support s m args below meth c H locs 0 0 (MQ below (QI D ids ad cA A P) args s 0 0 A) (F0 m 154 ls [])) :
    ∀ (n : Nat) (x1 : Int) (x3 : Int) (x5 : Int) (x9 : Int) (x11 : Int) (x12 : Int) (x13 : Int) (x14 : Int) (σ : Tab) (H : Heap) (locs : List Loc) (ls : Array Slot), wlX2_support_164 g P K154 n x1 x3 x5 x9 x11 x12 x13 x14 σ → ww D ids ad cA A σ s.heap H locs → lv_has ls 15 [(0, .ref (ad g 0 0)), (1, vL x1), (3, vL x3), (5, vL x5), (9, vL x9), (11, vI x11), (12, vI x12), (13, vI x13), (14, vI x14)] → W p l e rmX2_support s m args below meth c H locs 0 0 (MQ below (QI D ids ad cA A P) args s 0 0 A) (F0 m 164 ls []) := by
  intro n
  induction n with
  | zero => intro x1 x3 x5 x9 x11 x12 x13 x14 σ H locs ls hq w hl; exact hq.elim
  | succ n ih =>
    intro x1 x3 x5 x9 x11 x12 x13 x14 σ H locs ls hq w hl
    unfold wlX2_support_164 at hq
    refine lv_iload X.x X.b dX2_support_164 (lv_at hl 8 rfl) ?_
    refine ra_bipush X.x X.b dX2_support_166 rfl ?_
    obtain ⟨o1, hq⟩ := hq
    refine ra_icmp_ge (tgt := 255) X.x X.b o1 ⟨by decide, by decide⟩ dX2_support_168 (by decide) (fun c2 => ?_) (fun c2 => ?_)
    · have hq := hq.1 c2
      refine lv_iinc (v := Int32.ofInt (x13 + 1)) (lv' := [(13, vI (x13 + 1)), (0, .ref (ad g 0 0)), (1, vL x1), (3, vL x3), (5, vL x5), (9, vL x9), (11, vI x11), (12, vI x12), (14, vI x14)]) X.x X.b dX2_support_255 hl (k := 7) rfl (Int32.ofInt_add _ _).symm (by decide) rfl (fun ls hl => ?_)
      refine lv_goto (tgt := 154) X.x X.b dX2_support_258 (by decide) ?_
      exact kk154 x1 x3 x5 x9 x11 x12 (x13 + 1) σ _ _ _ hq w (lv_sub hl [1, 2, 3, 4, 5, 6, 7, 0] rfl)
    · have hq := hq.2 c2
      refine lv_aload_n X.x X.b dX2_support_171 rfl (lv_at hl 0 rfl) ?_
      refine x_get X w (hg 0 0 (by decide)) rfl in_X2 rfl 9 (by decide) q212 rfl rfl dX2_support_172 ?_
      refine lv_aload_n X.x X.b dX2_support_175 rfl (lv_at hl 0 rfl) ?_
      refine x_get X w (hg 0 0 (by decide)) rfl in_X2 rfl 7 (by decide) q209 rfl rfl dX2_support_176 ?_
      refine lv_iload X.x X.b dX2_support_179 (lv_at hl 7 rfl) ?_
      obtain ⟨o3, hq⟩ := hq
      refine x_iald X w (hg 8 0 (by decide)) rfl (by decide) o3.1 o3.2 dX2_support_181 ?_
      obtain ⟨o4, hq⟩ := hq
      refine x_aald X w (hg 10 0 (by decide)) (.array .boolean) rfl rfl rfl (by decide) o4.1 o4.2 rfl dX2_support_182 ?_
      refine lv_iload X.x X.b dX2_support_183 (lv_at hl 8 rfl) ?_
      obtain ⟨o5, hq⟩ := hq
      refine x_zald X w (hg 11 ((σ g 8 0 x13.toNat).toNat) (tn o4)) rfl (by decide) o5.1 o5.2 dX2_support_185 ?_
      obtain ⟨o6, hq⟩ := hq
      refine ra_if_eq (tgt := 249) X.x X.b o6 dX2_support_186 (by decide) (fun c7 => ?_) (fun c7 => ?_)
      · have hq := hq.1 c7
        refine lv_iinc (v := Int32.ofInt (x14 + 1)) (lv' := [(14, vI (x14 + 1)), (0, .ref (ad g 0 0)), (1, vL x1), (3, vL x3), (5, vL x5), (9, vL x9), (11, vI x11), (12, vI x12), (13, vI x13)]) X.x X.b dX2_support_249 hl (k := 8) rfl (Int32.ofInt_add _ _).symm (by decide) rfl (fun ls hl => ?_)
        refine lv_goto (tgt := 164) X.x X.b dX2_support_252 (by decide) ?_
        exact ih x1 x3 x5 x9 x11 x12 x13 (x14 + 1) σ _ _ _ hq w (lv_sub hl [1, 2, 3, 4, 5, 6, 7, 8, 0] rfl)
      · have hq := hq.2 c7
        refine lv_aload_n X.x X.b dX2_support_189 rfl (lv_at hl 0 rfl) ?_
        refine x_get X w (hg 0 0 (by decide)) rfl in_X2 rfl 6 (by decide) q207 rfl rfl dX2_support_190 ?_
        refine lv_iload X.x X.b dX2_support_193 (lv_at hl 8 rfl) ?_
        refine x_iald X w (hg 7 0 (by decide)) rfl (by decide) o5.1 o5.2 dX2_support_195 ?_
        obtain ⟨o8, hq⟩ := hq
        refine ra_if_ge (tgt := 249) X.x X.b o8 dX2_support_196 (by decide) (fun c9 => ?_) (fun c9 => ?_)
        · have hq := hq.1 c9
          refine lv_iinc (v := Int32.ofInt (x14 + 1)) (lv' := [(14, vI (x14 + 1)), (0, .ref (ad g 0 0)), (1, vL x1), (3, vL x3), (5, vL x5), (9, vL x9), (11, vI x11), (12, vI x12), (13, vI x13)]) X.x X.b dX2_support_249 hl (k := 8) rfl (Int32.ofInt_add _ _).symm (by decide) rfl (fun ls hl => ?_)
          refine lv_goto (tgt := 164) X.x X.b dX2_support_252 (by decide) ?_
          exact ih x1 x3 x5 x9 x11 x12 x13 (x14 + 1) σ _ _ _ hq w (lv_sub hl [1, 2, 3, 4, 5, 6, 7, 8, 0] rfl)
        · have hq := hq.2 c9
          refine lv_aload_n X.x X.b dX2_support_199 rfl (lv_at hl 0 rfl) ?_
          refine lv_iload X.x X.b dX2_support_200 (lv_at hl 8 rfl) ?_
          refine lv_lload_n X.x X.b dX2_support_202 rfl (lv_at hl 1 rfl) ?_
          refine lv_lload_n X.x X.b dX2_support_203 rfl (lv_at hl 2 rfl) ?_
          refine lv_lload X.x X.b dX2_support_204 (lv_at hl 3 rfl) ?_
          refine x_callVl (n := 4) (As := [vI x14, vL x1, vL x3, vL x5]) (rest := []) X w (hg 0 0 (by decide)) rfl rfl (mX2_along l D ids ad cA A g hg x14 x1 x3 x5 σ _ hq) (lw_V q597 q599 qs13 q37 q600) ⟨rfl, rfl⟩ (by decide +kernel) ⟨Nat.le_of_ble_eq_true rfl, Nat.le_of_ble_eq_true rfl⟩ ⟨Nat.le_refl _, Nat.le_refl _⟩ rfl hl.1 rfl (Nat.le_of_ble_eq_true rfl) dX2_support_206 (fun z10 σ10 H locs hq w => ?_)
          refine lv_lload X.x X.b dX2_support_209 (lv_at hl 4 rfl) ?_
          obtain ⟨o11, hq⟩ := hq
          obtain ⟨o12, hq⟩ := hq
          refine ra_lcmp_eq (tgt := 218) X.x X.b o11 o12 dX2_support_211 dX2_support_212 (by decide) (fun c13 => ?_) (fun c13 => ?_)
          · have hq := hq.1 c13
            refine lv_aload_n X.x X.b dX2_support_218 rfl (lv_at hl 0 rfl) ?_
            refine x_get X w (hg 0 0 (by decide)) rfl in_X2 rfl 6 (by decide) q207 rfl rfl dX2_support_219 ?_
            refine lv_iload X.x X.b dX2_support_222 (lv_at hl 8 rfl) ?_
            refine ra_iconst X.x X.b dX2_support_224 ?_
            obtain ⟨o14, hq⟩ := hq
            refine x_iast X w (hg 7 0 (by decide)) (fun _ => rfl) (by decide) o14.1 o14.2 dX2_support_225 (fun σ15 H locs eσ15 w => ?_)
            have hq := hq σ15 eσ15
            refine lv_aload_n X.x X.b dX2_support_226 rfl (lv_at hl 0 rfl) ?_
            refine x_get X w (hg 0 0 (by decide)) rfl in_X2 rfl 7 (by decide) q209 rfl rfl dX2_support_227 ?_
            refine lv_iload X.x X.b dX2_support_230 (lv_at hl 6 rfl) ?_
            refine lv_iinc (v := Int32.ofInt (x12 + 1)) (lv' := [(12, vI (x12 + 1)), (0, .ref (ad g 0 0)), (1, vL x1), (3, vL x3), (5, vL x5), (9, vL x9), (11, vI x11), (13, vI x13), (14, vI x14)]) X.x X.b dX2_support_232 hl (k := 6) rfl (Int32.ofInt_add _ _).symm (by decide) rfl (fun ls hl => ?_)
            refine lv_iload X.x X.b dX2_support_235 (lv_at hl 8 rfl) ?_
            obtain ⟨o16, hq⟩ := hq
            refine x_iast X w (hg 8 0 (by decide)) (fun _ => rfl) (by decide) o16.1 o16.2 dX2_support_237 (fun σ17 H locs eσ17 w => ?_)
            have hq := hq σ17 eσ17
            refine lv_iload X.x X.b dX2_support_238 (lv_at hl 8 rfl) ?_
            refine lv_iload X.x X.b dX2_support_240 (lv_at hl 6 rfl) ?_
            obtain ⟨o18, hq⟩ := hq
            refine ra_icmp_ge (tgt := 249) X.x X.b (inI_bd o14 (by decide)) o18 dX2_support_242 (by decide) (fun c19 => ?_) (fun c19 => ?_)
            · have hq := hq.1 c19
              refine lv_iinc (v := Int32.ofInt (x14 + 1)) (lv' := [(14, vI (x14 + 1)), (12, vI (x12 + 1)), (0, .ref (ad g 0 0)), (1, vL x1), (3, vL x3), (5, vL x5), (9, vL x9), (11, vI x11), (13, vI x13)]) X.x X.b dX2_support_249 hl (k := 8) rfl (Int32.ofInt_add _ _).symm (by decide) rfl (fun ls hl => ?_)
              refine lv_goto (tgt := 164) X.x X.b dX2_support_252 (by decide) ?_
              exact ih x1 x3 x5 x9 x11 (x12 + 1) x13 (x14 + 1) σ17 _ _ _ hq w (lv_sub hl [2, 3, 4, 5, 6, 7, 1, 8, 0] rfl)
            · have hq := hq.2 c19
              refine lv_iload X.x X.b dX2_support_245 (lv_at hl 8 rfl) ?_
              refine lv_istore (lv' := [(11, vI x14), (12, vI (x12 + 1)), (0, .ref (ad g 0 0)), (1, vL x1), (3, vL x3), (5, vL x5), (9, vL x9), (13, vI x13), (14, vI x14)]) X.x X.b dX2_support_247 hl (by decide) rfl (fun ls hl => ?_)
              refine lv_iinc (v := Int32.ofInt (x14 + 1)) (lv' := [(14, vI (x14 + 1)), (11, vI x14), (12, vI (x12 + 1)), (0, .ref (ad g 0 0)), (1, vL x1), (3, vL x3), (5, vL x5), (9, vL x9), (13, vI x13)]) X.x X.b dX2_support_249 hl (k := 8) rfl (Int32.ofInt_add _ _).symm (by decide) rfl (fun ls hl => ?_)
              refine lv_goto (tgt := 164) X.x X.b dX2_support_252 (by decide) ?_
              exact ih x1 x3 x5 x9 x14 (x12 + 1) x13 (x14 + 1) σ17 _ _ _ hq w (lv_sub hl [3, 4, 5, 6, 7, 1, 2, 8, 0] rfl)
          · have hq := hq.2 c13
            refine lv_goto (tgt := 249) X.x X.b dX2_support_215 (by decide) ?_
            refine lv_iinc (v := Int32.ofInt (x14 + 1)) (lv' := [(14, vI (x14 + 1)), (0, .ref (ad g 0 0)), (1, vL x1), (3, vL x3), (5, vL x5), (9, vL x9), (11, vI x11), (12, vI x12), (13, vI x13)]) X.x X.b dX2_support_249 hl (k := 8) rfl (Int32.ofInt_add _ _).symm (by decide) rfl (fun ls hl => ?_)
            refine lv_goto (tgt := 164) X.x X.b dX2_support_252 (by decide) ?_
            exact ih x1 x3 x5 x9 x11 x12 x13 (x14 + 1) σ10 _ _ _ hq w (lv_sub hl [1, 2, 3, 4, 5, 6, 7, 8, 0] rfl)
set_option maxHeartbeats 4000000 in
set_option maxRecDepth 100000 in
theorem klX2_support_154 {l : Launch} {p : Program} {e : Env} {s : State} {m : MethodId} {args : Array Value} {below : List Frame} {meth : Method} {c : Code} {D : va_G} {ids : Ids} {ad : Lay} {cA : Nat → ClassId} {A : Nat → Prop} {g : Nat} {P : Int → Tab → Prop} (X : Cx p m c meth cX2_support 15 s args RX2 D cA A nwW) (hr : meth.sig.returnType = some .int) (hg : HasH ids g) :
    ∀ (n : Nat) (x1 : Int) (x3 : Int) (x5 : Int) (x9 : Int) (x11 : Int) (x12 : Int) (x13 : Int) (σ : Tab) (H : Heap) (locs : List Loc) (ls : Array Slot), wlX2_support_154 g P n x1 x3 x5 x9 x11 x12 x13 σ → ww D ids ad cA A σ s.heap H locs → lv_has ls 15 [(0, .ref (ad g 0 0)), (1, vL x1), (3, vL x3), (5, vL x5), (9, vL x9), (11, vI x11), (12, vI x12), (13, vI x13)] → W p l e rmX2_support s m args below meth c H locs 0 0 (MQ below (QI D ids ad cA A P) args s 0 0 A) (F0 m 154 ls []) := by
  intro n
  induction n with
  | zero => intro x1 x3 x5 x9 x11 x12 x13 σ H locs ls hq w hl; exact hq.elim
  | succ n ih =>
    intro x1 x3 x5 x9 x11 x12 x13 σ H locs ls hq w hl
    unfold wlX2_support_154 at hq
    refine lv_iload X.x X.b dX2_support_154 (lv_at hl 7 rfl) ?_
    refine lv_iload X.x X.b dX2_support_156 (lv_at hl 6 rfl) ?_
    obtain ⟨o1, hq⟩ := hq
    obtain ⟨o2, hq⟩ := hq
    refine ra_icmp_ge (tgt := 261) X.x X.b o1 o2 dX2_support_158 (by decide) (fun c3 => ?_) (fun c3 => ?_)
    · have hq := hq.1 c3
      refine lv_iload X.x X.b dX2_support_261 (lv_at hl 5 rfl) ?_
      exact x_iret X hr w hq dX2_support_263
    · have hq := hq.2 c3
      refine ra_iconst X.x X.b dX2_support_161 ?_
      refine lv_istore (lv' := [(14, vI 0), (0, .ref (ad g 0 0)), (1, vL x1), (3, vL x3), (5, vL x5), (9, vL x9), (11, vI x11), (12, vI x12), (13, vI x13)]) X.x X.b dX2_support_162 hl (by decide) rfl (fun ls hl => ?_)
      obtain ⟨n4, hq⟩ := hq
      exact klX2_support_164 X hr hg (fun a0 a1 a2 a3 a4 a5 a6 τ H L ls q w h => ih a0 a1 a2 a3 a4 a5 a6 τ H L ls q w h) n4 x1 x3 x5 x9 x11 x12 x13 0 σ _ _ _ hq w (lv_sub hl [1, 2, 3, 4, 5, 6, 7, 8, 0] rfl)
set_option maxHeartbeats 4000000 in
set_option maxRecDepth 100000 in
theorem klX2_support_107 {l : Launch} {p : Program} {e : Env} {s : State} {m : MethodId} {args : Array Value} {below : List Frame} {meth : Method} {c : Code} {D : va_G} {ids : Ids} {ad : Lay} {cA : Nat → ClassId} {A : Nat → Prop} {g : Nat} {P : Int → Tab → Prop} (X : Cx p m c meth cX2_support 15 s args RX2 D cA A nwW) (hr : meth.sig.returnType = some .int) (hg : HasH ids g) :
    ∀ (n : Nat) (x1 : Int) (x3 : Int) (x5 : Int) (x7 : Int) (x9 : Int) (x11 : Int) (σ : Tab) (H : Heap) (locs : List Loc) (ls : Array Slot), wlX2_support_107 g P n x1 x3 x5 x7 x9 x11 σ → ww D ids ad cA A σ s.heap H locs → lv_has ls 15 [(0, .ref (ad g 0 0)), (1, vL x1), (3, vL x3), (5, vL x5), (7, vI x7), (9, vL x9), (11, vI x11)] → W p l e rmX2_support s m args below meth c H locs 0 0 (MQ below (QI D ids ad cA A P) args s 0 0 A) (F0 m 107 ls []) := by
  intro n
  induction n with
  | zero => intro x1 x3 x5 x7 x9 x11 σ H locs ls hq w hl; exact hq.elim
  | succ n ih =>
    intro x1 x3 x5 x7 x9 x11 σ H locs ls hq w hl
    unfold wlX2_support_107 at hq
    refine lv_iload X.x X.b dX2_support_107 (lv_at hl 6 rfl) ?_
    refine ra_bipush X.x X.b dX2_support_109 rfl ?_
    obtain ⟨o1, hq⟩ := hq
    refine ra_icmp_ge (tgt := 128) X.x X.b o1 ⟨by decide, by decide⟩ dX2_support_111 (by decide) (fun c2 => ?_) (fun c2 => ?_)
    · have hq := hq.1 c2
      refine lv_aload_n X.x X.b dX2_support_128 rfl (lv_at hl 0 rfl) ?_
      refine x_get X w (hg 0 0 (by decide)) rfl in_X2 rfl 6 (by decide) q207 rfl rfl dX2_support_129 ?_
      refine lv_iload X.x X.b dX2_support_132 (lv_at hl 4 rfl) ?_
      refine ra_iconst X.x X.b dX2_support_134 ?_
      obtain ⟨o3, hq⟩ := hq
      refine x_iast X w (hg 7 0 (by decide)) (fun _ => rfl) (by decide) o3.1 o3.2 dX2_support_135 (fun σ4 H locs eσ4 w => ?_)
      have hq := hq σ4 eσ4
      refine lv_aload_n X.x X.b dX2_support_136 rfl (lv_at hl 0 rfl) ?_
      refine x_get X w (hg 0 0 (by decide)) rfl in_X2 rfl 7 (by decide) q209 rfl rfl dX2_support_137 ?_
      refine ra_iconst X.x X.b dX2_support_140 ?_
      refine lv_iload X.x X.b dX2_support_141 (lv_at hl 4 rfl) ?_
      refine x_iast X w (hg 8 0 (by decide)) (fun _ => rfl) (by decide) (by decide) (by decide) dX2_support_143 (fun σ5 H locs eσ5 w => ?_)
      have hq := hq σ5 eσ5
      refine lv_iload X.x X.b dX2_support_144 (lv_at hl 4 rfl) ?_
      refine lv_istore (lv' := [(11, vI x7), (0, .ref (ad g 0 0)), (1, vL x1), (3, vL x3), (5, vL x5), (7, vI x7), (9, vL x9)]) X.x X.b dX2_support_146 hl (by decide) rfl (fun ls hl => ?_)
      refine ra_iconst X.x X.b dX2_support_148 ?_
      refine lv_istore (lv' := [(12, vI 1), (11, vI x7), (0, .ref (ad g 0 0)), (1, vL x1), (3, vL x3), (5, vL x5), (7, vI x7), (9, vL x9)]) X.x X.b dX2_support_149 hl (by decide) rfl (fun ls hl => ?_)
      refine ra_iconst X.x X.b dX2_support_151 ?_
      refine lv_istore (lv' := [(13, vI 0), (12, vI 1), (11, vI x7), (0, .ref (ad g 0 0)), (1, vL x1), (3, vL x3), (5, vL x5), (7, vI x7), (9, vL x9)]) X.x X.b dX2_support_152 hl (by decide) rfl (fun ls hl => ?_)
      obtain ⟨n6, hq⟩ := hq
      exact klX2_support_154 X hr hg  n6 x1 x3 x5 x9 x7 1 0 σ5 _ _ _ hq w (lv_sub hl [3, 4, 5, 6, 8, 2, 1, 0] rfl)
    · have hq := hq.2 c2
      refine lv_aload_n X.x X.b dX2_support_114 rfl (lv_at hl 0 rfl) ?_
      refine x_get X w (hg 0 0 (by decide)) rfl in_X2 rfl 6 (by decide) q207 rfl rfl dX2_support_115 ?_
      refine lv_iload X.x X.b dX2_support_118 (lv_at hl 6 rfl) ?_
      refine ra_iconst X.x X.b dX2_support_120 ?_
      obtain ⟨o7, hq⟩ := hq
      refine x_iast X w (hg 7 0 (by decide)) (fun _ => rfl) (by decide) o7.1 o7.2 dX2_support_121 (fun σ8 H locs eσ8 w => ?_)
      have hq := hq σ8 eσ8
      refine lv_iinc (v := Int32.ofInt (x11 + 1)) (lv' := [(11, vI (x11 + 1)), (0, .ref (ad g 0 0)), (1, vL x1), (3, vL x3), (5, vL x5), (7, vI x7), (9, vL x9)]) X.x X.b dX2_support_122 hl (k := 6) rfl (Int32.ofInt_add _ _).symm (by decide) rfl (fun ls hl => ?_)
      refine lv_goto (tgt := 107) X.x X.b dX2_support_125 (by decide) ?_
      exact ih x1 x3 x5 x7 x9 (x11 + 1) σ8 _ _ _ hq w (lv_sub hl [1, 2, 3, 4, 5, 6, 0] rfl)
set_option maxHeartbeats 4000000 in
set_option maxRecDepth 100000 in
theorem klX2_support_27 {l : Launch} {p : Program} {e : Env} {s : State} {m : MethodId} {args : Array Value} {below : List Frame} {meth : Method} {c : Code} {D : va_G} {ids : Ids} {ad : Lay} {cA : Nat → ClassId} {A : Nat → Prop} {g : Nat} {P : Int → Tab → Prop} {K16 : Int → Int → Int → Int → Int → Tab → Prop} (X : Cx p m c meth cX2_support 15 s args RX2 D cA A nwW) (hr : meth.sig.returnType = some .int) (hg : HasH ids g) (kk16 : ∀ (x1 : Int) (x3 : Int) (x5 : Int) (x7 : Int) (x8 : Int) (σ : Tab) (H : Heap) (locs : List Loc) (ls : Array Slot), K16 x1 x3 x5 x7 x8 σ → ww D ids ad cA A σ s.heap H locs → lv_has ls 15 [(0, .ref (ad g 0 0)), (1, vL x1), (3, vL x3), (5, vL x5), (7, vI x7), (8, vI x8)] → W p l e rmX2_support s m args below meth c H locs 0 0 (MQ below (QI D ids ad cA A P) args s 0 0 A) (F0 m 16 ls [])) :
    ∀ (n : Nat) (x1 : Int) (x3 : Int) (x5 : Int) (x7 : Int) (x8 : Int) (x9 : Int) (σ : Tab) (H : Heap) (locs : List Loc) (ls : Array Slot), wlX2_support_27 g P K16 n x1 x3 x5 x7 x8 x9 σ → ww D ids ad cA A σ s.heap H locs → lv_has ls 15 [(0, .ref (ad g 0 0)), (1, vL x1), (3, vL x3), (5, vL x5), (7, vI x7), (8, vI x8), (9, vI x9)] → W p l e rmX2_support s m args below meth c H locs 0 0 (MQ below (QI D ids ad cA A P) args s 0 0 A) (F0 m 27 ls []) := by
  intro n
  induction n with
  | zero => intro x1 x3 x5 x7 x8 x9 σ H locs ls hq w hl; exact hq.elim
  | succ n ih =>
    intro x1 x3 x5 x7 x8 x9 σ H locs ls hq w hl
    unfold wlX2_support_27 at hq
    refine lv_iload X.x X.b dX2_support_27 (lv_at hl 6 rfl) ?_
    refine ra_bipush X.x X.b dX2_support_29 rfl ?_
    obtain ⟨o1, hq⟩ := hq
    refine ra_icmp_ge (tgt := 89) X.x X.b o1 ⟨by decide, by decide⟩ dX2_support_31 (by decide) (fun c2 => ?_) (fun c2 => ?_)
    · have hq := hq.1 c2
      refine lv_goto (tgt := 16) X.x X.b dX2_support_89 (by decide) ?_
      exact kk16 x1 x3 x5 x7 x8 σ _ _ _ hq w (lv_sub hl [0, 1, 2, 3, 4, 5] rfl)
    · have hq := hq.2 c2
      refine lv_iload X.x X.b dX2_support_34 (lv_at hl 5 rfl) ?_
      obtain ⟨o3, hq⟩ := hq
      refine ra_if_ne (tgt := 89) X.x X.b o3 dX2_support_36 (by decide) (fun c4 => ?_) (fun c4 => ?_)
      · have hq := hq.1 c4
        refine lv_goto (tgt := 16) X.x X.b dX2_support_89 (by decide) ?_
        exact kk16 x1 x3 x5 x7 x8 σ _ _ _ hq w (lv_sub hl [0, 1, 2, 3, 4, 5] rfl)
      · have hq := hq.2 c4
        refine lv_aload_n X.x X.b dX2_support_39 rfl (lv_at hl 0 rfl) ?_
        refine x_get X w (hg 0 0 (by decide)) rfl in_X2 rfl 9 (by decide) q212 rfl rfl dX2_support_40 ?_
        refine lv_iload X.x X.b dX2_support_43 (lv_at hl 4 rfl) ?_
        obtain ⟨o5, hq⟩ := hq
        refine x_aald X w (hg 10 0 (by decide)) (.array .boolean) rfl rfl rfl (by decide) o5.1 o5.2 rfl dX2_support_45 ?_
        refine lv_iload X.x X.b dX2_support_46 (lv_at hl 6 rfl) ?_
        obtain ⟨o6, hq⟩ := hq
        refine x_zald X w (hg 11 x7.toNat (tn o5)) rfl (by decide) o6.1 o6.2 dX2_support_48 ?_
        obtain ⟨o7, hq⟩ := hq
        refine ra_if_eq (tgt := 83) X.x X.b o7 dX2_support_49 (by decide) (fun c8 => ?_) (fun c8 => ?_)
        · have hq := hq.1 c8
          refine lv_iinc (v := Int32.ofInt (x9 + 1)) (lv' := [(9, vI (x9 + 1)), (0, .ref (ad g 0 0)), (1, vL x1), (3, vL x3), (5, vL x5), (7, vI x7), (8, vI x8)]) X.x X.b dX2_support_83 hl (k := 6) rfl (Int32.ofInt_add _ _).symm (by decide) rfl (fun ls hl => ?_)
          refine lv_goto (tgt := 27) X.x X.b dX2_support_86 (by decide) ?_
          exact ih x1 x3 x5 x7 x8 (x9 + 1) σ _ _ _ hq w (lv_sub hl [1, 2, 3, 4, 5, 6, 0] rfl)
        · have hq := hq.2 c8
          refine lv_aload_n X.x X.b dX2_support_52 rfl (lv_at hl 0 rfl) ?_
          refine lv_iload X.x X.b dX2_support_53 (lv_at hl 6 rfl) ?_
          refine lv_lload_n X.x X.b dX2_support_55 rfl (lv_at hl 1 rfl) ?_
          refine lv_lload_n X.x X.b dX2_support_56 rfl (lv_at hl 2 rfl) ?_
          refine lv_lload X.x X.b dX2_support_57 (lv_at hl 3 rfl) ?_
          refine x_callVl (n := 4) (As := [vI x9, vL x1, vL x3, vL x5]) (rest := []) X w (hg 0 0 (by decide)) rfl rfl (mX2_along l D ids ad cA A g hg x9 x1 x3 x5 σ _ hq) (lw_V q597 q599 qs13 q37 q600) ⟨rfl, rfl⟩ (by decide +kernel) ⟨Nat.le_of_ble_eq_true rfl, Nat.le_of_ble_eq_true rfl⟩ ⟨Nat.le_refl _, Nat.le_refl _⟩ rfl hl.1 rfl (Nat.le_of_ble_eq_true rfl) dX2_support_59 (fun z9 σ9 H locs hq w => ?_)
          refine lv_aload_n X.x X.b dX2_support_62 rfl (lv_at hl 0 rfl) ?_
          refine lv_iload X.x X.b dX2_support_63 (lv_at hl 4 rfl) ?_
          refine lv_lload_n X.x X.b dX2_support_65 rfl (lv_at hl 1 rfl) ?_
          refine lv_lload_n X.x X.b dX2_support_66 rfl (lv_at hl 2 rfl) ?_
          refine lv_lload X.x X.b dX2_support_67 (lv_at hl 3 rfl) ?_
          refine x_callVl (n := 4) (As := [vI x7, vL x1, vL x3, vL x5]) (rest := [vL z9]) X w (hg 0 0 (by decide)) rfl rfl (mX2_along l D ids ad cA A g hg x7 x1 x3 x5 σ9 _ hq) (lw_V q597 q599 qs13 q37 q600) ⟨rfl, rfl⟩ (by decide +kernel) ⟨Nat.le_of_ble_eq_true rfl, Nat.le_of_ble_eq_true rfl⟩ ⟨Nat.le_refl _, Nat.le_refl _⟩ rfl hl.1 rfl (Nat.le_of_ble_eq_true rfl) dX2_support_69 (fun z10 σ10 H locs hq w => ?_)
          obtain ⟨o11, hq⟩ := hq
          obtain ⟨o12, hq⟩ := hq
          refine ra_lcmp_le (tgt := 83) X.x X.b o11 o12 dX2_support_72 dX2_support_73 (by decide) (fun c13 => ?_) (fun c13 => ?_)
          · have hq := hq.1 c13
            refine lv_iinc (v := Int32.ofInt (x9 + 1)) (lv' := [(9, vI (x9 + 1)), (0, .ref (ad g 0 0)), (1, vL x1), (3, vL x3), (5, vL x5), (7, vI x7), (8, vI x8)]) X.x X.b dX2_support_83 hl (k := 6) rfl (Int32.ofInt_add _ _).symm (by decide) rfl (fun ls hl => ?_)
            refine lv_goto (tgt := 27) X.x X.b dX2_support_86 (by decide) ?_
            exact ih x1 x3 x5 x7 x8 (x9 + 1) σ10 _ _ _ hq w (lv_sub hl [1, 2, 3, 4, 5, 6, 0] rfl)
          · have hq := hq.2 c13
            refine lv_iload X.x X.b dX2_support_76 (lv_at hl 6 rfl) ?_
            refine lv_istore (lv' := [(7, vI x9), (0, .ref (ad g 0 0)), (1, vL x1), (3, vL x3), (5, vL x5), (8, vI x8), (9, vI x9)]) X.x X.b dX2_support_78 hl (by decide) rfl (fun ls hl => ?_)
            refine ra_iconst X.x X.b dX2_support_80 ?_
            refine lv_istore (lv' := [(8, vI 1), (7, vI x9), (0, .ref (ad g 0 0)), (1, vL x1), (3, vL x3), (5, vL x5), (9, vI x9)]) X.x X.b dX2_support_81 hl (by decide) rfl (fun ls hl => ?_)
            refine lv_iinc (v := Int32.ofInt (x9 + 1)) (lv' := [(9, vI (x9 + 1)), (8, vI 1), (7, vI x9), (0, .ref (ad g 0 0)), (1, vL x1), (3, vL x3), (5, vL x5)]) X.x X.b dX2_support_83 hl (k := 6) rfl (Int32.ofInt_add _ _).symm (by decide) rfl (fun ls hl => ?_)
            refine lv_goto (tgt := 27) X.x X.b dX2_support_86 (by decide) ?_
            exact ih x1 x3 x5 x9 1 (x9 + 1) σ10 _ _ _ hq w (lv_sub hl [3, 4, 5, 6, 2, 1, 0] rfl)
set_option maxHeartbeats 4000000 in
set_option maxRecDepth 100000 in
theorem klX2_support_16 {l : Launch} {p : Program} {e : Env} {s : State} {m : MethodId} {args : Array Value} {below : List Frame} {meth : Method} {c : Code} {D : va_G} {ids : Ids} {ad : Lay} {cA : Nat → ClassId} {A : Nat → Prop} {g : Nat} {P : Int → Tab → Prop} (X : Cx p m c meth cX2_support 15 s args RX2 D cA A nwW) (hr : meth.sig.returnType = some .int) (hg : HasH ids g) :
    ∀ (n : Nat) (x1 : Int) (x3 : Int) (x5 : Int) (x7 : Int) (x8 : Int) (σ : Tab) (H : Heap) (locs : List Loc) (ls : Array Slot), wlX2_support_16 g P n x1 x3 x5 x7 x8 σ → ww D ids ad cA A σ s.heap H locs → lv_has ls 15 [(0, .ref (ad g 0 0)), (1, vL x1), (3, vL x3), (5, vL x5), (7, vI x7), (8, vI x8)] → W p l e rmX2_support s m args below meth c H locs 0 0 (MQ below (QI D ids ad cA A P) args s 0 0 A) (F0 m 16 ls []) := by
  intro n
  induction n with
  | zero => intro x1 x3 x5 x7 x8 σ H locs ls hq w hl; exact hq.elim
  | succ n ih =>
    intro x1 x3 x5 x7 x8 σ H locs ls hq w hl
    unfold wlX2_support_16 at hq
    refine lv_iload X.x X.b dX2_support_16 (lv_at hl 5 rfl) ?_
    obtain ⟨o1, hq⟩ := hq
    refine ra_if_eq (tgt := 92) X.x X.b o1 dX2_support_18 (by decide) (fun c2 => ?_) (fun c2 => ?_)
    · have hq := hq.1 c2
      refine lv_aload_n X.x X.b dX2_support_92 rfl (lv_at hl 0 rfl) ?_
      refine lv_iload X.x X.b dX2_support_93 (lv_at hl 4 rfl) ?_
      refine lv_lload_n X.x X.b dX2_support_95 rfl (lv_at hl 1 rfl) ?_
      refine lv_lload_n X.x X.b dX2_support_96 rfl (lv_at hl 2 rfl) ?_
      refine lv_lload X.x X.b dX2_support_97 (lv_at hl 3 rfl) ?_
      refine x_callVl (n := 4) (As := [vI x7, vL x1, vL x3, vL x5]) (rest := []) X w (hg 0 0 (by decide)) rfl rfl (mX2_along l D ids ad cA A g hg x7 x1 x3 x5 σ _ hq) (lw_V q597 q599 qs13 q37 q600) ⟨rfl, rfl⟩ (by decide +kernel) ⟨Nat.le_of_ble_eq_true rfl, Nat.le_of_ble_eq_true rfl⟩ ⟨Nat.le_refl _, Nat.le_refl _⟩ rfl hl.1 rfl (Nat.le_of_ble_eq_true rfl) dX2_support_99 (fun z3 σ3 H locs hq w => ?_)
      refine lv_lstore (lv' := [(9, vL z3), (0, .ref (ad g 0 0)), (1, vL x1), (3, vL x3), (5, vL x5), (7, vI x7), (8, vI x8)]) X.x X.b dX2_support_102 hl (by decide) rfl (fun ls hl => ?_)
      refine ra_iconst X.x X.b dX2_support_104 ?_
      refine lv_istore (lv' := [(11, vI 0), (9, vL z3), (0, .ref (ad g 0 0)), (1, vL x1), (3, vL x3), (5, vL x5), (7, vI x7), (8, vI x8)]) X.x X.b dX2_support_105 hl (by decide) rfl (fun ls hl => ?_)
      obtain ⟨n4, hq⟩ := hq
      exact klX2_support_107 X hr hg  n4 x1 x3 x5 x7 z3 0 σ3 _ _ _ hq w (lv_sub hl [2, 3, 4, 5, 6, 1, 0] rfl)
    · have hq := hq.2 c2
      refine ra_iconst X.x X.b dX2_support_21 ?_
      refine lv_istore (lv' := [(8, vI 0), (0, .ref (ad g 0 0)), (1, vL x1), (3, vL x3), (5, vL x5), (7, vI x7)]) X.x X.b dX2_support_22 hl (by decide) rfl (fun ls hl => ?_)
      refine ra_iconst X.x X.b dX2_support_24 ?_
      refine lv_istore (lv' := [(9, vI 0), (8, vI 0), (0, .ref (ad g 0 0)), (1, vL x1), (3, vL x3), (5, vL x5), (7, vI x7)]) X.x X.b dX2_support_25 hl (by decide) rfl (fun ls hl => ?_)
      obtain ⟨n5, hq⟩ := hq
      exact klX2_support_27 X hr hg (fun a0 a1 a2 a3 a4 τ H L ls q w h => ih a0 a1 a2 a3 a4 τ H L ls q w h) n5 x1 x3 x5 x7 0 0 σ _ _ _ hq w (lv_sub hl [2, 3, 4, 5, 6, 1, 0] rfl)
set_option maxHeartbeats 4000000 in
set_option maxRecDepth 100000 in
theorem mX2_support (l : Launch) (D : va_G) (ids : Ids) (ad : Lay) (cA : Nat → ClassId) (A : Nat → Prop) (g : Nat) (hg : HasH ids g) (x1 : Int) (x3 : Int) (x5 : Int) (σ : Tab) (P : Int → Tab → Prop) (hq : wpX2_support g x1 x3 x5 σ P) : Met l yX2_support (ws_ yX2_support cX2_support 15 (some .int)) rmX2_support (PcW D ids ad cA A σ [.ref (ad g 0 0), vL x1, vL x3, vL x5]) (QI D ids ad cA A P) 0 0 A := by
  refine m_entry (own := RX2) (by decide) (Nat.le_of_ble_eq_true rfl) rfl ?_
  intro p e s m below meth c ls X hr w hl
  have hl : lv_has ls 15 [(0, .ref (ad g 0 0)), (1, vL x1), (3, vL x3), (5, vL x5)] := hl
  unfold wpX2_support at hq
  refine lv_aload_n X.x X.b dX2_support_0 rfl (lv_at hl 0 rfl) ?_
  refine x_get X w (hg 0 0 (by decide)) rfl in_X2 rfl 2 (by decide) q201 rfl rfl dX2_support_1 ?_
  refine ra_iconst X.x X.b dX2_support_4 ?_
  refine x_aald X w (hg 3 0 (by decide)) (.object RX6) rfl rfl rfl (by decide) (by decide) (by decide) rfl dX2_support_5 ?_
  obtain ⟨o1, hq⟩ := hq
  refine x_get X w (hg 16 ((σ g 3 0 0).toNat) (tn o1)) rfl in_X6 rfl 1 (by decide) q165 rfl rfl dX2_support_6 ?_
  refine ra_iconst X.x X.b dX2_support_9 ?_
  refine x_iald X w (hg 18 ((σ g 3 0 0).toNat) (tn o1)) rfl (by decide) (by decide) (by decide) dX2_support_10 ?_
  refine ra_nmI (fun y2 ey2 => ?_)
  have hq := hq y2 ey2
  refine lv_istore (lv' := [(7, vI y2), (0, .ref (ad g 0 0)), (1, vL x1), (3, vL x3), (5, vL x5)]) X.x X.b dX2_support_11 hl (by decide) rfl (fun ls hl => ?_)
  refine ra_iconst X.x X.b dX2_support_13 ?_
  refine lv_istore (lv' := [(8, vI 1), (7, vI y2), (0, .ref (ad g 0 0)), (1, vL x1), (3, vL x3), (5, vL x5)]) X.x X.b dX2_support_14 hl (by decide) rfl (fun ls hl => ?_)
  obtain ⟨n3, hq⟩ := hq
  exact klX2_support_16 X hr hg  n3 x1 x3 x5 y2 1 σ _ _ _ hq w (lv_sub hl [2, 3, 4, 5, 1, 0] rfl)
def wlX2_walk_47 (g : Nat) (P : Tab → Prop) (K39 : Int → Int → Tab → Prop) : Nat → Int → Int → Int → Tab → Prop
  | 0, _, _, _, _ => False
  | n + 1, x2, x3, x4, σ => (inI x4 ∧ ((24 ≤ x4 → K39 x2 (x3 + 1) σ) ∧ (¬ (24 ≤ x4) → ((0 ≤ x3 ∧ x3 < 24) ∧ ((0 ≤ σ g 8 0 x3.toNat ∧ σ g 8 0 x3.toNat < 24) ∧ ((0 ≤ x4 ∧ x4 < 24) ∧ (inI (σ g 11 ((σ g 8 0 x3.toNat).toNat) x4.toNat) ∧ ((σ g 11 ((σ g 8 0 x3.toNat).toNat) x4.toNat = 0 → wlX2_walk_47 g P K39 n x2 x3 (x4 + 1) σ) ∧ (¬ (σ g 11 ((σ g 8 0 x3.toNat).toNat) x4.toNat = 0) → (inI (σ g 7 0 x4.toNat) ∧ ((σ g 7 0 x4.toNat < 0 → (∀ σ10 : Tab, σ10 = st σ g 7 0 x4.toNat ((σ g 7 0 ((σ g 8 0 x3.toNat).toNat)) + 1) → ((0 ≤ x2 ∧ x2 < 24) ∧ (∀ σ12 : Tab, σ12 = st σ10 g 8 0 x2.toNat x4 → wlX2_walk_47 g P K39 n (x2 + 1) x3 (x4 + 1) σ12)))) ∧ (¬ (σ g 7 0 x4.toNat < 0) → wlX2_walk_47 g P K39 n x2 x3 (x4 + 1) σ))))))))))))
def wlX2_walk_39 (g : Nat) (P : Tab → Prop) : Nat → Int → Int → Tab → Prop
  | 0, _, _, _ => False
  | n + 1, x2, x3, σ => (inI x3 ∧ (inI x2 ∧ ((x2 ≤ x3 → P σ) ∧ (¬ (x2 ≤ x3) → (∃ k : Nat, wlX2_walk_47 g P (fun x2 x3 τ => wlX2_walk_39 g P n x2 x3 τ) k x2 x3 0 σ)))))
def wlX2_walk_2 (g : Nat) (P : Tab → Prop) : Nat → Int → Int → Tab → Prop
  | 0, _, _, _ => False
  | n + 1, x1, x2, σ => (inI x2 ∧ ((24 ≤ x2 → ((0 ≤ x1 ∧ x1 < 24) ∧ (∀ σ4 : Tab, σ4 = st σ g 7 0 x1.toNat 0 → (∀ σ5 : Tab, σ5 = st σ4 g 8 0 0 x1 → (∃ k : Nat, wlX2_walk_39 g P k 1 0 σ5))))) ∧ (¬ (24 ≤ x2) → ((0 ≤ x2 ∧ x2 < 24) ∧ (∀ σ8 : Tab, σ8 = st σ g 7 0 x2.toNat (-1) → wlX2_walk_2 g P n x1 (x2 + 1) σ8)))))
def wpX2_walk (g : Nat) (x1 : Int) (σ : Tab) (P : Tab → Prop) : Prop := (∃ k : Nat, wlX2_walk_2 g P k x1 0 σ)
abbrev rmX2_walk : Room := { frames := 0, cells := 0, slots := 0, locals := 0 }
set_option maxHeartbeats 4000000 in
set_option maxRecDepth 100000 in
theorem klX2_walk_47 {l : Launch} {p : Program} {e : Env} {s : State} {m : MethodId} {args : Array Value} {below : List Frame} {meth : Method} {c : Code} {D : va_G} {ids : Ids} {ad : Lay} {cA : Nat → ClassId} {A : Nat → Prop} {g : Nat} {P : Tab → Prop} {K39 : Int → Int → Tab → Prop} (X : Cx p m c meth cX2_walk 5 s args RX2 D cA A nwW) (hr : meth.sig.returnType = none) (hg : HasH ids g) (kk39 : ∀ (x2 : Int) (x3 : Int) (σ : Tab) (H : Heap) (locs : List Loc) (ls : Array Slot), K39 x2 x3 σ → ww D ids ad cA A σ s.heap H locs → lv_has ls 5 [(0, .ref (ad g 0 0)), (2, vI x2), (3, vI x3)] → W p l e rmX2_walk s m args below meth c H locs 0 0 (MQ below (QV D ids ad cA A P) args s 0 0 A) (F0 m 39 ls [])) :
    ∀ (n : Nat) (x2 : Int) (x3 : Int) (x4 : Int) (σ : Tab) (H : Heap) (locs : List Loc) (ls : Array Slot), wlX2_walk_47 g P K39 n x2 x3 x4 σ → ww D ids ad cA A σ s.heap H locs → lv_has ls 5 [(0, .ref (ad g 0 0)), (2, vI x2), (3, vI x3), (4, vI x4)] → W p l e rmX2_walk s m args below meth c H locs 0 0 (MQ below (QV D ids ad cA A P) args s 0 0 A) (F0 m 47 ls []) := by
  intro n
  induction n with
  | zero => intro x2 x3 x4 σ H locs ls hq w hl; exact hq.elim
  | succ n ih =>
    intro x2 x3 x4 σ H locs ls hq w hl
    unfold wlX2_walk_47 at hq
    refine lv_iload X.x X.b dX2_walk_47 (lv_at hl 3 rfl) ?_
    refine ra_bipush X.x X.b dX2_walk_49 rfl ?_
    obtain ⟨o1, hq⟩ := hq
    refine ra_icmp_ge (tgt := 121) X.x X.b o1 ⟨by decide, by decide⟩ dX2_walk_51 (by decide) (fun c2 => ?_) (fun c2 => ?_)
    · have hq := hq.1 c2
      refine lv_iinc (v := Int32.ofInt (x3 + 1)) (lv' := [(3, vI (x3 + 1)), (0, .ref (ad g 0 0)), (2, vI x2), (4, vI x4)]) X.x X.b dX2_walk_121 hl (k := 2) rfl (Int32.ofInt_add _ _).symm (by decide) rfl (fun ls hl => ?_)
      refine lv_goto (tgt := 39) X.x X.b dX2_walk_124 (by decide) ?_
      exact kk39 x2 (x3 + 1) σ _ _ _ hq w (lv_sub hl [1, 2, 0] rfl)
    · have hq := hq.2 c2
      refine lv_aload_n X.x X.b dX2_walk_54 rfl (lv_at hl 0 rfl) ?_
      refine x_get X w (hg 0 0 (by decide)) rfl in_X2 rfl 9 (by decide) q212 rfl rfl dX2_walk_55 ?_
      refine lv_aload_n X.x X.b dX2_walk_58 rfl (lv_at hl 0 rfl) ?_
      refine x_get X w (hg 0 0 (by decide)) rfl in_X2 rfl 7 (by decide) q209 rfl rfl dX2_walk_59 ?_
      refine lv_iload_n X.x X.b dX2_walk_62 rfl (lv_at hl 2 rfl) ?_
      obtain ⟨o3, hq⟩ := hq
      refine x_iald X w (hg 8 0 (by decide)) rfl (by decide) o3.1 o3.2 dX2_walk_63 ?_
      obtain ⟨o4, hq⟩ := hq
      refine x_aald X w (hg 10 0 (by decide)) (.array .boolean) rfl rfl rfl (by decide) o4.1 o4.2 rfl dX2_walk_64 ?_
      refine lv_iload X.x X.b dX2_walk_65 (lv_at hl 3 rfl) ?_
      obtain ⟨o5, hq⟩ := hq
      refine x_zald X w (hg 11 ((σ g 8 0 x3.toNat).toNat) (tn o4)) rfl (by decide) o5.1 o5.2 dX2_walk_67 ?_
      obtain ⟨o6, hq⟩ := hq
      refine ra_if_eq (tgt := 115) X.x X.b o6 dX2_walk_68 (by decide) (fun c7 => ?_) (fun c7 => ?_)
      · have hq := hq.1 c7
        refine lv_iinc (v := Int32.ofInt (x4 + 1)) (lv' := [(4, vI (x4 + 1)), (0, .ref (ad g 0 0)), (2, vI x2), (3, vI x3)]) X.x X.b dX2_walk_115 hl (k := 3) rfl (Int32.ofInt_add _ _).symm (by decide) rfl (fun ls hl => ?_)
        refine lv_goto (tgt := 47) X.x X.b dX2_walk_118 (by decide) ?_
        exact ih x2 x3 (x4 + 1) σ _ _ _ hq w (lv_sub hl [1, 2, 3, 0] rfl)
      · have hq := hq.2 c7
        refine lv_aload_n X.x X.b dX2_walk_71 rfl (lv_at hl 0 rfl) ?_
        refine x_get X w (hg 0 0 (by decide)) rfl in_X2 rfl 6 (by decide) q207 rfl rfl dX2_walk_72 ?_
        refine lv_iload X.x X.b dX2_walk_75 (lv_at hl 3 rfl) ?_
        refine x_iald X w (hg 7 0 (by decide)) rfl (by decide) o5.1 o5.2 dX2_walk_77 ?_
        obtain ⟨o8, hq⟩ := hq
        refine ra_if_lt (tgt := 84) X.x X.b o8 dX2_walk_78 (by decide) (fun c9 => ?_) (fun c9 => ?_)
        · have hq := hq.1 c9
          refine lv_aload_n X.x X.b dX2_walk_84 rfl (lv_at hl 0 rfl) ?_
          refine x_get X w (hg 0 0 (by decide)) rfl in_X2 rfl 6 (by decide) q207 rfl rfl dX2_walk_85 ?_
          refine lv_iload X.x X.b dX2_walk_88 (lv_at hl 3 rfl) ?_
          refine lv_aload_n X.x X.b dX2_walk_90 rfl (lv_at hl 0 rfl) ?_
          refine x_get X w (hg 0 0 (by decide)) rfl in_X2 rfl 6 (by decide) q207 rfl rfl dX2_walk_91 ?_
          refine lv_aload_n X.x X.b dX2_walk_94 rfl (lv_at hl 0 rfl) ?_
          refine x_get X w (hg 0 0 (by decide)) rfl in_X2 rfl 7 (by decide) q209 rfl rfl dX2_walk_95 ?_
          refine lv_iload_n X.x X.b dX2_walk_98 rfl (lv_at hl 2 rfl) ?_
          refine x_iald X w (hg 8 0 (by decide)) rfl (by decide) o3.1 o3.2 dX2_walk_99 ?_
          refine x_iald X w (hg 7 0 (by decide)) rfl (by decide) o4.1 o4.2 dX2_walk_100 ?_
          refine ra_iconst X.x X.b dX2_walk_101 ?_
          refine ra_iadd X.x X.b dX2_walk_102 ?_
          refine x_iast X w (hg 7 0 (by decide)) (fun _ => rfl) (by decide) o5.1 o5.2 dX2_walk_103 (fun σ10 H locs eσ10 w => ?_)
          have hq := hq σ10 eσ10
          refine lv_aload_n X.x X.b dX2_walk_104 rfl (lv_at hl 0 rfl) ?_
          refine x_get X w (hg 0 0 (by decide)) rfl in_X2 rfl 7 (by decide) q209 rfl rfl dX2_walk_105 ?_
          refine lv_iload_n X.x X.b dX2_walk_108 rfl (lv_at hl 1 rfl) ?_
          refine lv_iinc (v := Int32.ofInt (x2 + 1)) (lv' := [(2, vI (x2 + 1)), (0, .ref (ad g 0 0)), (3, vI x3), (4, vI x4)]) X.x X.b dX2_walk_109 hl (k := 1) rfl (Int32.ofInt_add _ _).symm (by decide) rfl (fun ls hl => ?_)
          refine lv_iload X.x X.b dX2_walk_112 (lv_at hl 3 rfl) ?_
          obtain ⟨o11, hq⟩ := hq
          refine x_iast X w (hg 8 0 (by decide)) (fun _ => rfl) (by decide) o11.1 o11.2 dX2_walk_114 (fun σ12 H locs eσ12 w => ?_)
          have hq := hq σ12 eσ12
          refine lv_iinc (v := Int32.ofInt (x4 + 1)) (lv' := [(4, vI (x4 + 1)), (2, vI (x2 + 1)), (0, .ref (ad g 0 0)), (3, vI x3)]) X.x X.b dX2_walk_115 hl (k := 3) rfl (Int32.ofInt_add _ _).symm (by decide) rfl (fun ls hl => ?_)
          refine lv_goto (tgt := 47) X.x X.b dX2_walk_118 (by decide) ?_
          exact ih (x2 + 1) x3 (x4 + 1) σ12 _ _ _ hq w (lv_sub hl [2, 1, 3, 0] rfl)
        · have hq := hq.2 c9
          refine lv_goto (tgt := 115) X.x X.b dX2_walk_81 (by decide) ?_
          refine lv_iinc (v := Int32.ofInt (x4 + 1)) (lv' := [(4, vI (x4 + 1)), (0, .ref (ad g 0 0)), (2, vI x2), (3, vI x3)]) X.x X.b dX2_walk_115 hl (k := 3) rfl (Int32.ofInt_add _ _).symm (by decide) rfl (fun ls hl => ?_)
          refine lv_goto (tgt := 47) X.x X.b dX2_walk_118 (by decide) ?_
          exact ih x2 x3 (x4 + 1) σ _ _ _ hq w (lv_sub hl [1, 2, 3, 0] rfl)
set_option maxHeartbeats 4000000 in
set_option maxRecDepth 100000 in
theorem klX2_walk_39 {l : Launch} {p : Program} {e : Env} {s : State} {m : MethodId} {args : Array Value} {below : List Frame} {meth : Method} {c : Code} {D : va_G} {ids : Ids} {ad : Lay} {cA : Nat → ClassId} {A : Nat → Prop} {g : Nat} {P : Tab → Prop} (X : Cx p m c meth cX2_walk 5 s args RX2 D cA A nwW) (hr : meth.sig.returnType = none) (hg : HasH ids g) :
    ∀ (n : Nat) (x2 : Int) (x3 : Int) (σ : Tab) (H : Heap) (locs : List Loc) (ls : Array Slot), wlX2_walk_39 g P n x2 x3 σ → ww D ids ad cA A σ s.heap H locs → lv_has ls 5 [(0, .ref (ad g 0 0)), (2, vI x2), (3, vI x3)] → W p l e rmX2_walk s m args below meth c H locs 0 0 (MQ below (QV D ids ad cA A P) args s 0 0 A) (F0 m 39 ls []) := by
  intro n
  induction n with
  | zero => intro x2 x3 σ H locs ls hq w hl; exact hq.elim
  | succ n ih =>
    intro x2 x3 σ H locs ls hq w hl
    unfold wlX2_walk_39 at hq
    refine lv_iload_n X.x X.b dX2_walk_39 rfl (lv_at hl 2 rfl) ?_
    refine lv_iload_n X.x X.b dX2_walk_40 rfl (lv_at hl 1 rfl) ?_
    obtain ⟨o1, hq⟩ := hq
    obtain ⟨o2, hq⟩ := hq
    refine ra_icmp_ge (tgt := 127) X.x X.b o1 o2 dX2_walk_41 (by decide) (fun c3 => ?_) (fun c3 => ?_)
    · have hq := hq.1 c3
      exact x_vret X hr w hq dX2_walk_127
    · have hq := hq.2 c3
      refine ra_iconst X.x X.b dX2_walk_44 ?_
      refine lv_istore (lv' := [(4, vI 0), (0, .ref (ad g 0 0)), (2, vI x2), (3, vI x3)]) X.x X.b dX2_walk_45 hl (by decide) rfl (fun ls hl => ?_)
      obtain ⟨n4, hq⟩ := hq
      exact klX2_walk_47 X hr hg (fun a0 a1 τ H L ls q w h => ih a0 a1 τ H L ls q w h) n4 x2 x3 0 σ _ _ _ hq w (lv_sub hl [1, 2, 3, 0] rfl)
set_option maxHeartbeats 4000000 in
set_option maxRecDepth 100000 in
theorem klX2_walk_2 {l : Launch} {p : Program} {e : Env} {s : State} {m : MethodId} {args : Array Value} {below : List Frame} {meth : Method} {c : Code} {D : va_G} {ids : Ids} {ad : Lay} {cA : Nat → ClassId} {A : Nat → Prop} {g : Nat} {P : Tab → Prop} (X : Cx p m c meth cX2_walk 5 s args RX2 D cA A nwW) (hr : meth.sig.returnType = none) (hg : HasH ids g) :
    ∀ (n : Nat) (x1 : Int) (x2 : Int) (σ : Tab) (H : Heap) (locs : List Loc) (ls : Array Slot), wlX2_walk_2 g P n x1 x2 σ → ww D ids ad cA A σ s.heap H locs → lv_has ls 5 [(0, .ref (ad g 0 0)), (1, vI x1), (2, vI x2)] → W p l e rmX2_walk s m args below meth c H locs 0 0 (MQ below (QV D ids ad cA A P) args s 0 0 A) (F0 m 2 ls []) := by
  intro n
  induction n with
  | zero => intro x1 x2 σ H locs ls hq w hl; exact hq.elim
  | succ n ih =>
    intro x1 x2 σ H locs ls hq w hl
    unfold wlX2_walk_2 at hq
    refine lv_iload_n X.x X.b dX2_walk_2 rfl (lv_at hl 2 rfl) ?_
    refine ra_bipush X.x X.b dX2_walk_3 rfl ?_
    obtain ⟨o1, hq⟩ := hq
    refine ra_icmp_ge (tgt := 21) X.x X.b o1 ⟨by decide, by decide⟩ dX2_walk_5 (by decide) (fun c2 => ?_) (fun c2 => ?_)
    · have hq := hq.1 c2
      refine lv_aload_n X.x X.b dX2_walk_21 rfl (lv_at hl 0 rfl) ?_
      refine x_get X w (hg 0 0 (by decide)) rfl in_X2 rfl 6 (by decide) q207 rfl rfl dX2_walk_22 ?_
      refine lv_iload_n X.x X.b dX2_walk_25 rfl (lv_at hl 1 rfl) ?_
      refine ra_iconst X.x X.b dX2_walk_26 ?_
      obtain ⟨o3, hq⟩ := hq
      refine x_iast X w (hg 7 0 (by decide)) (fun _ => rfl) (by decide) o3.1 o3.2 dX2_walk_27 (fun σ4 H locs eσ4 w => ?_)
      have hq := hq σ4 eσ4
      refine lv_aload_n X.x X.b dX2_walk_28 rfl (lv_at hl 0 rfl) ?_
      refine x_get X w (hg 0 0 (by decide)) rfl in_X2 rfl 7 (by decide) q209 rfl rfl dX2_walk_29 ?_
      refine ra_iconst X.x X.b dX2_walk_32 ?_
      refine lv_iload_n X.x X.b dX2_walk_33 rfl (lv_at hl 1 rfl) ?_
      refine x_iast X w (hg 8 0 (by decide)) (fun _ => rfl) (by decide) (by decide) (by decide) dX2_walk_34 (fun σ5 H locs eσ5 w => ?_)
      have hq := hq σ5 eσ5
      refine ra_iconst X.x X.b dX2_walk_35 ?_
      refine lv_istore_n (lv' := [(2, vI 1), (0, .ref (ad g 0 0)), (1, vI x1)]) X.x X.b dX2_walk_36 rfl hl (by decide) rfl (fun ls hl => ?_)
      refine ra_iconst X.x X.b dX2_walk_37 ?_
      refine lv_istore_n (lv' := [(3, vI 0), (2, vI 1), (0, .ref (ad g 0 0)), (1, vI x1)]) X.x X.b dX2_walk_38 rfl hl (by decide) rfl (fun ls hl => ?_)
      obtain ⟨n6, hq⟩ := hq
      exact klX2_walk_39 X hr hg  n6 1 0 σ5 _ _ _ hq w (lv_sub hl [2, 1, 0] rfl)
    · have hq := hq.2 c2
      refine lv_aload_n X.x X.b dX2_walk_8 rfl (lv_at hl 0 rfl) ?_
      refine x_get X w (hg 0 0 (by decide)) rfl in_X2 rfl 6 (by decide) q207 rfl rfl dX2_walk_9 ?_
      refine lv_iload_n X.x X.b dX2_walk_12 rfl (lv_at hl 2 rfl) ?_
      refine ra_iconst X.x X.b dX2_walk_13 ?_
      obtain ⟨o7, hq⟩ := hq
      refine x_iast X w (hg 7 0 (by decide)) (fun _ => rfl) (by decide) o7.1 o7.2 dX2_walk_14 (fun σ8 H locs eσ8 w => ?_)
      have hq := hq σ8 eσ8
      refine lv_iinc (v := Int32.ofInt (x2 + 1)) (lv' := [(2, vI (x2 + 1)), (0, .ref (ad g 0 0)), (1, vI x1)]) X.x X.b dX2_walk_15 hl (k := 2) rfl (Int32.ofInt_add _ _).symm (by decide) rfl (fun ls hl => ?_)
      refine lv_goto (tgt := 2) X.x X.b dX2_walk_18 (by decide) ?_
      exact ih x1 (x2 + 1) σ8 _ _ _ hq w (lv_sub hl [1, 2, 0] rfl)
set_option maxHeartbeats 4000000 in
set_option maxRecDepth 100000 in
theorem mX2_walk (l : Launch) (D : va_G) (ids : Ids) (ad : Lay) (cA : Nat → ClassId) (A : Nat → Prop) (g : Nat) (hg : HasH ids g) (x1 : Int) (σ : Tab) (P : Tab → Prop) (hq : wpX2_walk g x1 σ P) : Met l yX2_walk (ws_ yX2_walk cX2_walk 5 (none)) rmX2_walk (PcW D ids ad cA A σ [.ref (ad g 0 0), vI x1]) (QV D ids ad cA A P) 0 0 A := by
  refine m_entry (own := RX2) (by decide) (Nat.le_of_ble_eq_true rfl) rfl ?_
  intro p e s m below meth c ls X hr w hl
  have hl : lv_has ls 5 [(0, .ref (ad g 0 0)), (1, vI x1)] := hl
  unfold wpX2_walk at hq
  refine ra_iconst X.x X.b dX2_walk_0 ?_
  refine lv_istore_n (lv' := [(2, vI 0), (0, .ref (ad g 0 0)), (1, vI x1)]) X.x X.b dX2_walk_1 rfl hl (by decide) rfl (fun ls hl => ?_)
  obtain ⟨n1, hq⟩ := hq
  exact klX2_walk_2 X hr hg  n1 x1 0 σ _ _ _ hq w (lv_sub hl [1, 2, 0] rfl)
def wlX2_side_6 (g : Nat) (P : Int → Tab → Prop) : Nat → Int → Int → Int → Int → Int → Tab → Prop
  | 0, _, _, _, _, _, _ => False
  | n + 1, x1, x3, x5, x7, x8, σ => (inI x8 ∧ (inI (σ g 0 0 13) ∧ ((σ g 0 0 13 ≤ x8 → P x7 σ) ∧ (¬ (σ g 0 0 13 ≤ x8) → ((0 ≤ x8 ∧ x8 < 44) ∧ ((0 ≤ σ g 3 0 x8.toNat ∧ σ g 3 0 x8.toNat < 44) ∧ wpX3_above_2 g 17 ((σ g 3 0 x8.toNat).toNat) x1 x3 x5 σ (fun z6 σ6 => (inL z6 ∧ ((z6 ≤ 0 → ((z6 ≠ 0 → wlX2_side_6 g P n x1 x3 x5 x7 (x8 + 1) σ6) ∧ (¬ (z6 ≠ 0) → wlX2_side_6 g P n x1 x3 x5 0 (x8 + 1) σ6))) ∧ (¬ (z6 ≤ 0) → P (-1) σ6))))))))))
def wpX2_side (g : Nat) (x1 : Int) (x3 : Int) (x5 : Int) (σ : Tab) (P : Int → Tab → Prop) : Prop := (∃ k : Nat, wlX2_side_6 g P k x1 x3 x5 1 0 σ)
abbrev rmX2_side : Room := { frames := 1, cells := 0, slots := 0, locals := 26 }
set_option maxHeartbeats 4000000 in
set_option maxRecDepth 100000 in
theorem klX2_side_6 {l : Launch} {p : Program} {e : Env} {s : State} {m : MethodId} {args : Array Value} {below : List Frame} {meth : Method} {c : Code} {D : va_G} {ids : Ids} {ad : Lay} {cA : Nat → ClassId} {A : Nat → Prop} {g : Nat} {P : Int → Tab → Prop} (X : Cx p m c meth cX2_side 11 s args RX2 D cA A nwW) (hr : meth.sig.returnType = some .int) (hg : HasH ids g) :
    ∀ (n : Nat) (x1 : Int) (x3 : Int) (x5 : Int) (x7 : Int) (x8 : Int) (σ : Tab) (H : Heap) (locs : List Loc) (ls : Array Slot), wlX2_side_6 g P n x1 x3 x5 x7 x8 σ → ww D ids ad cA A σ s.heap H locs → lv_has ls 11 [(0, .ref (ad g 0 0)), (1, vL x1), (3, vL x3), (5, vL x5), (7, vI x7), (8, vI x8)] → W p l e rmX2_side s m args below meth c H locs 0 0 (MQ below (QI D ids ad cA A P) args s 0 0 A) (F0 m 6 ls []) := by
  intro n
  induction n with
  | zero => intro x1 x3 x5 x7 x8 σ H locs ls hq w hl; exact hq.elim
  | succ n ih =>
    intro x1 x3 x5 x7 x8 σ H locs ls hq w hl
    unfold wlX2_side_6 at hq
    refine lv_iload X.x X.b dX2_side_6 (lv_at hl 5 rfl) ?_
    refine lv_aload_n X.x X.b dX2_side_8 rfl (lv_at hl 0 rfl) ?_
    refine x_get X w (hg 0 0 (by decide)) rfl in_X2 rfl 13 (by decide) q216 rfl rfl dX2_side_9 ?_
    obtain ⟨o1, hq⟩ := hq
    obtain ⟨o2, hq⟩ := hq
    refine ra_icmp_ge (tgt := 59) X.x X.b o1 o2 dX2_side_12 (by decide) (fun c3 => ?_) (fun c3 => ?_)
    · have hq := hq.1 c3
      refine lv_iload X.x X.b dX2_side_59 (lv_at hl 4 rfl) ?_
      exact x_iret X hr w hq dX2_side_61
    · have hq := hq.2 c3
      refine lv_aload_n X.x X.b dX2_side_15 rfl (lv_at hl 0 rfl) ?_
      refine x_get X w (hg 0 0 (by decide)) rfl in_X2 rfl 2 (by decide) q201 rfl rfl dX2_side_16 ?_
      refine lv_iload X.x X.b dX2_side_19 (lv_at hl 5 rfl) ?_
      obtain ⟨o4, hq⟩ := hq
      refine x_aald X w (hg 3 0 (by decide)) (.object RX6) rfl rfl rfl (by decide) o4.1 o4.2 rfl dX2_side_21 ?_
      obtain ⟨o5, hq⟩ := hq
      refine x_get X w (hg 16 ((σ g 3 0 x8.toNat).toNat) (tn o5)) rfl in_X6 rfl 0 (by decide) q162 rfl rfl dX2_side_22 ?_
      refine lv_lload_n X.x X.b dX2_side_25 rfl (lv_at hl 1 rfl) ?_
      refine lv_lload_n X.x X.b dX2_side_26 rfl (lv_at hl 2 rfl) ?_
      refine lv_lload X.x X.b dX2_side_27 (lv_at hl 3 rfl) ?_
      refine x_callVl (n := 3) (As := [vL x1, vL x3, vL x5]) (rest := []) X w (hg 17 ((σ g 3 0 x8.toNat).toNat) (tn o5)) rfl rfl (mX3_above_2 l D ids ad cA A g 17 ((σ g 3 0 x8.toNat).toNat) (hg 17 ((σ g 3 0 x8.toNat).toNat) (tn o5)) (by unfold isPl; decide) x1 x3 x5 σ _ hq) (lw_V q626 q464 q465 q38 q466) ⟨rfl, rfl⟩ (by decide +kernel) ⟨Nat.le_of_ble_eq_true rfl, Nat.le_of_ble_eq_true rfl⟩ ⟨Nat.le_refl _, Nat.le_refl _⟩ rfl hl.1 rfl (Nat.le_of_ble_eq_true rfl) dX2_side_29 (fun z6 σ6 H locs hq w => ?_)
      refine lv_lstore (lv' := [(9, vL z6), (0, .ref (ad g 0 0)), (1, vL x1), (3, vL x3), (5, vL x5), (7, vI x7), (8, vI x8)]) X.x X.b dX2_side_32 hl (by decide) rfl (fun ls hl => ?_)
      refine lv_lload X.x X.b dX2_side_34 (lv_at hl 0 rfl) ?_
      refine ra_lconst (z := 0) X.x X.b dX2_side_36 rfl ?_
      obtain ⟨o7, hq⟩ := hq
      refine ra_lcmp_le (tgt := 43) X.x X.b o7 ⟨by decide, by decide⟩ dX2_side_37 dX2_side_38 (by decide) (fun c8 => ?_) (fun c8 => ?_)
      · have hq := hq.1 c8
        refine lv_lload X.x X.b dX2_side_43 (lv_at hl 0 rfl) ?_
        refine ra_lconst (z := 0) X.x X.b dX2_side_45 rfl ?_
        refine ra_lcmp_ne (tgt := 53) X.x X.b o7 ⟨by decide, by decide⟩ dX2_side_46 dX2_side_47 (by decide) (fun c9 => ?_) (fun c9 => ?_)
        · have hq := hq.1 c9
          refine lv_iinc (v := Int32.ofInt (x8 + 1)) (lv' := [(8, vI (x8 + 1)), (9, vL z6), (0, .ref (ad g 0 0)), (1, vL x1), (3, vL x3), (5, vL x5), (7, vI x7)]) X.x X.b dX2_side_53 hl (k := 6) rfl (Int32.ofInt_add _ _).symm (by decide) rfl (fun ls hl => ?_)
          refine lv_goto (tgt := 6) X.x X.b dX2_side_56 (by decide) ?_
          exact ih x1 x3 x5 x7 (x8 + 1) σ6 _ _ _ hq w (lv_sub hl [2, 3, 4, 5, 6, 0] rfl)
        · have hq := hq.2 c9
          refine ra_iconst X.x X.b dX2_side_50 ?_
          refine lv_istore (lv' := [(7, vI 0), (9, vL z6), (0, .ref (ad g 0 0)), (1, vL x1), (3, vL x3), (5, vL x5), (8, vI x8)]) X.x X.b dX2_side_51 hl (by decide) rfl (fun ls hl => ?_)
          refine lv_iinc (v := Int32.ofInt (x8 + 1)) (lv' := [(8, vI (x8 + 1)), (7, vI 0), (9, vL z6), (0, .ref (ad g 0 0)), (1, vL x1), (3, vL x3), (5, vL x5)]) X.x X.b dX2_side_53 hl (k := 6) rfl (Int32.ofInt_add _ _).symm (by decide) rfl (fun ls hl => ?_)
          refine lv_goto (tgt := 6) X.x X.b dX2_side_56 (by decide) ?_
          exact ih x1 x3 x5 0 (x8 + 1) σ6 _ _ _ hq w (lv_sub hl [3, 4, 5, 6, 1, 0] rfl)
      · have hq := hq.2 c8
        refine ra_iconst X.x X.b dX2_side_41 ?_
        exact x_iret X hr w hq dX2_side_42
set_option maxHeartbeats 4000000 in
set_option maxRecDepth 100000 in
theorem mX2_side (l : Launch) (D : va_G) (ids : Ids) (ad : Lay) (cA : Nat → ClassId) (A : Nat → Prop) (g : Nat) (hg : HasH ids g) (x1 : Int) (x3 : Int) (x5 : Int) (σ : Tab) (P : Int → Tab → Prop) (hq : wpX2_side g x1 x3 x5 σ P) : Met l yX2_side (ws_ yX2_side cX2_side 11 (some .int)) rmX2_side (PcW D ids ad cA A σ [.ref (ad g 0 0), vL x1, vL x3, vL x5]) (QI D ids ad cA A P) 0 0 A := by
  refine m_entry (own := RX2) (by decide) (Nat.le_of_ble_eq_true rfl) rfl ?_
  intro p e s m below meth c ls X hr w hl
  have hl : lv_has ls 11 [(0, .ref (ad g 0 0)), (1, vL x1), (3, vL x3), (5, vL x5)] := hl
  unfold wpX2_side at hq
  refine ra_iconst X.x X.b dX2_side_0 ?_
  refine lv_istore (lv' := [(7, vI 1), (0, .ref (ad g 0 0)), (1, vL x1), (3, vL x3), (5, vL x5)]) X.x X.b dX2_side_1 hl (by decide) rfl (fun ls hl => ?_)
  refine ra_iconst X.x X.b dX2_side_3 ?_
  refine lv_istore (lv' := [(8, vI 0), (7, vI 1), (0, .ref (ad g 0 0)), (1, vL x1), (3, vL x3), (5, vL x5)]) X.x X.b dX2_side_4 hl (by decide) rfl (fun ls hl => ?_)
  obtain ⟨n1, hq⟩ := hq
  exact klX2_side_6 X hr hg  n1 x1 x3 x5 1 0 σ _ _ _ hq w (lv_sub hl [2, 3, 4, 5, 1, 0] rfl)
def wlX2_moment_40 (g : Nat) (P : Int → Tab → Prop) (K5 : Int → Int → Int → Tab → Prop) : Nat → Int → Int → Int → Nat → Nat → Int → Tab → Prop
  | 0, _, _, _, _, _, _, _ => False
  | n + 1, x1, x2, x4, i5, i6, x7, σ => (inI (x7 + 1) ∧ (inI (σ g 16 i5 2) ∧ ((σ g 16 i5 2 ≤ x7 + 1 → K5 x1 x2 (x4 + 1) σ) ∧ (¬ (σ g 16 i5 2 ≤ x7 + 1) → ((0 ≤ x7 ∧ x7 < 24) ∧ ((0 ≤ σ g 18 i5 x7.toNat ∧ σ g 18 i5 x7.toNat < 24) ∧ ((0 ≤ x7 + 1 ∧ x7 + 1 < 24) ∧ ((0 ≤ σ g 18 i5 ((x7 + 1).toNat) ∧ σ g 18 i5 ((x7 + 1).toNat) < 24) ∧ wpX2_tetrahedron g g 13 i6 g 13 ((σ g 18 i5 x7.toNat).toNat) g 13 ((σ g 18 i5 ((x7 + 1).toNat)).toNat) σ (fun z8 σ8 => (inI x1 ∧ ((x1 ≠ 3 → wpX4_get g 13 i6 x1 σ8 (fun z11 σ11 => (inI z11 ∧ wpX4_get g 13 ((σ g 18 i5 x7.toNat).toNat) x1 σ11 (fun z13 σ13 => (inI z13 ∧ wpX4_get g 13 ((σ g 18 i5 ((x7 + 1).toNat)).toNat) x1 σ13 (fun z15 σ15 => (inI z15 ∧ (∀ y17 : Int, y17 = x2 + (z8 * ((z11 + z13) + z15)) → wlX2_moment_40 g P K5 n x1 y17 x4 i5 i6 (x7 + 1) σ15)))))))) ∧ (¬ (x1 ≠ 3) → wlX2_moment_40 g P K5 n x1 (x2 + z8) x4 i5 i6 (x7 + 1) σ8))))))))))))
def wlX2_moment_5 (g : Nat) (P : Int → Tab → Prop) : Nat → Int → Int → Int → Tab → Prop
  | 0, _, _, _, _ => False
  | n + 1, x1, x2, x4, σ => (inI x4 ∧ (inI (σ g 0 0 13) ∧ ((σ g 0 0 13 ≤ x4 → P x2 σ) ∧ (¬ (σ g 0 0 13 ≤ x4) → ((0 ≤ x4 ∧ x4 < 44) ∧ ((0 ≤ σ g 3 0 x4.toNat ∧ σ g 3 0 x4.toNat < 44) ∧ ((0 ≤ σ g 18 ((σ g 3 0 x4.toNat).toNat) 0 ∧ σ g 18 ((σ g 3 0 x4.toNat).toNat) 0 < 24) ∧ (∃ k : Nat, wlX2_moment_40 g P (fun x1 x2 x4 τ => wlX2_moment_5 g P n x1 x2 x4 τ) k x1 x2 x4 ((σ g 3 0 x4.toNat).toNat) ((σ g 18 ((σ g 3 0 x4.toNat).toNat) 0).toNat) 1 σ))))))))
def wpX2_moment (g : Nat) (x1 : Int) (σ : Tab) (P : Int → Tab → Prop) : Prop := (∃ k : Nat, wlX2_moment_5 g P k x1 0 0 σ)
abbrev rmX2_moment : Room := { frames := 1, cells := 0, slots := 0, locals := 29 }
set_option maxHeartbeats 4000000 in
set_option maxRecDepth 100000 in
theorem klX2_moment_40 {l : Launch} {p : Program} {e : Env} {s : State} {m : MethodId} {args : Array Value} {below : List Frame} {meth : Method} {c : Code} {D : va_G} {ids : Ids} {ad : Lay} {cA : Nat → ClassId} {A : Nat → Prop} {g : Nat} {P : Int → Tab → Prop} {K5 : Int → Int → Int → Tab → Prop} (X : Cx p m c meth cX2_moment 12 s args RX2 D cA A nwW) (hr : meth.sig.returnType = some .long) (hg : HasH ids g) (kk5 : ∀ (x1 : Int) (x2 : Int) (x4 : Int) (σ : Tab) (H : Heap) (locs : List Loc) (ls : Array Slot), K5 x1 x2 x4 σ → ww D ids ad cA A σ s.heap H locs → lv_has ls 12 [(0, .ref (ad g 0 0)), (1, vI x1), (2, vL x2), (4, vI x4)] → W p l e rmX2_moment s m args below meth c H locs 0 0 (MQ below (QL D ids ad cA A P) args s 0 0 A) (F0 m 5 ls [])) :
    ∀ (n : Nat) (x1 : Int) (x2 : Int) (x4 : Int) (i5 : Nat) (i6 : Nat) (x7 : Int) (σ : Tab) (H : Heap) (locs : List Loc) (ls : Array Slot), i5 < 44 → i6 < 24 → wlX2_moment_40 g P K5 n x1 x2 x4 i5 i6 x7 σ → ww D ids ad cA A σ s.heap H locs → lv_has ls 12 [(0, .ref (ad g 0 0)), (1, vI x1), (2, vL x2), (4, vI x4), (5, .ref (ad g 16 i5)), (6, .ref (ad g 13 i6)), (7, vI x7)] → W p l e rmX2_moment s m args below meth c H locs 0 0 (MQ below (QL D ids ad cA A P) args s 0 0 A) (F0 m 40 ls []) := by
  intro n
  induction n with
  | zero => intro x1 x2 x4 i5 i6 x7 σ H locs ls m5 m6 hq w hl; exact hq.elim
  | succ n ih =>
    intro x1 x2 x4 i5 i6 x7 σ H locs ls m5 m6 hq w hl
    unfold wlX2_moment_40 at hq
    refine lv_iload X.x X.b dX2_moment_40 (lv_at hl 6 rfl) ?_
    refine ra_iconst X.x X.b dX2_moment_42 ?_
    refine ra_iadd X.x X.b dX2_moment_43 ?_
    refine lv_aload X.x X.b dX2_moment_44 (lv_at hl 4 rfl) ?_
    refine x_get X w (hg 16 i5 m5) rfl in_X6 rfl 2 (by decide) q168 rfl rfl dX2_moment_46 ?_
    obtain ⟨o1, hq⟩ := hq
    obtain ⟨o2, hq⟩ := hq
    refine ra_icmp_ge (tgt := 141) X.x X.b o1 o2 dX2_moment_49 (by decide) (fun c3 => ?_) (fun c3 => ?_)
    · have hq := hq.1 c3
      refine lv_iinc (v := Int32.ofInt (x4 + 1)) (lv' := [(4, vI (x4 + 1)), (0, .ref (ad g 0 0)), (1, vI x1), (2, vL x2), (5, .ref (ad g 16 i5)), (6, .ref (ad g 13 i6)), (7, vI x7)]) X.x X.b dX2_moment_141 hl (k := 3) rfl (Int32.ofInt_add _ _).symm (by decide) rfl (fun ls hl => ?_)
      refine lv_goto (tgt := 5) X.x X.b dX2_moment_144 (by decide) ?_
      exact kk5 x1 x2 (x4 + 1) σ _ _ _ hq w (lv_sub hl [1, 2, 3, 0] rfl)
    · have hq := hq.2 c3
      refine lv_aload_n X.x X.b dX2_moment_52 rfl (lv_at hl 0 rfl) ?_
      refine x_get X w (hg 0 0 (by decide)) rfl in_X2 rfl 0 (by decide) q199 rfl rfl dX2_moment_53 ?_
      refine lv_aload X.x X.b dX2_moment_56 (lv_at hl 4 rfl) ?_
      refine x_get X w (hg 16 i5 m5) rfl in_X6 rfl 1 (by decide) q165 rfl rfl dX2_moment_58 ?_
      refine lv_iload X.x X.b dX2_moment_61 (lv_at hl 6 rfl) ?_
      obtain ⟨o4, hq⟩ := hq
      refine x_iald X w (hg 18 i5 m5) rfl (by decide) o4.1 o4.2 dX2_moment_63 ?_
      obtain ⟨o5, hq⟩ := hq
      refine x_aald X w (hg 1 0 (by decide)) (.object RX4) rfl rfl rfl (by decide) o5.1 o5.2 rfl dX2_moment_64 ?_
      refine lv_astore (lv' := [(8, .ref (ad g 13 ((σ g 18 i5 x7.toNat).toNat))), (0, .ref (ad g 0 0)), (1, vI x1), (2, vL x2), (4, vI x4), (5, .ref (ad g 16 i5)), (6, .ref (ad g 13 i6)), (7, vI x7)]) X.x X.b dX2_moment_65 hl (by decide) rfl (fun ls hl => ?_)
      refine lv_aload_n X.x X.b dX2_moment_67 rfl (lv_at hl 1 rfl) ?_
      refine x_get X w (hg 0 0 (by decide)) rfl in_X2 rfl 0 (by decide) q199 rfl rfl dX2_moment_68 ?_
      refine lv_aload X.x X.b dX2_moment_71 (lv_at hl 5 rfl) ?_
      refine x_get X w (hg 16 i5 m5) rfl in_X6 rfl 1 (by decide) q165 rfl rfl dX2_moment_73 ?_
      refine lv_iload X.x X.b dX2_moment_76 (lv_at hl 7 rfl) ?_
      refine ra_iconst X.x X.b dX2_moment_78 ?_
      refine ra_iadd X.x X.b dX2_moment_79 ?_
      obtain ⟨o6, hq⟩ := hq
      refine x_iald X w (hg 18 i5 m5) rfl (by decide) o6.1 o6.2 dX2_moment_80 ?_
      obtain ⟨o7, hq⟩ := hq
      refine x_aald X w (hg 1 0 (by decide)) (.object RX4) rfl rfl rfl (by decide) o7.1 o7.2 rfl dX2_moment_81 ?_
      refine lv_astore (lv' := [(9, .ref (ad g 13 ((σ g 18 i5 ((x7 + 1).toNat)).toNat))), (8, .ref (ad g 13 ((σ g 18 i5 x7.toNat).toNat))), (0, .ref (ad g 0 0)), (1, vI x1), (2, vL x2), (4, vI x4), (5, .ref (ad g 16 i5)), (6, .ref (ad g 13 i6)), (7, vI x7)]) X.x X.b dX2_moment_82 hl (by decide) rfl (fun ls hl => ?_)
      refine lv_aload_n X.x X.b dX2_moment_84 rfl (lv_at hl 2 rfl) ?_
      refine lv_aload X.x X.b dX2_moment_85 (lv_at hl 7 rfl) ?_
      refine lv_aload X.x X.b dX2_moment_87 (lv_at hl 1 rfl) ?_
      refine lv_aload X.x X.b dX2_moment_89 (lv_at hl 0 rfl) ?_
      refine x_callVl (n := 3) (As := [.ref (ad g 13 i6), .ref (ad g 13 ((σ g 18 i5 x7.toNat).toNat)), .ref (ad g 13 ((σ g 18 i5 ((x7 + 1).toNat)).toNat))]) (rest := []) X w (hg 0 0 (by decide)) rfl rfl (mX2_tetrahedron l D ids ad cA A g hg g 13 i6 (hg 13 i6 m6) (by unfold isPt; decide) g 13 ((σ g 18 i5 x7.toNat).toNat) (hg 13 ((σ g 18 i5 x7.toNat).toNat) (tn o5)) (by unfold isPt; decide) g 13 ((σ g 18 i5 ((x7 + 1).toNat)).toNat) (hg 13 ((σ g 18 i5 ((x7 + 1).toNat)).toNat) (tn o7)) (by unfold isPt; decide) σ _ hq) (lw_V q638 q640 qs14 q37 q641) ⟨rfl, rfl⟩ (by decide +kernel) ⟨Nat.le_of_ble_eq_true rfl, Nat.le_of_ble_eq_true rfl⟩ ⟨Nat.le_refl _, Nat.le_refl _⟩ rfl hl.1 rfl (Nat.le_of_ble_eq_true rfl) dX2_moment_91 (fun z8 σ8 H locs hq w => ?_)
      refine lv_lstore (lv' := [(10, vL z8), (9, .ref (ad g 13 ((σ g 18 i5 ((x7 + 1).toNat)).toNat))), (8, .ref (ad g 13 ((σ g 18 i5 x7.toNat).toNat))), (0, .ref (ad g 0 0)), (1, vI x1), (2, vL x2), (4, vI x4), (5, .ref (ad g 16 i5)), (6, .ref (ad g 13 i6)), (7, vI x7)]) X.x X.b dX2_moment_94 hl (by decide) rfl (fun ls hl => ?_)
      refine lv_lload_n X.x X.b dX2_moment_96 rfl (lv_at hl 5 rfl) ?_
      refine lv_iload_n X.x X.b dX2_moment_97 rfl (lv_at hl 4 rfl) ?_
      refine ra_iconst X.x X.b dX2_moment_98 ?_
      obtain ⟨o9, hq⟩ := hq
      refine ra_icmp_ne (tgt := 107) X.x X.b o9 ⟨by decide, by decide⟩ dX2_moment_99 (by decide) (fun c10 => ?_) (fun c10 => ?_)
      · have hq := hq.1 c10
        refine lv_lload X.x X.b dX2_moment_107 (lv_at hl 0 rfl) ?_
        refine lv_aload X.x X.b dX2_moment_109 (lv_at hl 8 rfl) ?_
        refine lv_iload_n X.x X.b dX2_moment_111 rfl (lv_at hl 4 rfl) ?_
        refine x_callVi (n := 1) (As := [vI x1]) (rest := [vL z8, vL x2]) X w (hg 13 i6 m6) rfl rfl (mX4_get l D ids ad cA A g 13 i6 (hg 13 i6 m6) (by unfold isPt; decide) x1 σ8 _ hq) (lw_V q642 q542 q543 q39 q544) ⟨rfl, rfl⟩ (by decide +kernel) ⟨Nat.le_of_ble_eq_true rfl, Nat.le_of_ble_eq_true rfl⟩ ⟨Nat.le_refl _, Nat.le_refl _⟩ rfl hl.1 rfl (Nat.le_of_ble_eq_true rfl) dX2_moment_112 (fun z11 σ11 H locs hq w => ?_)
        obtain ⟨o12, hq⟩ := hq
        refine ra_i2l X.x X.b o12 dX2_moment_115 ?_
        refine lv_aload X.x X.b dX2_moment_116 (lv_at hl 2 rfl) ?_
        refine lv_iload_n X.x X.b dX2_moment_118 rfl (lv_at hl 4 rfl) ?_
        refine x_callVi (n := 1) (As := [vI x1]) (rest := [vL z11, vL z8, vL x2]) X w (hg 13 ((σ g 18 i5 x7.toNat).toNat) (tn o5)) rfl rfl (mX4_get l D ids ad cA A g 13 ((σ g 18 i5 x7.toNat).toNat) (hg 13 ((σ g 18 i5 x7.toNat).toNat) (tn o5)) (by unfold isPt; decide) x1 σ11 _ hq) (lw_V q642 q542 q543 q39 q544) ⟨rfl, rfl⟩ (by decide +kernel) ⟨Nat.le_of_ble_eq_true rfl, Nat.le_of_ble_eq_true rfl⟩ ⟨Nat.le_refl _, Nat.le_refl _⟩ rfl hl.1 rfl (Nat.le_of_ble_eq_true rfl) dX2_moment_119 (fun z13 σ13 H locs hq w => ?_)
        obtain ⟨o14, hq⟩ := hq
        refine ra_i2l X.x X.b o14 dX2_moment_122 ?_
        refine ra_ladd X.x X.b dX2_moment_123 ?_
        refine lv_aload X.x X.b dX2_moment_124 (lv_at hl 1 rfl) ?_
        refine lv_iload_n X.x X.b dX2_moment_126 rfl (lv_at hl 4 rfl) ?_
        refine x_callVi (n := 1) (As := [vI x1]) (rest := [vL (z11 + z13), vL z8, vL x2]) X w (hg 13 ((σ g 18 i5 ((x7 + 1).toNat)).toNat) (tn o7)) rfl rfl (mX4_get l D ids ad cA A g 13 ((σ g 18 i5 ((x7 + 1).toNat)).toNat) (hg 13 ((σ g 18 i5 ((x7 + 1).toNat)).toNat) (tn o7)) (by unfold isPt; decide) x1 σ13 _ hq) (lw_V q642 q542 q543 q39 q544) ⟨rfl, rfl⟩ (by decide +kernel) ⟨Nat.le_of_ble_eq_true rfl, Nat.le_of_ble_eq_true rfl⟩ ⟨Nat.le_refl _, Nat.le_refl _⟩ rfl hl.1 rfl (Nat.le_of_ble_eq_true rfl) dX2_moment_127 (fun z15 σ15 H locs hq w => ?_)
        obtain ⟨o16, hq⟩ := hq
        refine ra_i2l X.x X.b o16 dX2_moment_130 ?_
        refine ra_ladd X.x X.b dX2_moment_131 ?_
        refine ra_lmul X.x X.b dX2_moment_132 ?_
        refine ra_ladd X.x X.b dX2_moment_133 ?_
        refine ra_nmL (fun y17 ey17 => ?_)
        have hq := hq y17 ey17
        refine lv_lstore_n (lv' := [(2, vL y17), (10, vL z8), (9, .ref (ad g 13 ((σ g 18 i5 ((x7 + 1).toNat)).toNat))), (8, .ref (ad g 13 ((σ g 18 i5 x7.toNat).toNat))), (0, .ref (ad g 0 0)), (1, vI x1), (4, vI x4), (5, .ref (ad g 16 i5)), (6, .ref (ad g 13 i6)), (7, vI x7)]) X.x X.b dX2_moment_134 rfl hl (by decide) rfl (fun ls hl => ?_)
        refine lv_iinc (v := Int32.ofInt (x7 + 1)) (lv' := [(7, vI (x7 + 1)), (2, vL y17), (10, vL z8), (9, .ref (ad g 13 ((σ g 18 i5 ((x7 + 1).toNat)).toNat))), (8, .ref (ad g 13 ((σ g 18 i5 x7.toNat).toNat))), (0, .ref (ad g 0 0)), (1, vI x1), (4, vI x4), (5, .ref (ad g 16 i5)), (6, .ref (ad g 13 i6))]) X.x X.b dX2_moment_135 hl (k := 9) rfl (Int32.ofInt_add _ _).symm (by decide) rfl (fun ls hl => ?_)
        refine lv_goto (tgt := 40) X.x X.b dX2_moment_138 (by decide) ?_
        exact ih x1 y17 x4 i5 i6 (x7 + 1) σ15 _ _ _ m5 m6 hq w (lv_sub hl [5, 6, 1, 7, 8, 9, 0] rfl)
      · have hq := hq.2 c10
        refine lv_lload X.x X.b dX2_moment_102 (lv_at hl 0 rfl) ?_
        refine lv_goto (tgt := 133) X.x X.b dX2_moment_104 (by decide) ?_
        refine ra_ladd X.x X.b dX2_moment_133 ?_
        refine lv_lstore_n (lv' := [(2, vL (x2 + z8)), (10, vL z8), (9, .ref (ad g 13 ((σ g 18 i5 ((x7 + 1).toNat)).toNat))), (8, .ref (ad g 13 ((σ g 18 i5 x7.toNat).toNat))), (0, .ref (ad g 0 0)), (1, vI x1), (4, vI x4), (5, .ref (ad g 16 i5)), (6, .ref (ad g 13 i6)), (7, vI x7)]) X.x X.b dX2_moment_134 rfl hl (by decide) rfl (fun ls hl => ?_)
        refine lv_iinc (v := Int32.ofInt (x7 + 1)) (lv' := [(7, vI (x7 + 1)), (2, vL (x2 + z8)), (10, vL z8), (9, .ref (ad g 13 ((σ g 18 i5 ((x7 + 1).toNat)).toNat))), (8, .ref (ad g 13 ((σ g 18 i5 x7.toNat).toNat))), (0, .ref (ad g 0 0)), (1, vI x1), (4, vI x4), (5, .ref (ad g 16 i5)), (6, .ref (ad g 13 i6))]) X.x X.b dX2_moment_135 hl (k := 9) rfl (Int32.ofInt_add _ _).symm (by decide) rfl (fun ls hl => ?_)
        refine lv_goto (tgt := 40) X.x X.b dX2_moment_138 (by decide) ?_
        exact ih x1 (x2 + z8) x4 i5 i6 (x7 + 1) σ8 _ _ _ m5 m6 hq w (lv_sub hl [5, 6, 1, 7, 8, 9, 0] rfl)
set_option maxHeartbeats 4000000 in
set_option maxRecDepth 100000 in
theorem klX2_moment_5 {l : Launch} {p : Program} {e : Env} {s : State} {m : MethodId} {args : Array Value} {below : List Frame} {meth : Method} {c : Code} {D : va_G} {ids : Ids} {ad : Lay} {cA : Nat → ClassId} {A : Nat → Prop} {g : Nat} {P : Int → Tab → Prop} (X : Cx p m c meth cX2_moment 12 s args RX2 D cA A nwW) (hr : meth.sig.returnType = some .long) (hg : HasH ids g) :
    ∀ (n : Nat) (x1 : Int) (x2 : Int) (x4 : Int) (σ : Tab) (H : Heap) (locs : List Loc) (ls : Array Slot), wlX2_moment_5 g P n x1 x2 x4 σ → ww D ids ad cA A σ s.heap H locs → lv_has ls 12 [(0, .ref (ad g 0 0)), (1, vI x1), (2, vL x2), (4, vI x4)] → W p l e rmX2_moment s m args below meth c H locs 0 0 (MQ below (QL D ids ad cA A P) args s 0 0 A) (F0 m 5 ls []) := by
  intro n
  induction n with
  | zero => intro x1 x2 x4 σ H locs ls hq w hl; exact hq.elim
  | succ n ih =>
    intro x1 x2 x4 σ H locs ls hq w hl
    unfold wlX2_moment_5 at hq
    refine lv_iload X.x X.b dX2_moment_5 (lv_at hl 3 rfl) ?_
    refine lv_aload_n X.x X.b dX2_moment_7 rfl (lv_at hl 0 rfl) ?_
    refine x_get X w (hg 0 0 (by decide)) rfl in_X2 rfl 13 (by decide) q216 rfl rfl dX2_moment_8 ?_
    obtain ⟨o1, hq⟩ := hq
    obtain ⟨o2, hq⟩ := hq
    refine ra_icmp_ge (tgt := 147) X.x X.b o1 o2 dX2_moment_11 (by decide) (fun c3 => ?_) (fun c3 => ?_)
    · have hq := hq.1 c3
      refine lv_lload_n X.x X.b dX2_moment_147 rfl (lv_at hl 2 rfl) ?_
      exact x_lret X hr w hq dX2_moment_148
    · have hq := hq.2 c3
      refine lv_aload_n X.x X.b dX2_moment_14 rfl (lv_at hl 0 rfl) ?_
      refine x_get X w (hg 0 0 (by decide)) rfl in_X2 rfl 2 (by decide) q201 rfl rfl dX2_moment_15 ?_
      refine lv_iload X.x X.b dX2_moment_18 (lv_at hl 3 rfl) ?_
      obtain ⟨o4, hq⟩ := hq
      refine x_aald X w (hg 3 0 (by decide)) (.object RX6) rfl rfl rfl (by decide) o4.1 o4.2 rfl dX2_moment_20 ?_
      obtain ⟨o5, hq⟩ := hq
      refine lv_astore (lv' := [(5, .ref (ad g 16 ((σ g 3 0 x4.toNat).toNat))), (0, .ref (ad g 0 0)), (1, vI x1), (2, vL x2), (4, vI x4)]) X.x X.b dX2_moment_21 hl (by decide) rfl (fun ls hl => ?_)
      refine lv_aload_n X.x X.b dX2_moment_23 rfl (lv_at hl 1 rfl) ?_
      refine x_get X w (hg 0 0 (by decide)) rfl in_X2 rfl 0 (by decide) q199 rfl rfl dX2_moment_24 ?_
      refine lv_aload X.x X.b dX2_moment_27 (lv_at hl 0 rfl) ?_
      refine x_get X w (hg 16 ((σ g 3 0 x4.toNat).toNat) (tn o5)) rfl in_X6 rfl 1 (by decide) q165 rfl rfl dX2_moment_29 ?_
      refine ra_iconst X.x X.b dX2_moment_32 ?_
      refine x_iald X w (hg 18 ((σ g 3 0 x4.toNat).toNat) (tn o5)) rfl (by decide) (by decide) (by decide) dX2_moment_33 ?_
      obtain ⟨o6, hq⟩ := hq
      refine x_aald X w (hg 1 0 (by decide)) (.object RX4) rfl rfl rfl (by decide) o6.1 o6.2 rfl dX2_moment_34 ?_
      refine lv_astore (lv' := [(6, .ref (ad g 13 ((σ g 18 ((σ g 3 0 x4.toNat).toNat) 0).toNat))), (5, .ref (ad g 16 ((σ g 3 0 x4.toNat).toNat))), (0, .ref (ad g 0 0)), (1, vI x1), (2, vL x2), (4, vI x4)]) X.x X.b dX2_moment_35 hl (by decide) rfl (fun ls hl => ?_)
      refine ra_iconst X.x X.b dX2_moment_37 ?_
      refine lv_istore (lv' := [(7, vI 1), (6, .ref (ad g 13 ((σ g 18 ((σ g 3 0 x4.toNat).toNat) 0).toNat))), (5, .ref (ad g 16 ((σ g 3 0 x4.toNat).toNat))), (0, .ref (ad g 0 0)), (1, vI x1), (2, vL x2), (4, vI x4)]) X.x X.b dX2_moment_38 hl (by decide) rfl (fun ls hl => ?_)
      obtain ⟨n7, hq⟩ := hq
      exact klX2_moment_40 X hr hg (fun a0 a1 a2 τ H L ls q w h => ih a0 a1 a2 τ H L ls q w h) n7 x1 x2 x4 ((σ g 3 0 x4.toNat).toNat) ((σ g 18 ((σ g 3 0 x4.toNat).toNat) 0).toNat) 1 σ _ _ _ (tn o5) (tn o6) hq w (lv_sub hl [3, 4, 5, 6, 2, 1, 0] rfl)
set_option maxHeartbeats 4000000 in
set_option maxRecDepth 100000 in
theorem mX2_moment (l : Launch) (D : va_G) (ids : Ids) (ad : Lay) (cA : Nat → ClassId) (A : Nat → Prop) (g : Nat) (hg : HasH ids g) (x1 : Int) (σ : Tab) (P : Int → Tab → Prop) (hq : wpX2_moment g x1 σ P) : Met l yX2_moment (ws_ yX2_moment cX2_moment 12 (some .long)) rmX2_moment (PcW D ids ad cA A σ [.ref (ad g 0 0), vI x1]) (QL D ids ad cA A P) 0 0 A := by
  refine m_entry (own := RX2) (by decide) (Nat.le_of_ble_eq_true rfl) rfl ?_
  intro p e s m below meth c ls X hr w hl
  have hl : lv_has ls 12 [(0, .ref (ad g 0 0)), (1, vI x1)] := hl
  unfold wpX2_moment at hq
  refine ra_lconst (z := 0) X.x X.b dX2_moment_0 rfl ?_
  refine lv_lstore_n (lv' := [(2, vL 0), (0, .ref (ad g 0 0)), (1, vI x1)]) X.x X.b dX2_moment_1 rfl hl (by decide) rfl (fun ls hl => ?_)
  refine ra_iconst X.x X.b dX2_moment_2 ?_
  refine lv_istore (lv' := [(4, vI 0), (2, vL 0), (0, .ref (ad g 0 0)), (1, vI x1)]) X.x X.b dX2_moment_3 hl (by decide) rfl (fun ls hl => ?_)
  obtain ⟨n1, hq⟩ := hq
  exact klX2_moment_5 X hr hg  n1 x1 0 0 σ _ _ _ hq w (lv_sub hl [2, 3, 1, 0] rfl)
end
