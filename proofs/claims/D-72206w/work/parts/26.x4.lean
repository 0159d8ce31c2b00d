/-! LeastFrames_Program.betters -/
def w_X2_betters_34b (p1 : Int32) (K2 : XS → Int32 → Prop) (K34 : XS → Int32 → Int32 → Prop) (post : Int32 → XS → Prop) (X : XS) (x2 : Int32) (x3 : Int32) : Prop :=
  (x3 < ((-1) : Int32) → (∀ v2 : Int32, v2 = x2 + 1 → (K2 X v2))) ∧ (¬ x3 < ((-1) : Int32) → (v_X2_price X x2 x3 (fun r3 => (r3 < (0 : Int64) → (v_X2_gives X x2 x3 (fun r5 => v_X2_pivots X r5 x2 (fun  X6 => vp_in r5 10 ∧ (∀ X7 : XS, X7 = sX_signs X6 (upd (X_signs X6) r5.toNatClampNeg x3) → (post (1 : Int32) X7)))))) ∧ (¬ r3 < (0 : Int64) → (∀ v8 : Int32, v8 = x3 + (-2) → (K34 X x2 v8))))))
def w_X2_betters_34 (p1 : Int32) (K2 : XS → Int32 → Prop) (post : Int32 → XS → Prop) : Nat → XS → Int32 → Int32 → Prop
  | 0, _, _, _ => False
  | n + 1, X, x2, x3 => w_X2_betters_34b p1 K2 (w_X2_betters_34 p1 K2 post n) post X x2 x3
def w_X2_betters_2b (p1 : Int32) (K2 : XS → Int32 → Prop) (post : Int32 → XS → Prop) (X : XS) (x2 : Int32) : Prop :=
  v_X0_pairs X (fun r1 => (r1 ≤ x2 → (post (0 : Int32) X)) ∧ (¬ r1 ≤ x2 → (v_X0_isIn p1 x2 (fun r3 => (r3 = (0 : Int32) → (∀ v5 : Int32, v5 = x2 + 1 → (K2 X v5))) ∧ (¬ r3 = (0 : Int32) → (v_X2_isBasic X x2 (fun r6 => (r6 = (0 : Int32) → (∃ n, w_X2_betters_34 p1 K2 post n X x2 1)) ∧ (¬ r6 = (0 : Int32) → (∀ v8 : Int32, v8 = x2 + 1 → (K2 X v8))))))))))
def w_X2_betters_2 (p1 : Int32) (post : Int32 → XS → Prop) : Nat → XS → Int32 → Prop
  | 0, _, _ => False
  | n + 1, X, x2 => w_X2_betters_2b p1 (w_X2_betters_2 p1 post n) post X x2
def w_X2_betters (p1 : Int32) (post : Int32 → XS → Prop) (X : XS) : Prop :=
  ∃ n, w_X2_betters_2 p1 post n X 0
abbrev rmX2_betters : Room := { frames := 5, cells := 0, slots := 0, locals := 110 }
set_option maxHeartbeats 4000000 in
set_option maxRecDepth 100000 in
theorem k_X2_betters_34b {p : Program} {l : Launch} {e : Env} {s : State} {m : MethodId} {args : Array Value} {below : List Frame} {meth : Method} {c : Code} {D : va_G} {dT : Nat → ClassId} {a : Nat → Nat} {A : Nat → Prop} {vs0 : XE} {p1 : Int32} {K2 : XS → Int32 → Prop} {K34 : XS → Int32 → Int32 → Prop} {post : Int32 → XS → Prop} (hC : wCx RX2 cX2_betters 5 (some .boolean) D dT p s m args meth c) (hA : wAz A s) (hK2 : ∀ (X : XS) (x2 : Int32), K2 X x2 → ∀ {vs : XE} {H : Heap} {locs : List Loc} {ls : Array Slot}, StX D dT a A s vs0 X vs H locs → lv_has ls 5 [(0, .ref (a 22)), (1, .int p1), (2, .int x2)] → W p l e rmX2_betters s m args below meth c H locs 0 0 (MQ below (va_Qi (fun r u9 => post r u9.1) (wB D (XW dT a) (XI vs0) A) A) args s 0 0 A) (F0 m 2 ls [])) (hK34 : ∀ (X : XS) (x2 : Int32) (x3 : Int32), K34 X x2 x3 → ∀ {vs : XE} {H : Heap} {locs : List Loc} {ls : Array Slot}, StX D dT a A s vs0 X vs H locs → lv_has ls 5 [(0, .ref (a 22)), (1, .int p1), (2, .int x2), (3, .int x3)] → W p l e rmX2_betters s m args below meth c H locs 0 0 (MQ below (va_Qi (fun r u9 => post r u9.1) (wB D (XW dT a) (XI vs0) A) A) args s 0 0 A) (F0 m 34 ls [])) (X : XS) (x2 : Int32) (x3 : Int32) {vs : XE} {H : Heap} {locs : List Loc} {ls : Array Slot} (hS : StX D dT a A s vs0 X vs H locs) (hl : lv_has ls 5 [(0, .ref (a 22)), (1, .int p1), (2, .int x2), (3, .int x3)])  (hw : w_X2_betters_34b p1 K2 K34 post X x2 x3) : W p l e rmX2_betters s m args below meth c H locs 0 0 (MQ below (va_Qi (fun r u9 => post r u9.1) (wB D (XW dT a) (XI vs0) A) A) args s 0 0 A) (F0 m 34 ls []) := by
  have hx := hC.1
  have hb := hC.2.1
  have hown := hC.2.2.2.1
  have hts := hC.2.2.2.2.1
  unfold w_X2_betters_34b at hw
  refine lv_iload_n hx hb dX2_betters_34 rfl (lv_at hl 3 rfl) ?_
  refine lv_iconst (v := (-1)) hx hb dX2_betters_35 (by decide) ?_
  refine lv_icmp_lt (tgt := 84) hx hb dX2_betters_36 (by decide) (fun c1 => ?_) (fun c1 => ?_)
  · have hw := hw.1 c1
    obtain ⟨v2, ev2⟩ : ∃ y : Int32, y = x2 + 1 := ⟨_, rfl⟩
    have hw := hw v2 ev2
    refine lv_iinc (v := v2) (lv' := [(2, .int v2), (0, .ref (a 22)), (1, .int p1), (3, .int x3)]) hx hb dX2_betters_84 hl (k := 2) rfl (by rw [ev2]; rfl) (by decide) rfl (fun ls hl => ?_)
    refine lv_goto (tgt := 2) hx hb dX2_betters_87 (by decide) ?_
    exact hK2 _ _ hw hS (lv_sub hl [1, 2, 0] rfl)
  · have hw := hw.2 c1
    refine lv_aload_n hx hb dX2_betters_39 rfl (lv_at hl 0 rfl) ?_
    refine lv_iload_n hx hb dX2_betters_40 rfl (lv_at hl 2 rfl) ?_
    refine lv_iload_n hx hb dX2_betters_41 rfl (lv_at hl 3 rfl) ?_
    refine inv_q489 hC hA hS hl.1 hw ⟨Nat.le_of_ble_eq_true rfl, Nat.le_of_ble_eq_true rfl⟩ (Nat.le_of_ble_eq_true rfl) ⟨Nat.zero_le _, Nat.zero_le _⟩ dX2_betters_42 (fun r3 H locs hw hS => ?_)
    refine lv_lconst (v := 0) hx hb dX2_betters_45 (by decide) ?_
    refine lc_if_lt (tgt := 53) hx hb dX2_betters_46 dX2_betters_47 (by decide) (fun c4 => ?_) (fun c4 => ?_)
    · have hw := hw.1 c4
      refine lv_aload_n hx hb dX2_betters_53 rfl (lv_at hl 0 rfl) ?_
      refine lv_iload_n hx hb dX2_betters_54 rfl (lv_at hl 2 rfl) ?_
      refine lv_iload_n hx hb dX2_betters_55 rfl (lv_at hl 3 rfl) ?_
      refine inv_q494 hC hA hS hl.1 hw ⟨Nat.le_of_ble_eq_true rfl, Nat.le_of_ble_eq_true rfl⟩ (Nat.le_of_ble_eq_true rfl) ⟨Nat.zero_le _, Nat.zero_le _⟩ dX2_betters_56 (fun r5 H locs hw hS => ?_)
      refine lv_istore (lv' := [(4, .int r5), (0, .ref (a 22)), (1, .int p1), (2, .int x2), (3, .int x3)]) hx hb dX2_betters_59 hl (by decide) rfl (fun ls hl => ?_)
      refine lv_aload_n hx hb dX2_betters_61 rfl (lv_at hl 1 rfl) ?_
      refine lv_iload hx hb dX2_betters_62 (lv_at hl 0 rfl) ?_
      refine lv_iload_n hx hb dX2_betters_64 rfl (lv_at hl 3 rfl) ?_
      refine inv_q391 hC hA hS hl.1 hw ⟨Nat.le_of_ble_eq_true rfl, Nat.le_of_ble_eq_true rfl⟩ (Nat.le_of_ble_eq_true rfl) ⟨Nat.zero_le _, Nat.zero_le _⟩ dX2_betters_65 (fun  X6 vs H locs hw hv9 hS => ?_)
      refine lv_aload_n hx hb dX2_betters_68 rfl (lv_at hl 1 rfl) ?_
      refine ld_q158 hC hS dX2_betters_69 ?_
      refine lv_iload hx hb dX2_betters_72 (lv_at hl 0 rfl) ?_
      refine lv_iload_n hx hb dX2_betters_74 rfl (lv_at hl 4 rfl) ?_
      have hi := hw.1
      have hw := hw.2
      refine as_SG hC hS hi dX2_betters_75 (fun H locs hS => ?_)
      have hw := hw (sX_signs X6 (upd (X_signs X6) r5.toNatClampNeg x3)) rfl
      generalize sX_signs X6 (upd (X_signs X6) r5.toNatClampNeg x3) = X7 at hS hw
      refine lv_iconst (v := 1) hx hb dX2_betters_76 (by decide) ?_
      exact wRetz hC hS (by decide) hw (Nat.le_refl _) (Nat.le_refl _) dX2_betters_77
    · have hw := hw.2 c4
      refine lv_goto (tgt := 78) hx hb dX2_betters_50 (by decide) ?_
      obtain ⟨v8, ev8⟩ : ∃ y : Int32, y = x3 + (-2) := ⟨_, rfl⟩
      have hw := hw v8 ev8
      refine lv_iinc (v := v8) (lv' := [(3, .int v8), (0, .ref (a 22)), (1, .int p1), (2, .int x2)]) hx hb dX2_betters_78 hl (k := 3) rfl (by rw [ev8]; rfl) (by decide) rfl (fun ls hl => ?_)
      refine lv_goto (tgt := 34) hx hb dX2_betters_81 (by decide) ?_
      exact hK34 _ _ _ hw hS (lv_sub hl [1, 2, 3, 0] rfl)
set_option maxHeartbeats 4000000 in
set_option maxRecDepth 100000 in
theorem k_X2_betters_34 {p : Program} {l : Launch} {e : Env} {s : State} {m : MethodId} {args : Array Value} {below : List Frame} {meth : Method} {c : Code} {D : va_G} {dT : Nat → ClassId} {a : Nat → Nat} {A : Nat → Prop} {vs0 : XE} {p1 : Int32} {K2 : XS → Int32 → Prop} {post : Int32 → XS → Prop} (hC : wCx RX2 cX2_betters 5 (some .boolean) D dT p s m args meth c) (hA : wAz A s) (hK2 : ∀ (X : XS) (x2 : Int32), K2 X x2 → ∀ {vs : XE} {H : Heap} {locs : List Loc} {ls : Array Slot}, StX D dT a A s vs0 X vs H locs → lv_has ls 5 [(0, .ref (a 22)), (1, .int p1), (2, .int x2)] → W p l e rmX2_betters s m args below meth c H locs 0 0 (MQ below (va_Qi (fun r u9 => post r u9.1) (wB D (XW dT a) (XI vs0) A) A) args s 0 0 A) (F0 m 2 ls [])) : ∀ (X : XS) (x2 : Int32) (x3 : Int32) (n : Nat), ∀ {vs : XE} {H : Heap} {locs : List Loc} {ls : Array Slot}, StX D dT a A s vs0 X vs H locs → lv_has ls 5 [(0, .ref (a 22)), (1, .int p1), (2, .int x2), (3, .int x3)] → w_X2_betters_34 p1 K2 post n X x2 x3 → W p l e rmX2_betters s m args below meth c H locs 0 0 (MQ below (va_Qi (fun r u9 => post r u9.1) (wB D (XW dT a) (XI vs0) A) A) args s 0 0 A) (F0 m 34 ls []) := by
  intro X x2 x3 n
  induction n generalizing X x2 x3 with
  | zero => intro vs H locs ls  hS hl hw; exact hw.elim
  | succ n ih =>
    intro vs H locs ls  hS hl hw
    exact k_X2_betters_34b hC hA hK2 (fun X x2 x3 hk {vs} {H} {locs} {ls}  hS hl => ih X x2 x3  hS hl hk) X x2 x3  hS hl hw
set_option maxHeartbeats 4000000 in
set_option maxRecDepth 100000 in
theorem k_X2_betters_2b {p : Program} {l : Launch} {e : Env} {s : State} {m : MethodId} {args : Array Value} {below : List Frame} {meth : Method} {c : Code} {D : va_G} {dT : Nat → ClassId} {a : Nat → Nat} {A : Nat → Prop} {vs0 : XE} {p1 : Int32} {K2 : XS → Int32 → Prop} {post : Int32 → XS → Prop} (hC : wCx RX2 cX2_betters 5 (some .boolean) D dT p s m args meth c) (hA : wAz A s) (hK2 : ∀ (X : XS) (x2 : Int32), K2 X x2 → ∀ {vs : XE} {H : Heap} {locs : List Loc} {ls : Array Slot}, StX D dT a A s vs0 X vs H locs → lv_has ls 5 [(0, .ref (a 22)), (1, .int p1), (2, .int x2)] → W p l e rmX2_betters s m args below meth c H locs 0 0 (MQ below (va_Qi (fun r u9 => post r u9.1) (wB D (XW dT a) (XI vs0) A) A) args s 0 0 A) (F0 m 2 ls [])) (X : XS) (x2 : Int32) {vs : XE} {H : Heap} {locs : List Loc} {ls : Array Slot} (hS : StX D dT a A s vs0 X vs H locs) (hl : lv_has ls 5 [(0, .ref (a 22)), (1, .int p1), (2, .int x2)])  (hw : w_X2_betters_2b p1 K2 post X x2) : W p l e rmX2_betters s m args below meth c H locs 0 0 (MQ below (va_Qi (fun r u9 => post r u9.1) (wB D (XW dT a) (XI vs0) A) A) args s 0 0 A) (F0 m 2 ls []) := by
  have hx := hC.1
  have hb := hC.2.1
  have hown := hC.2.2.2.1
  have hts := hC.2.2.2.2.1
  unfold w_X2_betters_2b at hw
  refine lv_iload_n hx hb dX2_betters_2 rfl (lv_at hl 2 rfl) ?_
  refine lv_aload_n hx hb dX2_betters_3 rfl (lv_at hl 0 rfl) ?_
  refine ld_q163 hC hS dX2_betters_4 ?_
  refine inv_q387 hC hA hS hl.1 hw ⟨Nat.le_of_ble_eq_true rfl, Nat.le_of_ble_eq_true rfl⟩ (Nat.le_of_ble_eq_true rfl) ⟨Nat.zero_le _, Nat.zero_le _⟩ dX2_betters_7 (fun r1 H locs hw hS => ?_)
  refine lv_icmp_ge (tgt := 90) hx hb dX2_betters_10 (by decide) (fun c2 => ?_) (fun c2 => ?_)
  · have hw := hw.1 c2
    refine lv_iconst (v := 0) hx hb dX2_betters_90 (by decide) ?_
    exact wRetz hC hS (by decide) hw (Nat.le_refl _) (Nat.le_refl _) dX2_betters_91
  · have hw := hw.2 c2
    refine lv_iload_n hx hb dX2_betters_13 rfl (lv_at hl 1 rfl) ?_
    refine lv_iload_n hx hb dX2_betters_14 rfl (lv_at hl 2 rfl) ?_
    refine inv_q386 hC hS hl.1 hw ⟨Nat.le_of_ble_eq_true rfl, Nat.le_of_ble_eq_true rfl⟩ (Nat.le_of_ble_eq_true rfl) ⟨Nat.zero_le _, Nat.zero_le _⟩ dX2_betters_15 (fun r3 H locs hw hS => ?_)
    refine lv_if_eq (tgt := 84) hx hb dX2_betters_18 (by decide) (fun c4 => ?_) (fun c4 => ?_)
    · have hw := hw.1 c4
      obtain ⟨v5, ev5⟩ : ∃ y : Int32, y = x2 + 1 := ⟨_, rfl⟩
      have hw := hw v5 ev5
      refine lv_iinc (v := v5) (lv' := [(2, .int v5), (0, .ref (a 22)), (1, .int p1)]) hx hb dX2_betters_84 hl (k := 2) rfl (by rw [ev5]; rfl) (by decide) rfl (fun ls hl => ?_)
      refine lv_goto (tgt := 2) hx hb dX2_betters_87 (by decide) ?_
      exact hK2 _ _ hw hS (lv_sub hl [1, 2, 0] rfl)
    · have hw := hw.2 c4
      refine lv_aload_n hx hb dX2_betters_21 rfl (lv_at hl 0 rfl) ?_
      refine lv_iload_n hx hb dX2_betters_22 rfl (lv_at hl 2 rfl) ?_
      refine inv_q485 hC hA hS hl.1 hw ⟨Nat.le_of_ble_eq_true rfl, Nat.le_of_ble_eq_true rfl⟩ (Nat.le_of_ble_eq_true rfl) ⟨Nat.zero_le _, Nat.zero_le _⟩ dX2_betters_23 (fun r6 H locs hw hS => ?_)
      refine lv_if_eq (tgt := 32) hx hb dX2_betters_26 (by decide) (fun c7 => ?_) (fun c7 => ?_)
      · have hw := hw.1 c7
        refine lv_iconst (v := 1) hx hb dX2_betters_32 (by decide) ?_
        refine lv_istore_n (lv' := [(3, .int 1), (0, .ref (a 22)), (1, .int p1), (2, .int x2)]) hx hb dX2_betters_33 rfl hl (by decide) rfl (fun ls hl => ?_)
        obtain ⟨n, hw⟩ := hw
        exact k_X2_betters_34 hC hA hK2 _ _ _ n hS (lv_sub hl [1, 2, 3, 0] rfl) hw
      · have hw := hw.2 c7
        refine lv_goto (tgt := 84) hx hb dX2_betters_29 (by decide) ?_
        obtain ⟨v8, ev8⟩ : ∃ y : Int32, y = x2 + 1 := ⟨_, rfl⟩
        have hw := hw v8 ev8
        refine lv_iinc (v := v8) (lv' := [(2, .int v8), (0, .ref (a 22)), (1, .int p1)]) hx hb dX2_betters_84 hl (k := 2) rfl (by rw [ev8]; rfl) (by decide) rfl (fun ls hl => ?_)
        refine lv_goto (tgt := 2) hx hb dX2_betters_87 (by decide) ?_
        exact hK2 _ _ hw hS (lv_sub hl [1, 2, 0] rfl)
set_option maxHeartbeats 4000000 in
set_option maxRecDepth 100000 in
theorem k_X2_betters_2 {p : Program} {l : Launch} {e : Env} {s : State} {m : MethodId} {args : Array Value} {below : List Frame} {meth : Method} {c : Code} {D : va_G} {dT : Nat → ClassId} {a : Nat → Nat} {A : Nat → Prop} {vs0 : XE} {p1 : Int32} {post : Int32 → XS → Prop} (hC : wCx RX2 cX2_betters 5 (some .boolean) D dT p s m args meth c) (hA : wAz A s) : ∀ (X : XS) (x2 : Int32) (n : Nat), ∀ {vs : XE} {H : Heap} {locs : List Loc} {ls : Array Slot}, StX D dT a A s vs0 X vs H locs → lv_has ls 5 [(0, .ref (a 22)), (1, .int p1), (2, .int x2)] → w_X2_betters_2 p1 post n X x2 → W p l e rmX2_betters s m args below meth c H locs 0 0 (MQ below (va_Qi (fun r u9 => post r u9.1) (wB D (XW dT a) (XI vs0) A) A) args s 0 0 A) (F0 m 2 ls []) := by
  intro X x2 n
  induction n generalizing X x2 with
  | zero => intro vs H locs ls  hS hl hw; exact hw.elim
  | succ n ih =>
    intro vs H locs ls  hS hl hw
    exact k_X2_betters_2b hC hA (fun X x2 hk {vs} {H} {locs} {ls}  hS hl => ih X x2  hS hl hk) X x2  hS hl hw
set_option maxHeartbeats 4000000 in
set_option maxRecDepth 100000 in
theorem k_X2_betters_0 {p : Program} {l : Launch} {e : Env} {s : State} {m : MethodId} {args : Array Value} {below : List Frame} {meth : Method} {c : Code} {D : va_G} {dT : Nat → ClassId} {a : Nat → Nat} {A : Nat → Prop} {vs0 : XE} {p1 : Int32} {post : Int32 → XS → Prop} (hC : wCx RX2 cX2_betters 5 (some .boolean) D dT p s m args meth c) (hA : wAz A s) (X : XS) {vs : XE} {H : Heap} {locs : List Loc} {ls : Array Slot} (hS : StX D dT a A s vs0 X vs H locs) (hl : lv_has ls 5 [(0, .ref (a 22)), (1, .int p1)])  (hw : w_X2_betters p1 post X) : W p l e rmX2_betters s m args below meth c H locs 0 0 (MQ below (va_Qi (fun r u9 => post r u9.1) (wB D (XW dT a) (XI vs0) A) A) args s 0 0 A) (F0 m 0 ls []) := by
  have hx := hC.1
  have hb := hC.2.1
  have hown := hC.2.2.2.1
  have hts := hC.2.2.2.2.1
  unfold w_X2_betters at hw
  refine lv_iconst (v := 0) hx hb dX2_betters_0 (by decide) ?_
  refine lv_istore_n (lv' := [(2, .int 0), (0, .ref (a 22)), (1, .int p1)]) hx hb dX2_betters_1 rfl hl (by decide) rfl (fun ls hl => ?_)
  obtain ⟨n, hw⟩ := hw
  exact k_X2_betters_2 hC hA _ _ n hS (lv_sub hl [1, 2, 0] rfl) hw
abbrev v_X2_betters (X : XS) (p1 : Int32) (post : Int32 → XS → Prop) : Prop := w_X2_betters p1 post X
set_option maxHeartbeats 4000000 in
set_option maxRecDepth 100000 in
theorem met_X2_betters (l : Launch) (D : va_G) (dT : Nat → ClassId) (a : Nat → Nat) (sz : Nat) (X : XS) (vs0 : XE) (p1 : Int32) (post : Int32 → XS → Prop) (hw : v_X2_betters X p1 post) : Met l yX2_betters (ws_ yX2_betters cX2_betters 5 (some .boolean)) rmX2_betters (wPc D dT (XW dT a) (XI vs0) sz (X, vs0) [.ref (a 22), .int p1]) (va_Qi (fun r u9 => post r u9.1) (wB D (XW dT a) (XI vs0) (va_A ((XW dT a) (X, vs0)) sz)) (va_A ((XW dT a) (X, vs0)) sz)) 0 0 (va_A ((XW dT a) (X, vs0)) sz) :=
  wEnt (Q := fun A => (va_Qi (fun r u9 => post r u9.1) (wB D (XW dT a) (XI vs0) A) A)) (by decide) (Nat.le_of_ble_eq_true rfl) (fun p e s m below meth c A ls hC _ hA hS hl => k_X2_betters_0 hC hA _ hS hl hw) sz
theorem hd_X2_betters : yX2_betters.cls ≠ "java/lang/invoke/MethodHandle" ∧ yX2_betters.cls ≠ "java/lang/invoke/VarHandle" ∧ (parseMethodDescriptor yX2_betters.desc).map (fun d => d.parameters.length) = some 1 := by decide +kernel
section
variable {p : Program} {l : Launch} {e : Env} {R : Room} {s : State} {m : MethodId} {args : Array Value} {below : List Frame} {meth : Method} {c : Code} {H : Heap} {locs : List Loc} {cells slots : Nat} {Q : State → Prop} {cc : ByteArray} {nL : Nat} {ret : Option FieldType} {pc : Nat} {ls : Array Slot} {rest : List Value}
set_option maxHeartbeats 4000000 in
set_option maxRecDepth 100000 in
theorem inv_q481 {D : va_G} {dT : Nat → ClassId} {a : Nat → Nat} {A : Nat → Prop} {vs0 : XE} {vs : XE} {X : XS} {p1 : Int32} {post : Int32 → XS → Prop} (hC : wCx RX2 cc nL ret D dT p s m args meth c) (hA : wAz A s) (hS : StX D dT a A s vs0 X vs H locs) (hl : ls.size = nL) (hw : v_X2_betters X p1 post) (hR : rmX2_betters.frames + 1 ≤ R.frames ∧ 8 + (5 + 11) + rmX2_betters.locals ≤ R.locals) (hrest : (rest.map fun v => v.category).sum ≤ 8) (hf : cells ≤ R.cells ∧ slots ≤ R.slots) (hdg : decode cc pc = .ok (.invokevirtual 114, 3)) (kk : ∀ (r : Int32) (X1 : XS) (vs1 : XE) (H1 : Heap) (locs1 : List Loc), post r X1 → (∀ v ∈ vs, v ∈ vs1) → StX D dT a A s vs0 X1 vs1 H1 locs1 → W p l e R s m args below meth c H1 locs1 cells slots Q (F0 m (pc + 3) ls (.int r :: rest))) : W p l e R s m args below meth c H locs cells slots Q (F0 m pc ls (.int p1 :: .ref (a 22) :: rest)) := by
  exact wCallVi (As := [.int p1]) (rest := rest) (mc := 0) (ms := 0) 22 hC (met_X2_betters l D dT a H.size X vs p1 post hw) (lw_V q481 q483 qs17 q87 q484) ⟨⟨rfl, rfl⟩, hd_X2_betters, hR, hf⟩ XW_22 rfl rfl hA hS.self hl rfl hrest hdg (fun r u H1 locs1 hp hS1 => kk r u.1 u.2 H1 locs1 hp hS1.2.2.2.2 (hS.back hS1))
end
/-! LeastFrames_Sheet.lays -/
def w_X3_lays (j : Nat) (p1 : Int32) (p2 : Int64) (post : XS → Prop) (X : XS) : Prop :=
  ∃ o1, X_sr X j = some o1 ∧ ((∀ n2 f3, o1.2 = .inl (n2, f3) → (vp_in p1 n2 ∧ (∀ X4 : XS, X4 = sX_sr X (upO (X_sr X) j (some (o1.1, .inl (n2, upd f3 p1.toNatClampNeg p2.toInt32)))) → (post X4)))) ∧ (∀ n2 f3, o1.2 = .inr (n2, f3) → (∃ o5, X_sr X j = some o5 ∧ (∃ n6 f7, o5.2 = .inr (n6, f7) ∧ (vp_in p1 n6 ∧ (∀ X8 : XS, X8 = sX_sr X (upO (X_sr X) j (some (o5.1, .inr (n6, vp_updL f7 p1.toNatClampNeg p2)))) → (post X8)))))))
abbrev rmX3_lays : Room := { frames := 0, cells := 0, slots := 0, locals := 0 }
set_option maxHeartbeats 4000000 in
set_option maxRecDepth 100000 in
theorem k_X3_lays_0 {p : Program} {l : Launch} {e : Env} {s : State} {m : MethodId} {args : Array Value} {below : List Frame} {meth : Method} {c : Code} {D : va_G} {dT : Nat → ClassId} {a : Nat → Nat} {A : Nat → Prop} {vs0 : XE} {j : Nat} {p1 : Int32} {p2 : Int64} {post : XS → Prop} (hC : wCx RX3 cX3_lays 6 (none) D dT p s m args meth c) (hA : wAz A s) (hj : j < 4) (X : XS) {vs : XE} {H : Heap} {locs : List Loc} {ls : Array Slot} (hS : StX D dT a A s vs0 X vs H locs) (hl : lv_has ls 6 [(0, .ref (a (18 + j))), (1, .int p1), (2, .long p2)])  (hw : w_X3_lays j p1 p2 post X) : W p l e rmX3_lays s m args below meth c H locs 0 0 (MQ below (va_Qv (fun u9 => post u9.1) (wB D (XW dT a) (XI vs0) A) A) args s 0 0 A) (F0 m 0 ls []) := by
  have hx := hC.1
  have hb := hC.2.1
  have hown := hC.2.2.2.1
  have hts := hC.2.2.2.2.1
  unfold w_X3_lays at hw
  refine lv_aload_n hx hb dX3_lays_0 rfl (lv_at hl 0 rfl) ?_
  obtain ⟨o1, h_o1, hw⟩ := hw
  refine ld_q187 hC hS hj dX3_lays_1 ?_
  refine opt_ref h_o1 ?_
  refine lv_astore (lv' := [(5, .ref o1.1), (0, .ref (a (18 + j))), (1, .int p1), (2, .long p2)]) hx hb dX3_lays_4 hl (by decide) rfl (fun ls hl => ?_)
  refine lv_aload hx hb dX3_lays_6 (lv_at hl 0 rfl) ?_
  rcases kk_n2 : o1.2 with ⟨n2, f3⟩ | ⟨n2, f3⟩ <;> have k_n2 := kk_n2
  · have hw := hw.1 _ _ k_n2
    refine io_SRI hC hS hj h_o1 k_n2 (hC.2.2.2.2.1 _ q300) dX3_lays_8 ?_
    refine lv_if_eq (tgt := 30) hx hb dX3_lays_11 (by decide) (fun z => absurd z (by decide)) (fun _ => ?_)
    refine lv_aload hx hb dX3_lays_14 (lv_at hl 0 rfl) ?_
    refine cs_SRI hC hS hj h_o1 k_n2 (hC.2.2.2.2.1 _ q300) dX3_lays_16 ?_
    refine lv_astore (lv' := [(4, .ref o1.1), (5, .ref o1.1), (0, .ref (a (18 + j))), (1, .int p1), (2, .long p2)]) hx hb dX3_lays_19 hl (by decide) rfl (fun ls hl => ?_)
    refine lv_aload hx hb dX3_lays_21 (lv_at hl 0 rfl) ?_
    refine lv_iload_n hx hb dX3_lays_23 rfl (lv_at hl 3 rfl) ?_
    refine lv_lload_n hx hb dX3_lays_24 rfl (lv_at hl 4 rfl) ?_
    refine lv_l2i hx hb dX3_lays_25 rfl ?_
    have hi := hw.1
    have hw := hw.2
    refine as_SRI hC hS hj h_o1 k_n2 hi dX3_lays_26 (fun H locs hS => ?_)
    have hw := hw (sX_sr X (upO (X_sr X) j (some (o1.1, .inl (n2, upd f3 p1.toNatClampNeg p2.toInt32))))) rfl
    generalize sX_sr X (upO (X_sr X) j (some (o1.1, .inl (n2, upd f3 p1.toNatClampNeg p2.toInt32)))) = X4 at hS hw
    refine lv_goto (tgt := 40) hx hb dX3_lays_27 (by decide) ?_
    exact wRetv hC hS hw (Nat.le_refl _) (Nat.le_refl _) dX3_lays_40
  · have hw := hw.2 _ _ k_n2
    refine io_SRJ hC hS hj h_o1 k_n2 (hC.2.2.2.2.1 _ q300) dX3_lays_8 ?_
    refine lv_if_eq (tgt := 30) hx hb dX3_lays_11 (by decide) (fun _ => ?_) (fun z => absurd rfl z)
    refine lv_aload_n hx hb dX3_lays_30 rfl (lv_at hl 1 rfl) ?_
    obtain ⟨o5, h_o5, hw⟩ := hw
    refine ld_q187 hC hS hj dX3_lays_31 ?_
    refine opt_ref h_o5 ?_
    obtain ⟨n6, f7, k_n6, hw⟩ := hw
    refine cs_SRJ hC hS hj h_o5 k_n6 (hC.2.2.2.2.1 _ q301) dX3_lays_34 ?_
    refine lv_iload_n hx hb dX3_lays_37 rfl (lv_at hl 2 rfl) ?_
    refine lv_lload_n hx hb dX3_lays_38 rfl (lv_at hl 3 rfl) ?_
    have hi := hw.1
    have hw := hw.2
    refine as_SRJ hC hS hj h_o5 k_n6 hi dX3_lays_39 (fun H locs hS => ?_)
    have hw := hw (sX_sr X (upO (X_sr X) j (some (o5.1, .inr (n6, vp_updL f7 p1.toNatClampNeg p2))))) rfl
    generalize sX_sr X (upO (X_sr X) j (some (o5.1, .inr (n6, vp_updL f7 p1.toNatClampNeg p2)))) = X8 at hS hw
    exact wRetv hC hS hw (Nat.le_refl _) (Nat.le_refl _) dX3_lays_40
abbrev v_X3_lays (X : XS) (j : Nat) (p1 : Int32) (p2 : Int64) (post : XS → Prop) : Prop := w_X3_lays j p1 p2 post X
set_option maxHeartbeats 4000000 in
set_option maxRecDepth 100000 in
theorem met_X3_lays (l : Launch) (D : va_G) (dT : Nat → ClassId) (a : Nat → Nat) (sz : Nat) (X : XS) (vs0 : XE) (j : Nat) (p1 : Int32) (p2 : Int64) (hj : j < 4) (post : XS → Prop) (hw : v_X3_lays X j p1 p2 post) : Met l yX3_lays (ws_ yX3_lays cX3_lays 6 (none)) rmX3_lays (wPc D dT (XW dT a) (XI vs0) sz (X, vs0) [.ref (a (18 + j)), .int p1, .long p2]) (va_Qv (fun u9 => post u9.1) (wB D (XW dT a) (XI vs0) (va_A ((XW dT a) (X, vs0)) sz)) (va_A ((XW dT a) (X, vs0)) sz)) 0 0 (va_A ((XW dT a) (X, vs0)) sz) :=
  wEnt (Q := fun A => (va_Qv (fun u9 => post u9.1) (wB D (XW dT a) (XI vs0) A) A)) (by decide) (Nat.le_of_ble_eq_true rfl) (fun p e s m below meth c A ls hC _ hA hS hl => k_X3_lays_0 hC hA hj _ hS hl hw) sz
theorem hd_X3_lays : yX3_lays.cls ≠ "java/lang/invoke/MethodHandle" ∧ yX3_lays.cls ≠ "java/lang/invoke/VarHandle" ∧ (parseMethodDescriptor yX3_lays.desc).map (fun d => d.parameters.length) = some 2 := by decide +kernel
section
variable {p : Program} {l : Launch} {e : Env} {R : Room} {s : State} {m : MethodId} {args : Array Value} {below : List Frame} {meth : Method} {c : Code} {H : Heap} {locs : List Loc} {cells slots : Nat} {Q : State → Prop} {cc : ByteArray} {nL : Nat} {ret : Option FieldType} {pc : Nat} {ls : Array Slot} {rest : List Value}
set_option maxHeartbeats 4000000 in
set_option maxRecDepth 100000 in
theorem inv_q899 {D : va_G} {dT : Nat → ClassId} {a : Nat → Nat} {A : Nat → Prop} {vs0 : XE} {vs : XE} {X : XS} {j : Nat} {p1 : Int32} {p2 : Int64} {post : XS → Prop} (hC : wCx RX0 cc nL ret D dT p s m args meth c) (hA : wAz A s) (hS : StX D dT a A s vs0 X vs H locs) (hj : j < 4) (hl : ls.size = nL) (hw : v_X3_lays X j p1 p2 post) (hR : rmX3_lays.frames + 1 ≤ R.frames ∧ 8 + (6 + 11) + rmX3_lays.locals ≤ R.locals) (hrest : (rest.map fun v => v.category).sum ≤ 8) (hf : cells ≤ R.cells ∧ slots ≤ R.slots) (hdg : decode cc pc = .ok (.invokevirtual 355, 3)) (kk : ∀ (X1 : XS) (vs1 : XE) (H1 : Heap) (locs1 : List Loc), post X1 → (∀ v ∈ vs, v ∈ vs1) → StX D dT a A s vs0 X1 vs1 H1 locs1 → W p l e R s m args below meth c H1 locs1 cells slots Q (F0 m (pc + 3) ls rest)) : W p l e R s m args below meth c H locs cells slots Q (F0 m pc ls (.long p2 :: .int p1 :: .ref (a (18 + j)) :: rest)) := by
  exact wCallVv (As := [.int p1, .long p2]) (rest := rest) (mc := 0) (ms := 0) (18 + j) hC (met_X3_lays l D dT a H.size X vs j p1 p2 hj post hw) (lw_V q899 q900 q901 q88 q902) ⟨⟨rfl, rfl⟩, hd_X3_lays, hR, hf⟩ (XW_SH hj) rfl rfl hA hS.self hl rfl hrest hdg (fun  u H1 locs1 hp hS1 => kk  u.1 u.2 H1 locs1 hp hS1.2.2.2.2 (hS.back hS1))
end
/-! LeastFrames_Volume.isLess -/
def w_X6_isLess (X : XS) (v : Vol) (w1 : Vol) (post : Int32 → Prop) : Prop :=
  ((w1.2.1 * v.2.2) ≤ (v.2.1 * w1.2.2) → (post (0 : Int32))) ∧ (¬ (w1.2.1 * v.2.2) ≤ (v.2.1 * w1.2.2) → (post (1 : Int32)))
abbrev rmX6_isLess : Room := { frames := 0, cells := 0, slots := 0, locals := 0 }
set_option maxHeartbeats 4000000 in
set_option maxRecDepth 100000 in
theorem k_X6_isLess_0 {p : Program} {l : Launch} {e : Env} {s : State} {m : MethodId} {args : Array Value} {below : List Frame} {meth : Method} {c : Code} {D : va_G} {dT : Nat → ClassId} {a : Nat → Nat} {A : Nat → Prop} {vs0 : XE} {X : XS} {v : Vol} {w1 : Vol} {post : Int32 → Prop} (hC : wCx RX6 cX6_isLess 2 (some .boolean) D dT p s m args meth c) (hA : wAz A s) (hv : volC v ∈ vs0) (hw1 : volC w1 ∈ vs0) {H : Heap} {locs : List Loc} {ls : Array Slot} (hS : StX D dT a A s vs0 X vs0 H locs) (hl : lv_has ls 2 [(0, .ref v.1), (1, .ref w1.1)])  (hw : w_X6_isLess X v w1 post) : W p l e rmX6_isLess s m args below meth c H locs 0 0 (MQ below (va_Qi (fun r u9 => u9 = (X, vs0) ∧ post r) (wB D (XW dT a) (XI vs0) A) A) args s 0 0 A) (F0 m 0 ls []) := by
  have hx := hC.1
  have hb := hC.2.1
  have hown := hC.2.2.2.1
  have hts := hC.2.2.2.2.1
  unfold w_X6_isLess at hw
  refine lv_aload_n hx hb dX6_isLess_0 rfl (lv_at hl 0 rfl) ?_
  refine ld_q514 hC hS hv dX6_isLess_1 ?_
  refine lv_aload_n hx hb dX6_isLess_4 rfl (lv_at hl 1 rfl) ?_
  refine ld_q516 hC hS hw1 dX6_isLess_5 ?_
  refine lv_lmul hx hb dX6_isLess_8 ?_
  refine lv_aload_n hx hb dX6_isLess_9 rfl (lv_at hl 1 rfl) ?_
  refine ld_q514 hC hS hw1 dX6_isLess_10 ?_
  refine lv_aload_n hx hb dX6_isLess_13 rfl (lv_at hl 0 rfl) ?_
  refine ld_q516 hC hS hv dX6_isLess_14 ?_
  refine lv_lmul hx hb dX6_isLess_17 ?_
  refine lc_if_ge (tgt := 26) hx hb dX6_isLess_18 dX6_isLess_19 (by decide) (fun c1 => ?_) (fun c1 => ?_)
  · have hw := hw.1 c1
    refine lv_iconst (v := 0) hx hb dX6_isLess_26 (by decide) ?_
    exact wRetz hC hS (by decide) ⟨rfl, hw⟩ (Nat.le_refl _) (Nat.le_refl _) dX6_isLess_27
  · have hw := hw.2 c1
    refine lv_iconst (v := 1) hx hb dX6_isLess_22 (by decide) ?_
    refine lv_goto (tgt := 27) hx hb dX6_isLess_23 (by decide) ?_
    exact wRetz hC hS (by decide) ⟨rfl, hw⟩ (Nat.le_refl _) (Nat.le_refl _) dX6_isLess_27
abbrev v_X6_isLess (X : XS) (v : Vol) (w1 : Vol) (post : Int32 → Prop) : Prop := w_X6_isLess X v w1 post
set_option maxHeartbeats 4000000 in
set_option maxRecDepth 100000 in
theorem met_X6_isLess (l : Launch) (D : va_G) (dT : Nat → ClassId) (a : Nat → Nat) (sz : Nat) (X : XS) (vs0 : XE) (v : Vol) (w1 : Vol) (hv : volC v ∈ vs0) (hw1 : volC w1 ∈ vs0) (post : Int32 → Prop) (hw : v_X6_isLess X v w1 post) : Met l yX6_isLess (ws_ yX6_isLess cX6_isLess 2 (some .boolean)) rmX6_isLess (wPc D dT (XW dT a) (XI vs0) sz (X, vs0) [.ref v.1, .ref w1.1]) (va_Qi (fun r u9 => u9 = (X, vs0) ∧ post r) (wB D (XW dT a) (XI vs0) (va_A ((XW dT a) (X, vs0)) sz)) (va_A ((XW dT a) (X, vs0)) sz)) 0 0 (va_A ((XW dT a) (X, vs0)) sz) :=
  wEnt (Q := fun A => (va_Qi (fun r u9 => u9 = (X, vs0) ∧ post r) (wB D (XW dT a) (XI vs0) A) A)) (by decide) (Nat.le_of_ble_eq_true rfl) (fun p e s m below meth c A ls hC _ hA hS hl => k_X6_isLess_0 hC hA hv hw1 hS hl hw) sz
theorem hd_X6_isLess : yX6_isLess.cls ≠ "java/lang/invoke/MethodHandle" ∧ yX6_isLess.cls ≠ "java/lang/invoke/VarHandle" ∧ (parseMethodDescriptor yX6_isLess.desc).map (fun d => d.parameters.length) = some 1 := by decide +kernel
section
variable {p : Program} {l : Launch} {e : Env} {R : Room} {s : State} {m : MethodId} {args : Array Value} {below : List Frame} {meth : Method} {c : Code} {H : Heap} {locs : List Loc} {cells slots : Nat} {Q : State → Prop} {cc : ByteArray} {nL : Nat} {ret : Option FieldType} {pc : Nat} {ls : Array Slot} {rest : List Value}
set_option maxHeartbeats 4000000 in
set_option maxRecDepth 100000 in
theorem inv_q527 {D : va_G} {dT : Nat → ClassId} {a : Nat → Nat} {A : Nat → Prop} {vs0 : XE} {vs : XE} {X : XS} {v : Vol} {w1 : Vol} {post : Int32 → Prop} (hC : wCx RX0 cc nL ret D dT p s m args meth c) (hA : wAz A s) (hS : StX D dT a A s vs0 X vs H locs) (hv : volC v ∈ vs) (hw1 : volC w1 ∈ vs) (hl : ls.size = nL) (hw : v_X6_isLess X v w1 post) (hR : rmX6_isLess.frames + 1 ≤ R.frames ∧ 8 + (2 + 11) + rmX6_isLess.locals ≤ R.locals) (hrest : (rest.map fun v => v.category).sum ≤ 8) (hf : cells ≤ R.cells ∧ slots ≤ R.slots) (hdg : decode cc pc = .ok (.invokevirtual 105, 3)) (kk : ∀ (r : Int32) (H1 : Heap) (locs1 : List Loc), post r → StX D dT a A s vs0 X vs H1 locs1 → W p l e R s m args below meth c H1 locs1 cells slots Q (F0 m (pc + 3) ls (.int r :: rest))) : W p l e R s m args below meth c H locs cells slots Q (F0 m pc ls (.ref w1.1 :: .ref v.1 :: rest)) := by
  obtain ⟨k9, hk9⟩ := XW_vol (dT := dT) (a := a) (u := (X, vs)) hv
  exact wCallVi (As := [.ref w1.1]) (rest := rest) (mc := 0) (ms := 0) k9 hC (met_X6_isLess l D dT a H.size X vs v w1 hv hw1 post hw) (lw_V q527 q528 q529 q94 q530) ⟨⟨rfl, rfl⟩, hd_X6_isLess, hR, hf⟩ hk9 rfl rfl hA hS.self hl rfl hrest hdg (fun r u H1 locs1 hp hS1 => kk r H1 locs1 hp.2 (by have h9 := hS.back hS1; rw [hp.1] at h9; exact h9))
end
