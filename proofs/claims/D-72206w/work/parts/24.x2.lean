/-! LeastFrames.stretched -/
def w_X0_stretched_4b (X : XS) (p1 : Int32) (K4 : Int32 → Int32 → Prop) (post : Int32 → Prop) (x2 : Int32) (x3 : Int32) : Prop :=
  ((2 : Int32) ≤ x3 → (post x2)) ∧ (¬ (2 : Int32) ≤ x3 → (v_X0_greater p1 (fun r2 => vp_in r2 5 ∧ (v_X1_shift X r2.toNatClampNeg x3 (fun r4 => v_X0_lesser p1 (fun r5 => vp_in r5 5 ∧ (v_X1_shift X r5.toNatClampNeg x3 (fun r7 => v_X0_far X p1 x3 (fun r8 => ∀ v9 : Int32, v9 = x2 + ((r4 - r7) * r8) → (∀ v10 : Int32, v10 = x3 + 1 → (K4 v9 v10)))))))))))
def w_X0_stretched_4 (X : XS) (p1 : Int32) (post : Int32 → Prop) : Nat → Int32 → Int32 → Prop
  | 0, _, _ => False
  | n + 1, x2, x3 => w_X0_stretched_4b X p1 (w_X0_stretched_4 X p1 post n) post x2 x3
def w_X0_stretched (X : XS) (p1 : Int32) (post : Int32 → Prop) : Prop :=
  ∃ n, w_X0_stretched_4 X p1 post n 0 0
abbrev rmX0_stretched : Room := { frames := 3, cells := 0, slots := 0, locals := 64 }
set_option maxHeartbeats 4000000 in
set_option maxRecDepth 100000 in
theorem k_X0_stretched_4b {p : Program} {l : Launch} {e : Env} {s : State} {m : MethodId} {args : Array Value} {below : List Frame} {meth : Method} {c : Code} {D : va_G} {dT : Nat → ClassId} {a : Nat → Nat} {A : Nat → Prop} {vs0 : XE} {X : XS} {p1 : Int32} {K4 : Int32 → Int32 → Prop} {post : Int32 → Prop} (hC : wCx RX0 cX0_stretched 4 (some .int) D dT p s m args meth c) (hA : wAz A s) (hK4 : ∀ (x2 : Int32) (x3 : Int32), K4 x2 x3 → ∀ {H : Heap} {locs : List Loc} {ls : Array Slot}, StX D dT a A s vs0 X vs0 H locs → lv_has ls 4 [(0, .ref (a 0)), (1, .int p1), (2, .int x2), (3, .int x3)] → W p l e rmX0_stretched s m args below meth c H locs 0 0 (MQ below (va_Qi (fun r u9 => u9 = (X, vs0) ∧ post r) (wB D (XW dT a) (XI vs0) A) A) args s 0 0 A) (F0 m 4 ls [])) (x2 : Int32) (x3 : Int32) {H : Heap} {locs : List Loc} {ls : Array Slot} (hS : StX D dT a A s vs0 X vs0 H locs) (hl : lv_has ls 4 [(0, .ref (a 0)), (1, .int p1), (2, .int x2), (3, .int x3)])  (hw : w_X0_stretched_4b X p1 K4 post x2 x3) : W p l e rmX0_stretched s m args below meth c H locs 0 0 (MQ below (va_Qi (fun r u9 => u9 = (X, vs0) ∧ post r) (wB D (XW dT a) (XI vs0) A) A) args s 0 0 A) (F0 m 4 ls []) := by
  have hx := hC.1
  have hb := hC.2.1
  have hown := hC.2.2.2.1
  have hts := hC.2.2.2.2.1
  unfold w_X0_stretched_4b at hw
  refine lv_iload_n hx hb dX0_stretched_4 rfl (lv_at hl 3 rfl) ?_
  refine lv_iconst (v := 2) hx hb dX0_stretched_5 (by decide) ?_
  refine lv_icmp_ge (tgt := 52) hx hb dX0_stretched_6 (by decide) (fun c1 => ?_) (fun c1 => ?_)
  · have hw := hw.1 c1
    refine lv_iload_n hx hb dX0_stretched_52 rfl (lv_at hl 2 rfl) ?_
    exact wReti hC hS ⟨rfl, hw⟩ (Nat.le_refl _) (Nat.le_refl _) dX0_stretched_53
  · have hw := hw.2 c1
    refine lv_iload_n hx hb dX0_stretched_9 rfl (lv_at hl 2 rfl) ?_
    refine lv_aload_n hx hb dX0_stretched_10 rfl (lv_at hl 0 rfl) ?_
    refine ld_q193 hC hS dX0_stretched_11 ?_
    refine lv_iload_n hx hb dX0_stretched_14 rfl (lv_at hl 1 rfl) ?_
    refine inv_q326 hC hS hl.1 hw ⟨Nat.le_of_ble_eq_true rfl, Nat.le_of_ble_eq_true rfl⟩ (Nat.le_of_ble_eq_true rfl) ⟨Nat.zero_le _, Nat.zero_le _⟩ dX0_stretched_15 (fun r2 H locs hw hS => ?_)
    have hi3 := hw.1
    have hw := hw.2
    refine aa_PA hC hS hi3 dX0_stretched_18 ?_
    refine lv_iload_n hx hb dX0_stretched_19 rfl (lv_at hl 3 rfl) ?_
    refine inv_q689 hC hA hS (vp_lt hi3) hl.1 hw ⟨Nat.le_of_ble_eq_true rfl, Nat.le_of_ble_eq_true rfl⟩ (Nat.le_of_ble_eq_true rfl) ⟨Nat.zero_le _, Nat.zero_le _⟩ dX0_stretched_20 (fun r4 H locs hw hS => ?_)
    refine lv_aload_n hx hb dX0_stretched_23 rfl (lv_at hl 0 rfl) ?_
    refine ld_q193 hC hS dX0_stretched_24 ?_
    refine lv_iload_n hx hb dX0_stretched_27 rfl (lv_at hl 1 rfl) ?_
    refine inv_q323 hC hS hl.1 hw ⟨Nat.le_of_ble_eq_true rfl, Nat.le_of_ble_eq_true rfl⟩ (Nat.le_of_ble_eq_true rfl) ⟨Nat.zero_le _, Nat.zero_le _⟩ dX0_stretched_28 (fun r5 H locs hw hS => ?_)
    have hi6 := hw.1
    have hw := hw.2
    refine aa_PA hC hS hi6 dX0_stretched_31 ?_
    refine lv_iload_n hx hb dX0_stretched_32 rfl (lv_at hl 3 rfl) ?_
    refine inv_q689 hC hA hS (vp_lt hi6) hl.1 hw ⟨Nat.le_of_ble_eq_true rfl, Nat.le_of_ble_eq_true rfl⟩ (Nat.le_of_ble_eq_true rfl) ⟨Nat.zero_le _, Nat.zero_le _⟩ dX0_stretched_33 (fun r7 H locs hw hS => ?_)
    refine lv_isub hx hb dX0_stretched_36 ?_
    refine lv_aload_n hx hb dX0_stretched_37 rfl (lv_at hl 0 rfl) ?_
    refine lv_iload_n hx hb dX0_stretched_38 rfl (lv_at hl 1 rfl) ?_
    refine lv_iload_n hx hb dX0_stretched_39 rfl (lv_at hl 3 rfl) ?_
    refine inv_q333 hC hA hS hl.1 hw ⟨Nat.le_of_ble_eq_true rfl, Nat.le_of_ble_eq_true rfl⟩ (Nat.le_of_ble_eq_true rfl) ⟨Nat.zero_le _, Nat.zero_le _⟩ dX0_stretched_40 (fun r8 H locs hw hS => ?_)
    refine lv_imul hx hb dX0_stretched_43 ?_
    refine lv_iadd hx hb dX0_stretched_44 ?_
    refine lv_topi (fun v9 ev9 => ?_)
    have hw := hw v9 ev9
    refine lv_istore_n (lv' := [(2, .int v9), (0, .ref (a 0)), (1, .int p1), (3, .int x3)]) hx hb dX0_stretched_45 rfl hl (by decide) rfl (fun ls hl => ?_)
    obtain ⟨v10, ev10⟩ : ∃ y : Int32, y = x3 + 1 := ⟨_, rfl⟩
    have hw := hw v10 ev10
    refine lv_iinc (v := v10) (lv' := [(3, .int v10), (2, .int v9), (0, .ref (a 0)), (1, .int p1)]) hx hb dX0_stretched_46 hl (k := 3) rfl (by rw [ev10]; rfl) (by decide) rfl (fun ls hl => ?_)
    refine lv_goto (tgt := 4) hx hb dX0_stretched_49 (by decide) ?_
    exact hK4 _ _ hw hS (lv_sub hl [2, 3, 1, 0] rfl)
set_option maxHeartbeats 4000000 in
set_option maxRecDepth 100000 in
theorem k_X0_stretched_4 {p : Program} {l : Launch} {e : Env} {s : State} {m : MethodId} {args : Array Value} {below : List Frame} {meth : Method} {c : Code} {D : va_G} {dT : Nat → ClassId} {a : Nat → Nat} {A : Nat → Prop} {vs0 : XE} {X : XS} {p1 : Int32} {post : Int32 → Prop} (hC : wCx RX0 cX0_stretched 4 (some .int) D dT p s m args meth c) (hA : wAz A s) : ∀ (x2 : Int32) (x3 : Int32) (n : Nat), ∀ {H : Heap} {locs : List Loc} {ls : Array Slot}, StX D dT a A s vs0 X vs0 H locs → lv_has ls 4 [(0, .ref (a 0)), (1, .int p1), (2, .int x2), (3, .int x3)] → w_X0_stretched_4 X p1 post n x2 x3 → W p l e rmX0_stretched s m args below meth c H locs 0 0 (MQ below (va_Qi (fun r u9 => u9 = (X, vs0) ∧ post r) (wB D (XW dT a) (XI vs0) A) A) args s 0 0 A) (F0 m 4 ls []) := by
  intro x2 x3 n
  induction n generalizing x2 x3 with
  | zero => intro H locs ls  hS hl hw; exact hw.elim
  | succ n ih =>
    intro H locs ls  hS hl hw
    exact k_X0_stretched_4b hC hA (fun x2 x3 hk {H} {locs} {ls}  hS hl => ih x2 x3  hS hl hk) x2 x3  hS hl hw
set_option maxHeartbeats 4000000 in
set_option maxRecDepth 100000 in
theorem k_X0_stretched_0 {p : Program} {l : Launch} {e : Env} {s : State} {m : MethodId} {args : Array Value} {below : List Frame} {meth : Method} {c : Code} {D : va_G} {dT : Nat → ClassId} {a : Nat → Nat} {A : Nat → Prop} {vs0 : XE} {X : XS} {p1 : Int32} {post : Int32 → Prop} (hC : wCx RX0 cX0_stretched 4 (some .int) D dT p s m args meth c) (hA : wAz A s) {H : Heap} {locs : List Loc} {ls : Array Slot} (hS : StX D dT a A s vs0 X vs0 H locs) (hl : lv_has ls 4 [(0, .ref (a 0)), (1, .int p1)])  (hw : w_X0_stretched X p1 post) : W p l e rmX0_stretched s m args below meth c H locs 0 0 (MQ below (va_Qi (fun r u9 => u9 = (X, vs0) ∧ post r) (wB D (XW dT a) (XI vs0) A) A) args s 0 0 A) (F0 m 0 ls []) := by
  have hx := hC.1
  have hb := hC.2.1
  have hown := hC.2.2.2.1
  have hts := hC.2.2.2.2.1
  unfold w_X0_stretched at hw
  refine lv_iconst (v := 0) hx hb dX0_stretched_0 (by decide) ?_
  refine lv_istore_n (lv' := [(2, .int 0), (0, .ref (a 0)), (1, .int p1)]) hx hb dX0_stretched_1 rfl hl (by decide) rfl (fun ls hl => ?_)
  refine lv_iconst (v := 0) hx hb dX0_stretched_2 (by decide) ?_
  refine lv_istore_n (lv' := [(3, .int 0), (2, .int 0), (0, .ref (a 0)), (1, .int p1)]) hx hb dX0_stretched_3 rfl hl (by decide) rfl (fun ls hl => ?_)
  obtain ⟨n, hw⟩ := hw
  exact k_X0_stretched_4 hC hA _ _ n hS (lv_sub hl [2, 3, 1, 0] rfl) hw
abbrev v_X0_stretched (X : XS) (p1 : Int32) (post : Int32 → Prop) : Prop := w_X0_stretched X p1 post
set_option maxHeartbeats 4000000 in
set_option maxRecDepth 100000 in
theorem met_X0_stretched (l : Launch) (D : va_G) (dT : Nat → ClassId) (a : Nat → Nat) (sz : Nat) (X : XS) (vs0 : XE) (p1 : Int32) (post : Int32 → Prop) (hw : v_X0_stretched X p1 post) : Met l yX0_stretched (ws_ yX0_stretched cX0_stretched 4 (some .int)) rmX0_stretched (wPc D dT (XW dT a) (XI vs0) sz (X, vs0) [.ref (a 0), .int p1]) (va_Qi (fun r u9 => u9 = (X, vs0) ∧ post r) (wB D (XW dT a) (XI vs0) (va_A ((XW dT a) (X, vs0)) sz)) (va_A ((XW dT a) (X, vs0)) sz)) 0 0 (va_A ((XW dT a) (X, vs0)) sz) :=
  wEnt (Q := fun A => (va_Qi (fun r u9 => u9 = (X, vs0) ∧ post r) (wB D (XW dT a) (XI vs0) A) A)) (by decide) (Nat.le_of_ble_eq_true rfl) (fun p e s m below meth c A ls hC _ hA hS hl => k_X0_stretched_0 hC hA  hS hl hw) sz
theorem hd_X0_stretched : yX0_stretched.cls ≠ "java/lang/invoke/MethodHandle" ∧ yX0_stretched.cls ≠ "java/lang/invoke/VarHandle" ∧ (parseMethodDescriptor yX0_stretched.desc).map (fun d => d.parameters.length) = some 1 := by decide +kernel
section
variable {p : Program} {l : Launch} {e : Env} {R : Room} {s : State} {m : MethodId} {args : Array Value} {below : List Frame} {meth : Method} {c : Code} {H : Heap} {locs : List Loc} {cells slots : Nat} {Q : State → Prop} {cc : ByteArray} {nL : Nat} {ret : Option FieldType} {pc : Nat} {ls : Array Slot} {rest : List Value}
set_option maxHeartbeats 4000000 in
set_option maxRecDepth 100000 in
theorem inv_q685 {D : va_G} {dT : Nat → ClassId} {a : Nat → Nat} {A : Nat → Prop} {vs0 : XE} {vs : XE} {X : XS} {p1 : Int32} {post : Int32 → Prop} (hC : wCx RX0 cc nL ret D dT p s m args meth c) (hA : wAz A s) (hS : StX D dT a A s vs0 X vs H locs) (hl : ls.size = nL) (hw : v_X0_stretched X p1 post) (hR : rmX0_stretched.frames + 1 ≤ R.frames ∧ 8 + (4 + 11) + rmX0_stretched.locals ≤ R.locals) (hrest : (rest.map fun v => v.category).sum ≤ 8) (hf : cells ≤ R.cells ∧ slots ≤ R.slots) (hdg : decode cc pc = .ok (.invokevirtual 284, 3)) (kk : ∀ (r : Int32) (H1 : Heap) (locs1 : List Loc), post r → StX D dT a A s vs0 X vs H1 locs1 → W p l e R s m args below meth c H1 locs1 cells slots Q (F0 m (pc + 3) ls (.int r :: rest))) : W p l e R s m args below meth c H locs cells slots Q (F0 m pc ls (.int p1 :: .ref (a 0) :: rest)) := by
  exact wCallVi (As := [.int p1]) (rest := rest) (mc := 0) (ms := 0) 0 hC (met_X0_stretched l D dT a H.size X vs p1 post hw) (lw_V q685 q687 qs34 q85 q688) ⟨⟨rfl, rfl⟩, hd_X0_stretched, hR, hf⟩ XW_0 rfl rfl hA hS.self hl rfl hrest hdg (fun r u H1 locs1 hp hS1 => kk r H1 locs1 hp.2 (by have h9 := hS.back hS1; rw [hp.1] at h9; exact h9))
end
/-! LeastFrames.stretch -/
def w_X0_stretch (X : XS) (p1 : Int32) (p2 : Int32) (post : Int64 → Prop) : Prop :=
  v_X0_isPair X p1 (fun r1 => (r1 = (0 : Int32) → (v_X0_no ((-2) : Int32) (fun r3 => post r3))) ∧ (¬ r1 = (0 : Int32) → (v_X0_isTwo p2 (fun r4 => (r4 = (0 : Int32) → (v_X0_no ((-2) : Int32) (fun r6 => post r6))) ∧ (¬ r4 = (0 : Int32) → (v_X0_stretched X p1 (fun r7 => v_X0_part r7.toInt64 (12 : Int64) p2 (fun r8 => post r8))))))))
abbrev rmX0_stretch : Room := { frames := 4, cells := 0, slots := 0, locals := 87 }
set_option maxHeartbeats 4000000 in
set_option maxRecDepth 100000 in
theorem k_X0_stretch_0 {p : Program} {l : Launch} {e : Env} {s : State} {m : MethodId} {args : Array Value} {below : List Frame} {meth : Method} {c : Code} {D : va_G} {dT : Nat → ClassId} {a : Nat → Nat} {A : Nat → Prop} {vs0 : XE} {X : XS} {p1 : Int32} {p2 : Int32} {post : Int64 → Prop} (hC : wCx RX0 cX0_stretch 3 (some .long) D dT p s m args meth c) (hA : wAz A s) {H : Heap} {locs : List Loc} {ls : Array Slot} (hS : StX D dT a A s vs0 X vs0 H locs) (hl : lv_has ls 3 [(0, .ref (a 0)), (1, .int p1), (2, .int p2)])  (hw : w_X0_stretch X p1 p2 post) : W p l e rmX0_stretch s m args below meth c H locs 0 0 (MQ below (va_Ql (fun r u9 => u9 = (X, vs0) ∧ post r) (wB D (XW dT a) (XI vs0) A) A) args s 0 0 A) (F0 m 0 ls []) := by
  have hx := hC.1
  have hb := hC.2.1
  have hown := hC.2.2.2.1
  have hts := hC.2.2.2.2.1
  unfold w_X0_stretch at hw
  refine lv_aload_n hx hb dX0_stretch_0 rfl (lv_at hl 0 rfl) ?_
  refine lv_iload_n hx hb dX0_stretch_1 rfl (lv_at hl 1 rfl) ?_
  refine inv_q277 hC hA hS hl.1 hw ⟨Nat.le_of_ble_eq_true rfl, Nat.le_of_ble_eq_true rfl⟩ (Nat.le_of_ble_eq_true rfl) ⟨Nat.zero_le _, Nat.zero_le _⟩ dX0_stretch_2 (fun r1 H locs hw hS => ?_)
  refine lv_if_eq (tgt := 31) hx hb dX0_stretch_5 (by decide) (fun c2 => ?_) (fun c2 => ?_)
  · have hw := hw.1 c2
    refine lv_bipush (v := (-2)) hx hb dX0_stretch_31 (by decide) ?_
    refine inv_q348 hC hS hl.1 hw ⟨Nat.le_of_ble_eq_true rfl, Nat.le_of_ble_eq_true rfl⟩ (Nat.le_of_ble_eq_true rfl) ⟨Nat.zero_le _, Nat.zero_le _⟩ dX0_stretch_33 (fun r3 H locs hw hS => ?_)
    exact wRetl hC hS ⟨rfl, hw⟩ (Nat.le_refl _) (Nat.le_refl _) dX0_stretch_36
  · have hw := hw.2 c2
    refine lv_iload_n hx hb dX0_stretch_8 rfl (lv_at hl 2 rfl) ?_
    refine inv_q267 hC hS hl.1 hw ⟨Nat.le_of_ble_eq_true rfl, Nat.le_of_ble_eq_true rfl⟩ (Nat.le_of_ble_eq_true rfl) ⟨Nat.zero_le _, Nat.zero_le _⟩ dX0_stretch_9 (fun r4 H locs hw hS => ?_)
    refine lv_if_eq (tgt := 31) hx hb dX0_stretch_12 (by decide) (fun c5 => ?_) (fun c5 => ?_)
    · have hw := hw.1 c5
      refine lv_bipush (v := (-2)) hx hb dX0_stretch_31 (by decide) ?_
      refine inv_q348 hC hS hl.1 hw ⟨Nat.le_of_ble_eq_true rfl, Nat.le_of_ble_eq_true rfl⟩ (Nat.le_of_ble_eq_true rfl) ⟨Nat.zero_le _, Nat.zero_le _⟩ dX0_stretch_33 (fun r6 H locs hw hS => ?_)
      exact wRetl hC hS ⟨rfl, hw⟩ (Nat.le_refl _) (Nat.le_refl _) dX0_stretch_36
    · have hw := hw.2 c5
      refine lv_aload_n hx hb dX0_stretch_15 rfl (lv_at hl 0 rfl) ?_
      refine lv_iload_n hx hb dX0_stretch_16 rfl (lv_at hl 1 rfl) ?_
      refine inv_q685 hC hA hS hl.1 hw ⟨Nat.le_of_ble_eq_true rfl, Nat.le_of_ble_eq_true rfl⟩ (Nat.le_of_ble_eq_true rfl) ⟨Nat.zero_le _, Nat.zero_le _⟩ dX0_stretch_17 (fun r7 H locs hw hS => ?_)
      refine lv_i2l hx hb dX0_stretch_20 rfl ?_
      refine lv_ldc2 (v := 12) hx hb hown (hts _ q694) dX0_stretch_21 ?_
      refine lv_iload_n hx hb dX0_stretch_24 rfl (lv_at hl 2 rfl) ?_
      refine inv_q555 hC hS hl.1 hw ⟨Nat.le_of_ble_eq_true rfl, Nat.le_of_ble_eq_true rfl⟩ (Nat.le_of_ble_eq_true rfl) ⟨Nat.zero_le _, Nat.zero_le _⟩ dX0_stretch_25 (fun r8 H locs hw hS => ?_)
      refine lv_goto (tgt := 36) hx hb dX0_stretch_28 (by decide) ?_
      exact wRetl hC hS ⟨rfl, hw⟩ (Nat.le_refl _) (Nat.le_refl _) dX0_stretch_36
abbrev v_X0_stretch (X : XS) (p1 : Int32) (p2 : Int32) (post : Int64 → Prop) : Prop := w_X0_stretch X p1 p2 post
set_option maxHeartbeats 4000000 in
set_option maxRecDepth 100000 in
theorem met_X0_stretch (l : Launch) (D : va_G) (dT : Nat → ClassId) (a : Nat → Nat) (sz : Nat) (X : XS) (vs0 : XE) (p1 : Int32) (p2 : Int32) (post : Int64 → Prop) (hw : v_X0_stretch X p1 p2 post) : Met l yX0_stretch (ws_ yX0_stretch cX0_stretch 3 (some .long)) rmX0_stretch (wPc D dT (XW dT a) (XI vs0) sz (X, vs0) [.ref (a 0), .int p1, .int p2]) (va_Ql (fun r u9 => u9 = (X, vs0) ∧ post r) (wB D (XW dT a) (XI vs0) (va_A ((XW dT a) (X, vs0)) sz)) (va_A ((XW dT a) (X, vs0)) sz)) 0 0 (va_A ((XW dT a) (X, vs0)) sz) :=
  wEnt (Q := fun A => (va_Ql (fun r u9 => u9 = (X, vs0) ∧ post r) (wB D (XW dT a) (XI vs0) A) A)) (by decide) (Nat.le_of_ble_eq_true rfl) (fun p e s m below meth c A ls hC _ hA hS hl => k_X0_stretch_0 hC hA  hS hl hw) sz
theorem hd_X0_stretch : yX0_stretch.cls ≠ "java/lang/invoke/MethodHandle" ∧ yX0_stretch.cls ≠ "java/lang/invoke/VarHandle" ∧ (parseMethodDescriptor yX0_stretch.desc).map (fun d => d.parameters.length) = some 2 := by decide +kernel
/-! LeastFrames.worked -/
def w_X0_worked_14b (X : XS) (K4 : Int32 → Int32 → Prop) (K14 : Int32 → Int32 → Int32 → Prop) (post : Int32 → Prop) (x1 : Int32) (x2 : Int32) (x3 : Int32) : Prop :=
  ((2 : Int32) ≤ x3 → (∀ v2 : Int32, v2 = x2 + 1 → (K4 x1 v2))) ∧ (¬ (2 : Int32) ≤ x3 → (vp_in x2 5 ∧ (vp_in x3 2 ∧ (vp_in x2 5 ∧ (v_X1_shift X x2.toNatClampNeg x3 (fun r5 => ∀ v6 : Int32, v6 = x1 + ((X_pl X x2.toNatClampNeg x3.toNatClampNeg) * r5) → (∀ v7 : Int32, v7 = x3 + 1 → (K14 v6 x2 v7))))))))
def w_X0_worked_14 (X : XS) (K4 : Int32 → Int32 → Prop) (post : Int32 → Prop) : Nat → Int32 → Int32 → Int32 → Prop
  | 0, _, _, _ => False
  | n + 1, x1, x2, x3 => w_X0_worked_14b X K4 (w_X0_worked_14 X K4 post n) post x1 x2 x3
def w_X0_worked_4b (X : XS) (K4 : Int32 → Int32 → Prop) (post : Int32 → Prop) (x1 : Int32) (x2 : Int32) : Prop :=
  ((X_many X) ≤ x2 → (post x1)) ∧ (¬ (X_many X) ≤ x2 → (∃ n, w_X0_worked_14 X K4 post n x1 x2 0))
def w_X0_worked_4 (X : XS) (post : Int32 → Prop) : Nat → Int32 → Int32 → Prop
  | 0, _, _ => False
  | n + 1, x1, x2 => w_X0_worked_4b X (w_X0_worked_4 X post n) post x1 x2
def w_X0_worked (X : XS) (post : Int32 → Prop) : Prop :=
  ∃ n, w_X0_worked_4 X post n 0 0
abbrev rmX0_worked : Room := { frames := 3, cells := 0, slots := 0, locals := 63 }
set_option maxHeartbeats 4000000 in
set_option maxRecDepth 100000 in
theorem k_X0_worked_14b {p : Program} {l : Launch} {e : Env} {s : State} {m : MethodId} {args : Array Value} {below : List Frame} {meth : Method} {c : Code} {D : va_G} {dT : Nat → ClassId} {a : Nat → Nat} {A : Nat → Prop} {vs0 : XE} {X : XS} {K4 : Int32 → Int32 → Prop} {K14 : Int32 → Int32 → Int32 → Prop} {post : Int32 → Prop} (hC : wCx RX0 cX0_worked 4 (some .int) D dT p s m args meth c) (hA : wAz A s) (hK4 : ∀ (x1 : Int32) (x2 : Int32), K4 x1 x2 → ∀ {H : Heap} {locs : List Loc} {ls : Array Slot}, StX D dT a A s vs0 X vs0 H locs → lv_has ls 4 [(0, .ref (a 0)), (1, .int x1), (2, .int x2)] → W p l e rmX0_worked s m args below meth c H locs 0 0 (MQ below (va_Qi (fun r u9 => u9 = (X, vs0) ∧ post r) (wB D (XW dT a) (XI vs0) A) A) args s 0 0 A) (F0 m 4 ls [])) (hK14 : ∀ (x1 : Int32) (x2 : Int32) (x3 : Int32), K14 x1 x2 x3 → ∀ {H : Heap} {locs : List Loc} {ls : Array Slot}, StX D dT a A s vs0 X vs0 H locs → lv_has ls 4 [(0, .ref (a 0)), (1, .int x1), (2, .int x2), (3, .int x3)] → W p l e rmX0_worked s m args below meth c H locs 0 0 (MQ below (va_Qi (fun r u9 => u9 = (X, vs0) ∧ post r) (wB D (XW dT a) (XI vs0) A) A) args s 0 0 A) (F0 m 14 ls [])) (x1 : Int32) (x2 : Int32) (x3 : Int32) {H : Heap} {locs : List Loc} {ls : Array Slot} (hS : StX D dT a A s vs0 X vs0 H locs) (hl : lv_has ls 4 [(0, .ref (a 0)), (1, .int x1), (2, .int x2), (3, .int x3)])  (hw : w_X0_worked_14b X K4 K14 post x1 x2 x3) : W p l e rmX0_worked s m args below meth c H locs 0 0 (MQ below (va_Qi (fun r u9 => u9 = (X, vs0) ∧ post r) (wB D (XW dT a) (XI vs0) A) A) args s 0 0 A) (F0 m 14 ls []) := by
  have hx := hC.1
  have hb := hC.2.1
  have hown := hC.2.2.2.1
  have hts := hC.2.2.2.2.1
  unfold w_X0_worked_14b at hw
  refine lv_iload_n hx hb dX0_worked_14 rfl (lv_at hl 3 rfl) ?_
  refine lv_iconst (v := 2) hx hb dX0_worked_15 (by decide) ?_
  refine lv_icmp_ge (tgt := 50) hx hb dX0_worked_16 (by decide) (fun c1 => ?_) (fun c1 => ?_)
  · have hw := hw.1 c1
    obtain ⟨v2, ev2⟩ : ∃ y : Int32, y = x2 + 1 := ⟨_, rfl⟩
    have hw := hw v2 ev2
    refine lv_iinc (v := v2) (lv' := [(2, .int v2), (0, .ref (a 0)), (1, .int x1), (3, .int x3)]) hx hb dX0_worked_50 hl (k := 2) rfl (by rw [ev2]; rfl) (by decide) rfl (fun ls hl => ?_)
    refine lv_goto (tgt := 4) hx hb dX0_worked_53 (by decide) ?_
    exact hK4 _ _ hw hS (lv_sub hl [1, 2, 0] rfl)
  · have hw := hw.2 c1
    refine lv_iload_n hx hb dX0_worked_19 rfl (lv_at hl 1 rfl) ?_
    refine lv_aload_n hx hb dX0_worked_20 rfl (lv_at hl 0 rfl) ?_
    refine ld_q193 hC hS dX0_worked_21 ?_
    refine lv_iload_n hx hb dX0_worked_24 rfl (lv_at hl 2 rfl) ?_
    have hi3 := hw.1
    have hw := hw.2
    refine aa_PA hC hS hi3 dX0_worked_25 ?_
    refine ld_q130 hC hS (vp_lt hi3) dX0_worked_26 ?_
    refine lv_iload_n hx hb dX0_worked_29 rfl (lv_at hl 3 rfl) ?_
    refine al_PL hC hS (vp_lt hi3) hw.1 dX0_worked_30 ?_
    have hw := hw.2
    refine lv_aload_n hx hb dX0_worked_31 rfl (lv_at hl 0 rfl) ?_
    refine ld_q193 hC hS dX0_worked_32 ?_
    refine lv_iload_n hx hb dX0_worked_35 rfl (lv_at hl 2 rfl) ?_
    have hi4 := hw.1
    have hw := hw.2
    refine aa_PA hC hS hi4 dX0_worked_36 ?_
    refine lv_iload_n hx hb dX0_worked_37 rfl (lv_at hl 3 rfl) ?_
    refine inv_q689 hC hA hS (vp_lt hi4) hl.1 hw ⟨Nat.le_of_ble_eq_true rfl, Nat.le_of_ble_eq_true rfl⟩ (Nat.le_of_ble_eq_true rfl) ⟨Nat.zero_le _, Nat.zero_le _⟩ dX0_worked_38 (fun r5 H locs hw hS => ?_)
    refine lv_imul hx hb dX0_worked_41 ?_
    refine lv_iadd hx hb dX0_worked_42 ?_
    refine lv_topi (fun v6 ev6 => ?_)
    have hw := hw v6 ev6
    refine lv_istore_n (lv' := [(1, .int v6), (0, .ref (a 0)), (2, .int x2), (3, .int x3)]) hx hb dX0_worked_43 rfl hl (by decide) rfl (fun ls hl => ?_)
    obtain ⟨v7, ev7⟩ : ∃ y : Int32, y = x3 + 1 := ⟨_, rfl⟩
    have hw := hw v7 ev7
    refine lv_iinc (v := v7) (lv' := [(3, .int v7), (1, .int v6), (0, .ref (a 0)), (2, .int x2)]) hx hb dX0_worked_44 hl (k := 3) rfl (by rw [ev7]; rfl) (by decide) rfl (fun ls hl => ?_)
    refine lv_goto (tgt := 14) hx hb dX0_worked_47 (by decide) ?_
    exact hK14 _ _ _ hw hS (lv_sub hl [2, 1, 3, 0] rfl)
set_option maxHeartbeats 4000000 in
set_option maxRecDepth 100000 in
theorem k_X0_worked_14 {p : Program} {l : Launch} {e : Env} {s : State} {m : MethodId} {args : Array Value} {below : List Frame} {meth : Method} {c : Code} {D : va_G} {dT : Nat → ClassId} {a : Nat → Nat} {A : Nat → Prop} {vs0 : XE} {X : XS} {K4 : Int32 → Int32 → Prop} {post : Int32 → Prop} (hC : wCx RX0 cX0_worked 4 (some .int) D dT p s m args meth c) (hA : wAz A s) (hK4 : ∀ (x1 : Int32) (x2 : Int32), K4 x1 x2 → ∀ {H : Heap} {locs : List Loc} {ls : Array Slot}, StX D dT a A s vs0 X vs0 H locs → lv_has ls 4 [(0, .ref (a 0)), (1, .int x1), (2, .int x2)] → W p l e rmX0_worked s m args below meth c H locs 0 0 (MQ below (va_Qi (fun r u9 => u9 = (X, vs0) ∧ post r) (wB D (XW dT a) (XI vs0) A) A) args s 0 0 A) (F0 m 4 ls [])) : ∀ (x1 : Int32) (x2 : Int32) (x3 : Int32) (n : Nat), ∀ {H : Heap} {locs : List Loc} {ls : Array Slot}, StX D dT a A s vs0 X vs0 H locs → lv_has ls 4 [(0, .ref (a 0)), (1, .int x1), (2, .int x2), (3, .int x3)] → w_X0_worked_14 X K4 post n x1 x2 x3 → W p l e rmX0_worked s m args below meth c H locs 0 0 (MQ below (va_Qi (fun r u9 => u9 = (X, vs0) ∧ post r) (wB D (XW dT a) (XI vs0) A) A) args s 0 0 A) (F0 m 14 ls []) := by
  intro x1 x2 x3 n
  induction n generalizing x1 x2 x3 with
  | zero => intro H locs ls  hS hl hw; exact hw.elim
  | succ n ih =>
    intro H locs ls  hS hl hw
    exact k_X0_worked_14b hC hA hK4 (fun x1 x2 x3 hk {H} {locs} {ls}  hS hl => ih x1 x2 x3  hS hl hk) x1 x2 x3  hS hl hw
set_option maxHeartbeats 4000000 in
set_option maxRecDepth 100000 in
theorem k_X0_worked_4b {p : Program} {l : Launch} {e : Env} {s : State} {m : MethodId} {args : Array Value} {below : List Frame} {meth : Method} {c : Code} {D : va_G} {dT : Nat → ClassId} {a : Nat → Nat} {A : Nat → Prop} {vs0 : XE} {X : XS} {K4 : Int32 → Int32 → Prop} {post : Int32 → Prop} (hC : wCx RX0 cX0_worked 4 (some .int) D dT p s m args meth c) (hA : wAz A s) (hK4 : ∀ (x1 : Int32) (x2 : Int32), K4 x1 x2 → ∀ {H : Heap} {locs : List Loc} {ls : Array Slot}, StX D dT a A s vs0 X vs0 H locs → lv_has ls 4 [(0, .ref (a 0)), (1, .int x1), (2, .int x2)] → W p l e rmX0_worked s m args below meth c H locs 0 0 (MQ below (va_Qi (fun r u9 => u9 = (X, vs0) ∧ post r) (wB D (XW dT a) (XI vs0) A) A) args s 0 0 A) (F0 m 4 ls [])) (x1 : Int32) (x2 : Int32) {H : Heap} {locs : List Loc} {ls : Array Slot} (hS : StX D dT a A s vs0 X vs0 H locs) (hl : lv_has ls 4 [(0, .ref (a 0)), (1, .int x1), (2, .int x2)])  (hw : w_X0_worked_4b X K4 post x1 x2) : W p l e rmX0_worked s m args below meth c H locs 0 0 (MQ below (va_Qi (fun r u9 => u9 = (X, vs0) ∧ post r) (wB D (XW dT a) (XI vs0) A) A) args s 0 0 A) (F0 m 4 ls []) := by
  have hx := hC.1
  have hb := hC.2.1
  have hown := hC.2.2.2.1
  have hts := hC.2.2.2.2.1
  unfold w_X0_worked_4b at hw
  refine lv_iload_n hx hb dX0_worked_4 rfl (lv_at hl 2 rfl) ?_
  refine lv_aload_n hx hb dX0_worked_5 rfl (lv_at hl 0 rfl) ?_
  refine ld_q196 hC hS dX0_worked_6 ?_
  refine lv_icmp_ge (tgt := 56) hx hb dX0_worked_9 (by decide) (fun c1 => ?_) (fun c1 => ?_)
  · have hw := hw.1 c1
    refine lv_iload_n hx hb dX0_worked_56 rfl (lv_at hl 1 rfl) ?_
    exact wReti hC hS ⟨rfl, hw⟩ (Nat.le_refl _) (Nat.le_refl _) dX0_worked_57
  · have hw := hw.2 c1
    refine lv_iconst (v := 0) hx hb dX0_worked_12 (by decide) ?_
    refine lv_istore_n (lv' := [(3, .int 0), (0, .ref (a 0)), (1, .int x1), (2, .int x2)]) hx hb dX0_worked_13 rfl hl (by decide) rfl (fun ls hl => ?_)
    obtain ⟨n, hw⟩ := hw
    exact k_X0_worked_14 hC hA hK4 _ _ _ n hS (lv_sub hl [1, 2, 3, 0] rfl) hw
set_option maxHeartbeats 4000000 in
set_option maxRecDepth 100000 in
theorem k_X0_worked_4 {p : Program} {l : Launch} {e : Env} {s : State} {m : MethodId} {args : Array Value} {below : List Frame} {meth : Method} {c : Code} {D : va_G} {dT : Nat → ClassId} {a : Nat → Nat} {A : Nat → Prop} {vs0 : XE} {X : XS} {post : Int32 → Prop} (hC : wCx RX0 cX0_worked 4 (some .int) D dT p s m args meth c) (hA : wAz A s) : ∀ (x1 : Int32) (x2 : Int32) (n : Nat), ∀ {H : Heap} {locs : List Loc} {ls : Array Slot}, StX D dT a A s vs0 X vs0 H locs → lv_has ls 4 [(0, .ref (a 0)), (1, .int x1), (2, .int x2)] → w_X0_worked_4 X post n x1 x2 → W p l e rmX0_worked s m args below meth c H locs 0 0 (MQ below (va_Qi (fun r u9 => u9 = (X, vs0) ∧ post r) (wB D (XW dT a) (XI vs0) A) A) args s 0 0 A) (F0 m 4 ls []) := by
  intro x1 x2 n
  induction n generalizing x1 x2 with
  | zero => intro H locs ls  hS hl hw; exact hw.elim
  | succ n ih =>
    intro H locs ls  hS hl hw
    exact k_X0_worked_4b hC hA (fun x1 x2 hk {H} {locs} {ls}  hS hl => ih x1 x2  hS hl hk) x1 x2  hS hl hw
set_option maxHeartbeats 4000000 in
set_option maxRecDepth 100000 in
theorem k_X0_worked_0 {p : Program} {l : Launch} {e : Env} {s : State} {m : MethodId} {args : Array Value} {below : List Frame} {meth : Method} {c : Code} {D : va_G} {dT : Nat → ClassId} {a : Nat → Nat} {A : Nat → Prop} {vs0 : XE} {X : XS} {post : Int32 → Prop} (hC : wCx RX0 cX0_worked 4 (some .int) D dT p s m args meth c) (hA : wAz A s) {H : Heap} {locs : List Loc} {ls : Array Slot} (hS : StX D dT a A s vs0 X vs0 H locs) (hl : lv_has ls 4 [(0, .ref (a 0))])  (hw : w_X0_worked X post) : W p l e rmX0_worked s m args below meth c H locs 0 0 (MQ below (va_Qi (fun r u9 => u9 = (X, vs0) ∧ post r) (wB D (XW dT a) (XI vs0) A) A) args s 0 0 A) (F0 m 0 ls []) := by
  have hx := hC.1
  have hb := hC.2.1
  have hown := hC.2.2.2.1
  have hts := hC.2.2.2.2.1
  unfold w_X0_worked at hw
  refine lv_iconst (v := 0) hx hb dX0_worked_0 (by decide) ?_
  refine lv_istore_n (lv' := [(1, .int 0), (0, .ref (a 0))]) hx hb dX0_worked_1 rfl hl (by decide) rfl (fun ls hl => ?_)
  refine lv_iconst (v := 0) hx hb dX0_worked_2 (by decide) ?_
  refine lv_istore_n (lv' := [(2, .int 0), (1, .int 0), (0, .ref (a 0))]) hx hb dX0_worked_3 rfl hl (by decide) rfl (fun ls hl => ?_)
  obtain ⟨n, hw⟩ := hw
  exact k_X0_worked_4 hC hA _ _ n hS (lv_sub hl [2, 1, 0] rfl) hw
abbrev v_X0_worked (X : XS) (post : Int32 → Prop) : Prop := w_X0_worked X post
set_option maxHeartbeats 4000000 in
set_option maxRecDepth 100000 in
theorem met_X0_worked (l : Launch) (D : va_G) (dT : Nat → ClassId) (a : Nat → Nat) (sz : Nat) (X : XS) (vs0 : XE) (post : Int32 → Prop) (hw : v_X0_worked X post) : Met l yX0_worked (ws_ yX0_worked cX0_worked 4 (some .int)) rmX0_worked (wPc D dT (XW dT a) (XI vs0) sz (X, vs0) [.ref (a 0)]) (va_Qi (fun r u9 => u9 = (X, vs0) ∧ post r) (wB D (XW dT a) (XI vs0) (va_A ((XW dT a) (X, vs0)) sz)) (va_A ((XW dT a) (X, vs0)) sz)) 0 0 (va_A ((XW dT a) (X, vs0)) sz) :=
  wEnt (Q := fun A => (va_Qi (fun r u9 => u9 = (X, vs0) ∧ post r) (wB D (XW dT a) (XI vs0) A) A)) (by decide) (Nat.le_of_ble_eq_true rfl) (fun p e s m below meth c A ls hC _ hA hS hl => k_X0_worked_0 hC hA  hS hl hw) sz
theorem hd_X0_worked : yX0_worked.cls ≠ "java/lang/invoke/MethodHandle" ∧ yX0_worked.cls ≠ "java/lang/invoke/VarHandle" ∧ (parseMethodDescriptor yX0_worked.desc).map (fun d => d.parameters.length) = some 0 := by decide +kernel
section
variable {p : Program} {l : Launch} {e : Env} {R : Room} {s : State} {m : MethodId} {args : Array Value} {below : List Frame} {meth : Method} {c : Code} {H : Heap} {locs : List Loc} {cells slots : Nat} {Q : State → Prop} {cc : ByteArray} {nL : Nat} {ret : Option FieldType} {pc : Nat} {ls : Array Slot} {rest : List Value}
set_option maxHeartbeats 4000000 in
set_option maxRecDepth 100000 in
theorem inv_q699 {D : va_G} {dT : Nat → ClassId} {a : Nat → Nat} {A : Nat → Prop} {vs0 : XE} {vs : XE} {X : XS} {post : Int32 → Prop} (hC : wCx RX0 cc nL ret D dT p s m args meth c) (hA : wAz A s) (hS : StX D dT a A s vs0 X vs H locs) (hl : ls.size = nL) (hw : v_X0_worked X post) (hR : rmX0_worked.frames + 1 ≤ R.frames ∧ 8 + (4 + 11) + rmX0_worked.locals ≤ R.locals) (hrest : (rest.map fun v => v.category).sum ≤ 8) (hf : cells ≤ R.cells ∧ slots ≤ R.slots) (hdg : decode cc pc = .ok (.invokevirtual 289, 3)) (kk : ∀ (r : Int32) (H1 : Heap) (locs1 : List Loc), post r → StX D dT a A s vs0 X vs H1 locs1 → W p l e R s m args below meth c H1 locs1 cells slots Q (F0 m (pc + 3) ls (.int r :: rest))) : W p l e R s m args below meth c H locs cells slots Q (F0 m pc ls (.ref (a 0) :: rest)) := by
  exact wCallVi (As := []) (rest := rest) (mc := 0) (ms := 0) 0 hC (met_X0_worked l D dT a H.size X vs post hw) (lw_V q699 q701 qs35 q85 q702) ⟨⟨rfl, rfl⟩, hd_X0_worked, hR, hf⟩ XW_0 rfl rfl hA hS.self hl rfl hrest hdg (fun r u H1 locs1 hp hS1 => kk r H1 locs1 hp.2 (by have h9 := hS.back hS1; rw [hp.1] at h9; exact h9))
end
/-! LeastFrames.work -/
def w_X0_work (X : XS) (p1 : Int32) (post : Int64 → Prop) : Prop :=
  v_X0_isTwo p1 (fun r1 => (r1 = (0 : Int32) → (v_X0_no ((-2) : Int32) (fun r3 => post r3))) ∧ (¬ r1 = (0 : Int32) → (v_X0_worked X (fun r4 => v_X0_part r4.toInt64 (12 : Int64) p1 (fun r5 => post r5)))))
abbrev rmX0_work : Room := { frames := 4, cells := 0, slots := 0, locals := 86 }
set_option maxHeartbeats 4000000 in
set_option maxRecDepth 100000 in
theorem k_X0_work_0 {p : Program} {l : Launch} {e : Env} {s : State} {m : MethodId} {args : Array Value} {below : List Frame} {meth : Method} {c : Code} {D : va_G} {dT : Nat → ClassId} {a : Nat → Nat} {A : Nat → Prop} {vs0 : XE} {X : XS} {p1 : Int32} {post : Int64 → Prop} (hC : wCx RX0 cX0_work 2 (some .long) D dT p s m args meth c) (hA : wAz A s) {H : Heap} {locs : List Loc} {ls : Array Slot} (hS : StX D dT a A s vs0 X vs0 H locs) (hl : lv_has ls 2 [(0, .ref (a 0)), (1, .int p1)])  (hw : w_X0_work X p1 post) : W p l e rmX0_work s m args below meth c H locs 0 0 (MQ below (va_Ql (fun r u9 => u9 = (X, vs0) ∧ post r) (wB D (XW dT a) (XI vs0) A) A) args s 0 0 A) (F0 m 0 ls []) := by
  have hx := hC.1
  have hb := hC.2.1
  have hown := hC.2.2.2.1
  have hts := hC.2.2.2.2.1
  unfold w_X0_work at hw
  refine lv_iload_n hx hb dX0_work_0 rfl (lv_at hl 1 rfl) ?_
  refine inv_q267 hC hS hl.1 hw ⟨Nat.le_of_ble_eq_true rfl, Nat.le_of_ble_eq_true rfl⟩ (Nat.le_of_ble_eq_true rfl) ⟨Nat.zero_le _, Nat.zero_le _⟩ dX0_work_1 (fun r1 H locs hw hS => ?_)
  refine lv_if_eq (tgt := 22) hx hb dX0_work_4 (by decide) (fun c2 => ?_) (fun c2 => ?_)
  · have hw := hw.1 c2
    refine lv_bipush (v := (-2)) hx hb dX0_work_22 (by decide) ?_
    refine inv_q348 hC hS hl.1 hw ⟨Nat.le_of_ble_eq_true rfl, Nat.le_of_ble_eq_true rfl⟩ (Nat.le_of_ble_eq_true rfl) ⟨Nat.zero_le _, Nat.zero_le _⟩ dX0_work_24 (fun r3 H locs hw hS => ?_)
    exact wRetl hC hS ⟨rfl, hw⟩ (Nat.le_refl _) (Nat.le_refl _) dX0_work_27
  · have hw := hw.2 c2
    refine lv_aload_n hx hb dX0_work_7 rfl (lv_at hl 0 rfl) ?_
    refine inv_q699 hC hA hS hl.1 hw ⟨Nat.le_of_ble_eq_true rfl, Nat.le_of_ble_eq_true rfl⟩ (Nat.le_of_ble_eq_true rfl) ⟨Nat.zero_le _, Nat.zero_le _⟩ dX0_work_8 (fun r4 H locs hw hS => ?_)
    refine lv_i2l hx hb dX0_work_11 rfl ?_
    refine lv_ldc2 (v := 12) hx hb hown (hts _ q694) dX0_work_12 ?_
    refine lv_iload_n hx hb dX0_work_15 rfl (lv_at hl 1 rfl) ?_
    refine inv_q555 hC hS hl.1 hw ⟨Nat.le_of_ble_eq_true rfl, Nat.le_of_ble_eq_true rfl⟩ (Nat.le_of_ble_eq_true rfl) ⟨Nat.zero_le _, Nat.zero_le _⟩ dX0_work_16 (fun r5 H locs hw hS => ?_)
    refine lv_goto (tgt := 27) hx hb dX0_work_19 (by decide) ?_
    exact wRetl hC hS ⟨rfl, hw⟩ (Nat.le_refl _) (Nat.le_refl _) dX0_work_27
abbrev v_X0_work (X : XS) (p1 : Int32) (post : Int64 → Prop) : Prop := w_X0_work X p1 post
set_option maxHeartbeats 4000000 in
set_option maxRecDepth 100000 in
theorem met_X0_work (l : Launch) (D : va_G) (dT : Nat → ClassId) (a : Nat → Nat) (sz : Nat) (X : XS) (vs0 : XE) (p1 : Int32) (post : Int64 → Prop) (hw : v_X0_work X p1 post) : Met l yX0_work (ws_ yX0_work cX0_work 2 (some .long)) rmX0_work (wPc D dT (XW dT a) (XI vs0) sz (X, vs0) [.ref (a 0), .int p1]) (va_Ql (fun r u9 => u9 = (X, vs0) ∧ post r) (wB D (XW dT a) (XI vs0) (va_A ((XW dT a) (X, vs0)) sz)) (va_A ((XW dT a) (X, vs0)) sz)) 0 0 (va_A ((XW dT a) (X, vs0)) sz) :=
  wEnt (Q := fun A => (va_Ql (fun r u9 => u9 = (X, vs0) ∧ post r) (wB D (XW dT a) (XI vs0) A) A)) (by decide) (Nat.le_of_ble_eq_true rfl) (fun p e s m below meth c A ls hC _ hA hS hl => k_X0_work_0 hC hA  hS hl hw) sz
theorem hd_X0_work : yX0_work.cls ≠ "java/lang/invoke/MethodHandle" ∧ yX0_work.cls ≠ "java/lang/invoke/VarHandle" ∧ (parseMethodDescriptor yX0_work.desc).map (fun d => d.parameters.length) = some 1 := by decide +kernel
/-! LeastFrames.provesNow -/
def w_X0_provesNow_2b (X : XS) (K2 : Int32 → Prop) (post : Int32 → Prop) (x1 : Int32) : Prop :=
  v_X0_pairs X (fun r1 => (r1 ≤ x1 → ((X_least X = none → (post (1 : Int32))) ∧ (∀ v3, X_least X = some v3 → (∃ v4, X_least X = some v4 ∧ (v_X0_worked X (fun r5 => v_X0_part r5.toInt64 (12 : Int64) (0 : Int32) (fun r6 => (v4.2.1 = r6 → (∃ v8, X_least X = some v8 ∧ (v_X0_worked X (fun r9 => v_X0_part r9.toInt64 (12 : Int64) (1 : Int32) (fun r10 => (v8.2.2 = r10 → (post (2 : Int32))) ∧ (¬ v8.2.2 = r10 → (post (1 : Int32)))))))) ∧ (¬ v4.2.1 = r6 → (post (1 : Int32)))))))))) ∧ (¬ r1 ≤ x1 → (v_X0_isIn (X_bars X) x1 (fun r12 => (r12 = (0 : Int32) → (∀ v14 : Int32, v14 = x1 + 1 → (K2 v14))) ∧ (¬ r12 = (0 : Int32) → (v_X0_stretched X x1 (fun r15 => v_J2_abs_2 r15 (fun r16 => v_X0_quad X x1 (fun r17 => (r16 ≤ (12 * r17) → (∀ v19 : Int32, v19 = x1 + 1 → (K2 v19))) ∧ (¬ r16 ≤ (12 * r17) → (post (0 : Int32))))))))))))
def w_X0_provesNow_2 (X : XS) (post : Int32 → Prop) : Nat → Int32 → Prop
  | 0, _ => False
  | n + 1, x1 => w_X0_provesNow_2b X (w_X0_provesNow_2 X post n) post x1
def w_X0_provesNow (X : XS) (post : Int32 → Prop) : Prop :=
  ∃ n, w_X0_provesNow_2 X post n 0
abbrev rmX0_provesNow : Room := { frames := 4, cells := 0, slots := 0, locals := 87 }
set_option maxHeartbeats 4000000 in
set_option maxRecDepth 100000 in
theorem k_X0_provesNow_2b {p : Program} {l : Launch} {e : Env} {s : State} {m : MethodId} {args : Array Value} {below : List Frame} {meth : Method} {c : Code} {D : va_G} {dT : Nat → ClassId} {a : Nat → Nat} {A : Nat → Prop} {vs0 : XE} {X : XS} {K2 : Int32 → Prop} {post : Int32 → Prop} (hC : wCx RX0 cX0_provesNow 2 (some .int) D dT p s m args meth c) (hA : wAz A s) (hK2 : ∀ (x1 : Int32), K2 x1 → ∀ {H : Heap} {locs : List Loc} {ls : Array Slot}, StX D dT a A s vs0 X vs0 H locs → lv_has ls 2 [(0, .ref (a 0)), (1, .int x1)] → W p l e rmX0_provesNow s m args below meth c H locs 0 0 (MQ below (va_Qi (fun r u9 => u9 = (X, vs0) ∧ post r) (wB D (XW dT a) (XI vs0) A) A) args s 0 0 A) (F0 m 2 ls [])) (x1 : Int32) {H : Heap} {locs : List Loc} {ls : Array Slot} (hS : StX D dT a A s vs0 X vs0 H locs) (hl : lv_has ls 2 [(0, .ref (a 0)), (1, .int x1)])  (hw : w_X0_provesNow_2b X K2 post x1) : W p l e rmX0_provesNow s m args below meth c H locs 0 0 (MQ below (va_Qi (fun r u9 => u9 = (X, vs0) ∧ post r) (wB D (XW dT a) (XI vs0) A) A) args s 0 0 A) (F0 m 2 ls []) := by
  have hx := hC.1
  have hb := hC.2.1
  have hown := hC.2.2.2.1
  have hts := hC.2.2.2.2.1
  unfold w_X0_provesNow_2b at hw
  refine lv_iload_n hx hb dX0_provesNow_2 rfl (lv_at hl 1 rfl) ?_
  refine lv_aload_n hx hb dX0_provesNow_3 rfl (lv_at hl 0 rfl) ?_
  refine inv_q250 hC hA hS hl.1 hw ⟨Nat.le_of_ble_eq_true rfl, Nat.le_of_ble_eq_true rfl⟩ (Nat.le_of_ble_eq_true rfl) ⟨Nat.zero_le _, Nat.zero_le _⟩ dX0_provesNow_4 (fun r1 H locs hw hS => ?_)
  refine lv_icmp_ge (tgt := 48) hx hb dX0_provesNow_7 (by decide) (fun c2 => ?_) (fun c2 => ?_)
  · have hw := hw.1 c2
    refine lv_aload_n hx hb dX0_provesNow_48 rfl (lv_at hl 0 rfl) ?_
    refine ld_q200 hC hS dX0_provesNow_49 ?_
    refine opt_nu (tgt := 105) hx hb dX0_provesNow_52 (by decide) (fun hv3 => ?_) (fun v3 hv3 => ?_)
    · have hw := hw.1 hv3
      refine lv_iconst (v := 1) hx hb dX0_provesNow_105 (by decide) ?_
      exact wReti hC hS ⟨rfl, hw⟩ (Nat.le_refl _) (Nat.le_refl _) dX0_provesNow_106
    · have hw := hw.2 _ hv3
      refine lv_aload_n hx hb dX0_provesNow_55 rfl (lv_at hl 0 rfl) ?_
      obtain ⟨v4, hl_v4, hw⟩ := hw
      have f_v4 := hS.2.2.2.1 v4 hl_v4
      refine ld_q200 hC hS dX0_provesNow_56 ?_
      refine opt_ref hl_v4 ?_
      refine ld_q515 hC hS f_v4 dX0_provesNow_59 ?_
      refine lv_aload_n hx hb dX0_provesNow_62 rfl (lv_at hl 0 rfl) ?_
      refine inv_q699 hC hA hS hl.1 hw ⟨Nat.le_of_ble_eq_true rfl, Nat.le_of_ble_eq_true rfl⟩ (Nat.le_of_ble_eq_true rfl) ⟨Nat.zero_le _, Nat.zero_le _⟩ dX0_provesNow_63 (fun r5 H locs hw hS => ?_)
      refine lv_i2l hx hb dX0_provesNow_66 rfl ?_
      refine lv_ldc2 (v := 12) hx hb hown (hts _ q694) dX0_provesNow_67 ?_
      refine lv_iconst (v := 0) hx hb dX0_provesNow_70 (by decide) ?_
      refine inv_q555 hC hS hl.1 hw ⟨Nat.le_of_ble_eq_true rfl, Nat.le_of_ble_eq_true rfl⟩ (Nat.le_of_ble_eq_true rfl) ⟨Nat.zero_le _, Nat.zero_le _⟩ dX0_provesNow_71 (fun r6 H locs hw hS => ?_)
      refine lc_if_ne (tgt := 105) hx hb dX0_provesNow_74 dX0_provesNow_75 (by decide) (fun c7 => ?_) (fun c7 => ?_)
      · have hw := hw.2 c7
        refine lv_iconst (v := 1) hx hb dX0_provesNow_105 (by decide) ?_
        exact wReti hC hS ⟨rfl, hw⟩ (Nat.le_refl _) (Nat.le_refl _) dX0_provesNow_106
      · have hw := hw.1 c7
        refine lv_aload_n hx hb dX0_provesNow_78 rfl (lv_at hl 0 rfl) ?_
        obtain ⟨v8, hl_v8, hw⟩ := hw
        have f_v8 := hS.2.2.2.1 v8 hl_v8
        refine ld_q200 hC hS dX0_provesNow_79 ?_
        refine opt_ref hl_v8 ?_
        refine ld_q517 hC hS f_v8 dX0_provesNow_82 ?_
        refine lv_aload_n hx hb dX0_provesNow_85 rfl (lv_at hl 0 rfl) ?_
        refine inv_q699 hC hA hS hl.1 hw ⟨Nat.le_of_ble_eq_true rfl, Nat.le_of_ble_eq_true rfl⟩ (Nat.le_of_ble_eq_true rfl) ⟨Nat.zero_le _, Nat.zero_le _⟩ dX0_provesNow_86 (fun r9 H locs hw hS => ?_)
        refine lv_i2l hx hb dX0_provesNow_89 rfl ?_
        refine lv_ldc2 (v := 12) hx hb hown (hts _ q694) dX0_provesNow_90 ?_
        refine lv_iconst (v := 1) hx hb dX0_provesNow_93 (by decide) ?_
        refine inv_q555 hC hS hl.1 hw ⟨Nat.le_of_ble_eq_true rfl, Nat.le_of_ble_eq_true rfl⟩ (Nat.le_of_ble_eq_true rfl) ⟨Nat.zero_le _, Nat.zero_le _⟩ dX0_provesNow_94 (fun r10 H locs hw hS => ?_)
        refine lc_if_ne (tgt := 105) hx hb dX0_provesNow_97 dX0_provesNow_98 (by decide) (fun c11 => ?_) (fun c11 => ?_)
        · have hw := hw.2 c11
          refine lv_iconst (v := 1) hx hb dX0_provesNow_105 (by decide) ?_
          exact wReti hC hS ⟨rfl, hw⟩ (Nat.le_refl _) (Nat.le_refl _) dX0_provesNow_106
        · have hw := hw.1 c11
          refine lv_iconst (v := 2) hx hb dX0_provesNow_101 (by decide) ?_
          refine lv_goto (tgt := 106) hx hb dX0_provesNow_102 (by decide) ?_
          exact wReti hC hS ⟨rfl, hw⟩ (Nat.le_refl _) (Nat.le_refl _) dX0_provesNow_106
  · have hw := hw.2 c2
    refine lv_aload_n hx hb dX0_provesNow_10 rfl (lv_at hl 0 rfl) ?_
    refine ld_q197 hC hS dX0_provesNow_11 ?_
    refine lv_iload_n hx hb dX0_provesNow_14 rfl (lv_at hl 1 rfl) ?_
    refine inv_q341 hC hS hl.1 hw ⟨Nat.le_of_ble_eq_true rfl, Nat.le_of_ble_eq_true rfl⟩ (Nat.le_of_ble_eq_true rfl) ⟨Nat.zero_le _, Nat.zero_le _⟩ dX0_provesNow_15 (fun r12 H locs hw hS => ?_)
    refine lv_if_eq (tgt := 42) hx hb dX0_provesNow_18 (by decide) (fun c13 => ?_) (fun c13 => ?_)
    · have hw := hw.1 c13
      obtain ⟨v14, ev14⟩ : ∃ y : Int32, y = x1 + 1 := ⟨_, rfl⟩
      have hw := hw v14 ev14
      refine lv_iinc (v := v14) (lv' := [(1, .int v14), (0, .ref (a 0))]) hx hb dX0_provesNow_42 hl (k := 1) rfl (by rw [ev14]; rfl) (by decide) rfl (fun ls hl => ?_)
      refine lv_goto (tgt := 2) hx hb dX0_provesNow_45 (by decide) ?_
      exact hK2 _ hw hS (lv_sub hl [1, 0] rfl)
    · have hw := hw.2 c13
      refine lv_aload_n hx hb dX0_provesNow_21 rfl (lv_at hl 0 rfl) ?_
      refine lv_iload_n hx hb dX0_provesNow_22 rfl (lv_at hl 1 rfl) ?_
      refine inv_q685 hC hA hS hl.1 hw ⟨Nat.le_of_ble_eq_true rfl, Nat.le_of_ble_eq_true rfl⟩ (Nat.le_of_ble_eq_true rfl) ⟨Nat.zero_le _, Nat.zero_le _⟩ dX0_provesNow_23 (fun r15 H locs hw hS => ?_)
      refine inv_q711 hC hS hl.1 hw ⟨Nat.le_of_ble_eq_true rfl, Nat.le_of_ble_eq_true rfl⟩ (Nat.le_of_ble_eq_true rfl) ⟨Nat.zero_le _, Nat.zero_le _⟩ dX0_provesNow_26 (fun r16 H locs hw hS => ?_)
      refine lv_bipush (v := 12) hx hb dX0_provesNow_29 (by decide) ?_
      refine lv_aload_n hx hb dX0_provesNow_31 rfl (lv_at hl 0 rfl) ?_
      refine lv_iload_n hx hb dX0_provesNow_32 rfl (lv_at hl 1 rfl) ?_
      refine inv_q329 hC hA hS hl.1 hw ⟨Nat.le_of_ble_eq_true rfl, Nat.le_of_ble_eq_true rfl⟩ (Nat.le_of_ble_eq_true rfl) ⟨Nat.zero_le _, Nat.zero_le _⟩ dX0_provesNow_33 (fun r17 H locs hw hS => ?_)
      refine lv_imul hx hb dX0_provesNow_36 ?_
      refine lv_icmp_le (tgt := 42) hx hb dX0_provesNow_37 (by decide) (fun c18 => ?_) (fun c18 => ?_)
      · have hw := hw.1 c18
        obtain ⟨v19, ev19⟩ : ∃ y : Int32, y = x1 + 1 := ⟨_, rfl⟩
        have hw := hw v19 ev19
        refine lv_iinc (v := v19) (lv' := [(1, .int v19), (0, .ref (a 0))]) hx hb dX0_provesNow_42 hl (k := 1) rfl (by rw [ev19]; rfl) (by decide) rfl (fun ls hl => ?_)
        refine lv_goto (tgt := 2) hx hb dX0_provesNow_45 (by decide) ?_
        exact hK2 _ hw hS (lv_sub hl [1, 0] rfl)
      · have hw := hw.2 c18
        refine lv_iconst (v := 0) hx hb dX0_provesNow_40 (by decide) ?_
        exact wReti hC hS ⟨rfl, hw⟩ (Nat.le_refl _) (Nat.le_refl _) dX0_provesNow_41
set_option maxHeartbeats 4000000 in
set_option maxRecDepth 100000 in
theorem k_X0_provesNow_2 {p : Program} {l : Launch} {e : Env} {s : State} {m : MethodId} {args : Array Value} {below : List Frame} {meth : Method} {c : Code} {D : va_G} {dT : Nat → ClassId} {a : Nat → Nat} {A : Nat → Prop} {vs0 : XE} {X : XS} {post : Int32 → Prop} (hC : wCx RX0 cX0_provesNow 2 (some .int) D dT p s m args meth c) (hA : wAz A s) : ∀ (x1 : Int32) (n : Nat), ∀ {H : Heap} {locs : List Loc} {ls : Array Slot}, StX D dT a A s vs0 X vs0 H locs → lv_has ls 2 [(0, .ref (a 0)), (1, .int x1)] → w_X0_provesNow_2 X post n x1 → W p l e rmX0_provesNow s m args below meth c H locs 0 0 (MQ below (va_Qi (fun r u9 => u9 = (X, vs0) ∧ post r) (wB D (XW dT a) (XI vs0) A) A) args s 0 0 A) (F0 m 2 ls []) := by
  intro x1 n
  induction n generalizing x1 with
  | zero => intro H locs ls  hS hl hw; exact hw.elim
  | succ n ih =>
    intro H locs ls  hS hl hw
    exact k_X0_provesNow_2b hC hA (fun x1 hk {H} {locs} {ls}  hS hl => ih x1  hS hl hk) x1  hS hl hw
set_option maxHeartbeats 4000000 in
set_option maxRecDepth 100000 in
theorem k_X0_provesNow_0 {p : Program} {l : Launch} {e : Env} {s : State} {m : MethodId} {args : Array Value} {below : List Frame} {meth : Method} {c : Code} {D : va_G} {dT : Nat → ClassId} {a : Nat → Nat} {A : Nat → Prop} {vs0 : XE} {X : XS} {post : Int32 → Prop} (hC : wCx RX0 cX0_provesNow 2 (some .int) D dT p s m args meth c) (hA : wAz A s) {H : Heap} {locs : List Loc} {ls : Array Slot} (hS : StX D dT a A s vs0 X vs0 H locs) (hl : lv_has ls 2 [(0, .ref (a 0))])  (hw : w_X0_provesNow X post) : W p l e rmX0_provesNow s m args below meth c H locs 0 0 (MQ below (va_Qi (fun r u9 => u9 = (X, vs0) ∧ post r) (wB D (XW dT a) (XI vs0) A) A) args s 0 0 A) (F0 m 0 ls []) := by
  have hx := hC.1
  have hb := hC.2.1
  have hown := hC.2.2.2.1
  have hts := hC.2.2.2.2.1
  unfold w_X0_provesNow at hw
  refine lv_iconst (v := 0) hx hb dX0_provesNow_0 (by decide) ?_
  refine lv_istore_n (lv' := [(1, .int 0), (0, .ref (a 0))]) hx hb dX0_provesNow_1 rfl hl (by decide) rfl (fun ls hl => ?_)
  obtain ⟨n, hw⟩ := hw
  exact k_X0_provesNow_2 hC hA _ n hS (lv_sub hl [1, 0] rfl) hw
abbrev v_X0_provesNow (X : XS) (post : Int32 → Prop) : Prop := w_X0_provesNow X post
set_option maxHeartbeats 4000000 in
set_option maxRecDepth 100000 in
theorem met_X0_provesNow (l : Launch) (D : va_G) (dT : Nat → ClassId) (a : Nat → Nat) (sz : Nat) (X : XS) (vs0 : XE) (post : Int32 → Prop) (hw : v_X0_provesNow X post) : Met l yX0_provesNow (ws_ yX0_provesNow cX0_provesNow 2 (some .int)) rmX0_provesNow (wPc D dT (XW dT a) (XI vs0) sz (X, vs0) [.ref (a 0)]) (va_Qi (fun r u9 => u9 = (X, vs0) ∧ post r) (wB D (XW dT a) (XI vs0) (va_A ((XW dT a) (X, vs0)) sz)) (va_A ((XW dT a) (X, vs0)) sz)) 0 0 (va_A ((XW dT a) (X, vs0)) sz) :=
  wEnt (Q := fun A => (va_Qi (fun r u9 => u9 = (X, vs0) ∧ post r) (wB D (XW dT a) (XI vs0) A) A)) (by decide) (Nat.le_of_ble_eq_true rfl) (fun p e s m below meth c A ls hC _ hA hS hl => k_X0_provesNow_0 hC hA  hS hl hw) sz
theorem hd_X0_provesNow : yX0_provesNow.cls ≠ "java/lang/invoke/MethodHandle" ∧ yX0_provesNow.cls ≠ "java/lang/invoke/VarHandle" ∧ (parseMethodDescriptor yX0_provesNow.desc).map (fun d => d.parameters.length) = some 0 := by decide +kernel
section
variable {p : Program} {l : Launch} {e : Env} {R : Room} {s : State} {m : MethodId} {args : Array Value} {below : List Frame} {meth : Method} {c : Code} {H : Heap} {locs : List Loc} {cells slots : Nat} {Q : State → Prop} {cc : ByteArray} {nL : Nat} {ret : Option FieldType} {pc : Nat} {ls : Array Slot} {rest : List Value}
set_option maxHeartbeats 4000000 in
set_option maxRecDepth 100000 in
theorem inv_q707 {D : va_G} {dT : Nat → ClassId} {a : Nat → Nat} {A : Nat → Prop} {vs0 : XE} {vs : XE} {X : XS} {post : Int32 → Prop} (hC : wCx RX0 cc nL ret D dT p s m args meth c) (hA : wAz A s) (hS : StX D dT a A s vs0 X vs H locs) (hl : ls.size = nL) (hw : v_X0_provesNow X post) (hR : rmX0_provesNow.frames + 1 ≤ R.frames ∧ 8 + (2 + 11) + rmX0_provesNow.locals ≤ R.locals) (hrest : (rest.map fun v => v.category).sum ≤ 8) (hf : cells ≤ R.cells ∧ slots ≤ R.slots) (hdg : decode cc pc = .ok (.invokevirtual 298, 3)) (kk : ∀ (r : Int32) (H1 : Heap) (locs1 : List Loc), post r → StX D dT a A s vs0 X vs H1 locs1 → W p l e R s m args below meth c H1 locs1 cells slots Q (F0 m (pc + 3) ls (.int r :: rest))) : W p l e R s m args below meth c H locs cells slots Q (F0 m pc ls (.ref (a 0) :: rest)) := by
  exact wCallVi (As := []) (rest := rest) (mc := 0) (ms := 0) 0 hC (met_X0_provesNow l D dT a H.size X vs post hw) (lw_V q707 q709 qs36 q85 q710) ⟨⟨rfl, rfl⟩, hd_X0_provesNow, hR, hf⟩ XW_0 rfl rfl hA hS.self hl rfl hrest hdg (fun r u H1 locs1 hp hS1 => kk r H1 locs1 hp.2 (by have h9 := hS.back hS1; rw [hp.1] at h9; exact h9))
end
/-! LeastFrames.turn -/
def w_X0_turn (X : XS) (p1 : Int32) (p2 : Int32) (p3 : Int32) (post : Int32 → Prop) : Prop :=
  vp_in p1 5 ∧ (vp_in p2 5 ∧ (vp_in p3 5 ∧ (v_J3_signum ((((X_px X p2.toNatClampNeg) - (X_px X p1.toNatClampNeg)) * ((X_py X p3.toNatClampNeg) - (X_py X p1.toNatClampNeg))) - (((X_py X p2.toNatClampNeg) - (X_py X p1.toNatClampNeg)) * ((X_px X p3.toNatClampNeg) - (X_px X p1.toNatClampNeg)))) (fun r4 => post r4))))
abbrev rmX0_turn : Room := { frames := 1, cells := 0, slots := 0, locals := 20 }
set_option maxHeartbeats 4000000 in
set_option maxRecDepth 100000 in
theorem k_X0_turn_0 {p : Program} {l : Launch} {e : Env} {s : State} {m : MethodId} {args : Array Value} {below : List Frame} {meth : Method} {c : Code} {D : va_G} {dT : Nat → ClassId} {a : Nat → Nat} {A : Nat → Prop} {vs0 : XE} {X : XS} {p1 : Int32} {p2 : Int32} {p3 : Int32} {post : Int32 → Prop} (hC : wCx RX0 cX0_turn 7 (some .int) D dT p s m args meth c) (hA : wAz A s) {H : Heap} {locs : List Loc} {ls : Array Slot} (hS : StX D dT a A s vs0 X vs0 H locs) (hl : lv_has ls 7 [(0, .ref (a 0)), (1, .int p1), (2, .int p2), (3, .int p3)])  (hw : w_X0_turn X p1 p2 p3 post) : W p l e rmX0_turn s m args below meth c H locs 0 0 (MQ below (va_Qi (fun r u9 => u9 = (X, vs0) ∧ post r) (wB D (XW dT a) (XI vs0) A) A) args s 0 0 A) (F0 m 0 ls []) := by
  have hx := hC.1
  have hb := hC.2.1
  have hown := hC.2.2.2.1
  have hts := hC.2.2.2.2.1
  unfold w_X0_turn at hw
  refine lv_aload_n hx hb dX0_turn_0 rfl (lv_at hl 0 rfl) ?_
  refine ld_q193 hC hS dX0_turn_1 ?_
  refine lv_iload_n hx hb dX0_turn_4 rfl (lv_at hl 1 rfl) ?_
  have hi1 := hw.1
  have hw := hw.2
  refine aa_PA hC hS hi1 dX0_turn_5 ?_
  refine lv_astore (lv' := [(4, .ref (a (2 + p1.toNatClampNeg))), (0, .ref (a 0)), (1, .int p1), (2, .int p2), (3, .int p3)]) hx hb dX0_turn_6 hl (by decide) rfl (fun ls hl => ?_)
  refine lv_aload_n hx hb dX0_turn_8 rfl (lv_at hl 1 rfl) ?_
  refine ld_q193 hC hS dX0_turn_9 ?_
  refine lv_iload_n hx hb dX0_turn_12 rfl (lv_at hl 3 rfl) ?_
  have hi2 := hw.1
  have hw := hw.2
  refine aa_PA hC hS hi2 dX0_turn_13 ?_
  refine lv_astore (lv' := [(5, .ref (a (2 + p2.toNatClampNeg))), (4, .ref (a (2 + p1.toNatClampNeg))), (0, .ref (a 0)), (1, .int p1), (2, .int p2), (3, .int p3)]) hx hb dX0_turn_14 hl (by decide) rfl (fun ls hl => ?_)
  refine lv_aload_n hx hb dX0_turn_16 rfl (lv_at hl 2 rfl) ?_
  refine ld_q193 hC hS dX0_turn_17 ?_
  refine lv_iload_n hx hb dX0_turn_20 rfl (lv_at hl 5 rfl) ?_
  have hi3 := hw.1
  have hw := hw.2
  refine aa_PA hC hS hi3 dX0_turn_21 ?_
  refine lv_astore (lv' := [(6, .ref (a (2 + p3.toNatClampNeg))), (5, .ref (a (2 + p2.toNatClampNeg))), (4, .ref (a (2 + p1.toNatClampNeg))), (0, .ref (a 0)), (1, .int p1), (2, .int p2), (3, .int p3)]) hx hb dX0_turn_22 hl (by decide) rfl (fun ls hl => ?_)
  refine lv_aload hx hb dX0_turn_24 (lv_at hl 1 rfl) ?_
  refine ld_q123 hC hS (vp_lt hi2) dX0_turn_26 ?_
  refine lv_aload hx hb dX0_turn_29 (lv_at hl 2 rfl) ?_
  refine ld_q123 hC hS (vp_lt hi1) dX0_turn_31 ?_
  refine lv_isub hx hb dX0_turn_34 ?_
  refine lv_aload hx hb dX0_turn_35 (lv_at hl 0 rfl) ?_
  refine ld_q125 hC hS (vp_lt hi3) dX0_turn_37 ?_
  refine lv_aload hx hb dX0_turn_40 (lv_at hl 2 rfl) ?_
  refine ld_q125 hC hS (vp_lt hi1) dX0_turn_42 ?_
  refine lv_isub hx hb dX0_turn_45 ?_
  refine lv_imul hx hb dX0_turn_46 ?_
  refine lv_aload hx hb dX0_turn_47 (lv_at hl 1 rfl) ?_
  refine ld_q125 hC hS (vp_lt hi2) dX0_turn_49 ?_
  refine lv_aload hx hb dX0_turn_52 (lv_at hl 2 rfl) ?_
  refine ld_q125 hC hS (vp_lt hi1) dX0_turn_54 ?_
  refine lv_isub hx hb dX0_turn_57 ?_
  refine lv_aload hx hb dX0_turn_58 (lv_at hl 0 rfl) ?_
  refine ld_q123 hC hS (vp_lt hi3) dX0_turn_60 ?_
  refine lv_aload hx hb dX0_turn_63 (lv_at hl 2 rfl) ?_
  refine ld_q123 hC hS (vp_lt hi1) dX0_turn_65 ?_
  refine lv_isub hx hb dX0_turn_68 ?_
  refine lv_imul hx hb dX0_turn_69 ?_
  refine lv_isub hx hb dX0_turn_70 ?_
  refine inv_q731 hC hS hl.1 hw ⟨Nat.le_of_ble_eq_true rfl, Nat.le_of_ble_eq_true rfl⟩ (Nat.le_of_ble_eq_true rfl) ⟨Nat.zero_le _, Nat.zero_le _⟩ dX0_turn_71 (fun r4 H locs hw hS => ?_)
  exact wReti hC hS ⟨rfl, hw⟩ (Nat.le_refl _) (Nat.le_refl _) dX0_turn_74
abbrev v_X0_turn (X : XS) (p1 : Int32) (p2 : Int32) (p3 : Int32) (post : Int32 → Prop) : Prop := w_X0_turn X p1 p2 p3 post
set_option maxHeartbeats 4000000 in
set_option maxRecDepth 100000 in
theorem met_X0_turn (l : Launch) (D : va_G) (dT : Nat → ClassId) (a : Nat → Nat) (sz : Nat) (X : XS) (vs0 : XE) (p1 : Int32) (p2 : Int32) (p3 : Int32) (post : Int32 → Prop) (hw : v_X0_turn X p1 p2 p3 post) : Met l yX0_turn (ws_ yX0_turn cX0_turn 7 (some .int)) rmX0_turn (wPc D dT (XW dT a) (XI vs0) sz (X, vs0) [.ref (a 0), .int p1, .int p2, .int p3]) (va_Qi (fun r u9 => u9 = (X, vs0) ∧ post r) (wB D (XW dT a) (XI vs0) (va_A ((XW dT a) (X, vs0)) sz)) (va_A ((XW dT a) (X, vs0)) sz)) 0 0 (va_A ((XW dT a) (X, vs0)) sz) :=
  wEnt (Q := fun A => (va_Qi (fun r u9 => u9 = (X, vs0) ∧ post r) (wB D (XW dT a) (XI vs0) A) A)) (by decide) (Nat.le_of_ble_eq_true rfl) (fun p e s m below meth c A ls hC _ hA hS hl => k_X0_turn_0 hC hA  hS hl hw) sz
theorem hd_X0_turn : yX0_turn.cls ≠ "java/lang/invoke/MethodHandle" ∧ yX0_turn.cls ≠ "java/lang/invoke/VarHandle" ∧ (parseMethodDescriptor yX0_turn.desc).map (fun d => d.parameters.length) = some 3 := by decide +kernel
section
variable {p : Program} {l : Launch} {e : Env} {R : Room} {s : State} {m : MethodId} {args : Array Value} {below : List Frame} {meth : Method} {c : Code} {H : Heap} {locs : List Loc} {cells slots : Nat} {Q : State → Prop} {cc : ByteArray} {nL : Nat} {ret : Option FieldType} {pc : Nat} {ls : Array Slot} {rest : List Value}
set_option maxHeartbeats 4000000 in
set_option maxRecDepth 100000 in
theorem inv_q727 {D : va_G} {dT : Nat → ClassId} {a : Nat → Nat} {A : Nat → Prop} {vs0 : XE} {vs : XE} {X : XS} {p1 : Int32} {p2 : Int32} {p3 : Int32} {post : Int32 → Prop} (hC : wCx RX0 cc nL ret D dT p s m args meth c) (hA : wAz A s) (hS : StX D dT a A s vs0 X vs H locs) (hl : ls.size = nL) (hw : v_X0_turn X p1 p2 p3 post) (hR : rmX0_turn.frames + 1 ≤ R.frames ∧ 8 + (7 + 11) + rmX0_turn.locals ≤ R.locals) (hrest : (rest.map fun v => v.category).sum ≤ 8) (hf : cells ≤ R.cells ∧ slots ≤ R.slots) (hdg : decode cc pc = .ok (.invokevirtual 304, 3)) (kk : ∀ (r : Int32) (H1 : Heap) (locs1 : List Loc), post r → StX D dT a A s vs0 X vs H1 locs1 → W p l e R s m args below meth c H1 locs1 cells slots Q (F0 m (pc + 3) ls (.int r :: rest))) : W p l e R s m args below meth c H locs cells slots Q (F0 m pc ls (.int p3 :: .int p2 :: .int p1 :: .ref (a 0) :: rest)) := by
  exact wCallVi (As := [.int p1, .int p2, .int p3]) (rest := rest) (mc := 0) (ms := 0) 0 hC (met_X0_turn l D dT a H.size X vs p1 p2 p3 post hw) (lw_V q727 q729 qs39 q85 q730) ⟨⟨rfl, rfl⟩, hd_X0_turn, hR, hf⟩ XW_0 rfl rfl hA hS.self hl rfl hrest hdg (fun r u H1 locs1 hp hS1 => kk r H1 locs1 hp.2 (by have h9 := hS.back hS1; rw [hp.1] at h9; exact h9))
end
/-! LeastFrames.crosses -/
def w_X0_crosses (X : XS) (p1 : Int32) (p2 : Int32) (post : Int32 → Prop) : Prop :=
  v_X0_lesser p1 (fun r1 => v_X0_greater p1 (fun r2 => v_X0_lesser p2 (fun r3 => v_X0_greater p2 (fun r4 => v_X0_turn X r1 r2 r3 (fun r5 => v_X0_turn X r1 r2 r4 (fun r6 => ((0 : Int32) ≤ (r5 * r6) → (post (0 : Int32))) ∧ (¬ (0 : Int32) ≤ (r5 * r6) → (v_X0_turn X r3 r4 r1 (fun r8 => v_X0_turn X r3 r4 r2 (fun r9 => ((0 : Int32) ≤ (r8 * r9) → (post (0 : Int32))) ∧ (¬ (0 : Int32) ≤ (r8 * r9) → (post (1 : Int32)))))))))))))
abbrev rmX0_crosses : Room := { frames := 2, cells := 0, slots := 0, locals := 46 }
set_option maxHeartbeats 4000000 in
set_option maxRecDepth 100000 in
theorem k_X0_crosses_0 {p : Program} {l : Launch} {e : Env} {s : State} {m : MethodId} {args : Array Value} {below : List Frame} {meth : Method} {c : Code} {D : va_G} {dT : Nat → ClassId} {a : Nat → Nat} {A : Nat → Prop} {vs0 : XE} {X : XS} {p1 : Int32} {p2 : Int32} {post : Int32 → Prop} (hC : wCx RX0 cX0_crosses 7 (some .boolean) D dT p s m args meth c) (hA : wAz A s) {H : Heap} {locs : List Loc} {ls : Array Slot} (hS : StX D dT a A s vs0 X vs0 H locs) (hl : lv_has ls 7 [(0, .ref (a 0)), (1, .int p1), (2, .int p2)])  (hw : w_X0_crosses X p1 p2 post) : W p l e rmX0_crosses s m args below meth c H locs 0 0 (MQ below (va_Qi (fun r u9 => u9 = (X, vs0) ∧ post r) (wB D (XW dT a) (XI vs0) A) A) args s 0 0 A) (F0 m 0 ls []) := by
  have hx := hC.1
  have hb := hC.2.1
  have hown := hC.2.2.2.1
  have hts := hC.2.2.2.2.1
  unfold w_X0_crosses at hw
  refine lv_iload_n hx hb dX0_crosses_0 rfl (lv_at hl 1 rfl) ?_
  refine inv_q323 hC hS hl.1 hw ⟨Nat.le_of_ble_eq_true rfl, Nat.le_of_ble_eq_true rfl⟩ (Nat.le_of_ble_eq_true rfl) ⟨Nat.zero_le _, Nat.zero_le _⟩ dX0_crosses_1 (fun r1 H locs hw hS => ?_)
  refine lv_istore_n (lv' := [(3, .int r1), (0, .ref (a 0)), (1, .int p1), (2, .int p2)]) hx hb dX0_crosses_4 rfl hl (by decide) rfl (fun ls hl => ?_)
  refine lv_iload_n hx hb dX0_crosses_5 rfl (lv_at hl 2 rfl) ?_
  refine inv_q326 hC hS hl.1 hw ⟨Nat.le_of_ble_eq_true rfl, Nat.le_of_ble_eq_true rfl⟩ (Nat.le_of_ble_eq_true rfl) ⟨Nat.zero_le _, Nat.zero_le _⟩ dX0_crosses_6 (fun r2 H locs hw hS => ?_)
  refine lv_istore (lv' := [(4, .int r2), (3, .int r1), (0, .ref (a 0)), (1, .int p1), (2, .int p2)]) hx hb dX0_crosses_9 hl (by decide) rfl (fun ls hl => ?_)
  refine lv_iload_n hx hb dX0_crosses_11 rfl (lv_at hl 4 rfl) ?_
  refine inv_q323 hC hS hl.1 hw ⟨Nat.le_of_ble_eq_true rfl, Nat.le_of_ble_eq_true rfl⟩ (Nat.le_of_ble_eq_true rfl) ⟨Nat.zero_le _, Nat.zero_le _⟩ dX0_crosses_12 (fun r3 H locs hw hS => ?_)
  refine lv_istore (lv' := [(5, .int r3), (4, .int r2), (3, .int r1), (0, .ref (a 0)), (1, .int p1), (2, .int p2)]) hx hb dX0_crosses_15 hl (by decide) rfl (fun ls hl => ?_)
  refine lv_iload_n hx hb dX0_crosses_17 rfl (lv_at hl 5 rfl) ?_
  refine inv_q326 hC hS hl.1 hw ⟨Nat.le_of_ble_eq_true rfl, Nat.le_of_ble_eq_true rfl⟩ (Nat.le_of_ble_eq_true rfl) ⟨Nat.zero_le _, Nat.zero_le _⟩ dX0_crosses_18 (fun r4 H locs hw hS => ?_)
  refine lv_istore (lv' := [(6, .int r4), (5, .int r3), (4, .int r2), (3, .int r1), (0, .ref (a 0)), (1, .int p1), (2, .int p2)]) hx hb dX0_crosses_21 hl (by decide) rfl (fun ls hl => ?_)
  refine lv_aload_n hx hb dX0_crosses_23 rfl (lv_at hl 4 rfl) ?_
  refine lv_iload_n hx hb dX0_crosses_24 rfl (lv_at hl 3 rfl) ?_
  refine lv_iload hx hb dX0_crosses_25 (lv_at hl 2 rfl) ?_
  refine lv_iload hx hb dX0_crosses_27 (lv_at hl 1 rfl) ?_
  refine inv_q727 hC hA hS hl.1 hw ⟨Nat.le_of_ble_eq_true rfl, Nat.le_of_ble_eq_true rfl⟩ (Nat.le_of_ble_eq_true rfl) ⟨Nat.zero_le _, Nat.zero_le _⟩ dX0_crosses_29 (fun r5 H locs hw hS => ?_)
  refine lv_aload_n hx hb dX0_crosses_32 rfl (lv_at hl 4 rfl) ?_
  refine lv_iload_n hx hb dX0_crosses_33 rfl (lv_at hl 3 rfl) ?_
  refine lv_iload hx hb dX0_crosses_34 (lv_at hl 2 rfl) ?_
  refine lv_iload hx hb dX0_crosses_36 (lv_at hl 0 rfl) ?_
  refine inv_q727 hC hA hS hl.1 hw ⟨Nat.le_of_ble_eq_true rfl, Nat.le_of_ble_eq_true rfl⟩ (Nat.le_of_ble_eq_true rfl) ⟨Nat.zero_le _, Nat.zero_le _⟩ dX0_crosses_38 (fun r6 H locs hw hS => ?_)
  refine lv_imul hx hb dX0_crosses_41 ?_
  refine lv_if_ge (tgt := 72) hx hb dX0_crosses_42 (by decide) (fun c7 => ?_) (fun c7 => ?_)
  · have hw := hw.1 c7
    refine lv_iconst (v := 0) hx hb dX0_crosses_72 (by decide) ?_
    exact wRetz hC hS (by decide) ⟨rfl, hw⟩ (Nat.le_refl _) (Nat.le_refl _) dX0_crosses_73
  · have hw := hw.2 c7
    refine lv_aload_n hx hb dX0_crosses_45 rfl (lv_at hl 4 rfl) ?_
    refine lv_iload hx hb dX0_crosses_46 (lv_at hl 1 rfl) ?_
    refine lv_iload hx hb dX0_crosses_48 (lv_at hl 0 rfl) ?_
    refine lv_iload_n hx hb dX0_crosses_50 rfl (lv_at hl 3 rfl) ?_
    refine inv_q727 hC hA hS hl.1 hw ⟨Nat.le_of_ble_eq_true rfl, Nat.le_of_ble_eq_true rfl⟩ (Nat.le_of_ble_eq_true rfl) ⟨Nat.zero_le _, Nat.zero_le _⟩ dX0_crosses_51 (fun r8 H locs hw hS => ?_)
    refine lv_aload_n hx hb dX0_crosses_54 rfl (lv_at hl 4 rfl) ?_
    refine lv_iload hx hb dX0_crosses_55 (lv_at hl 1 rfl) ?_
    refine lv_iload hx hb dX0_crosses_57 (lv_at hl 0 rfl) ?_
    refine lv_iload hx hb dX0_crosses_59 (lv_at hl 2 rfl) ?_
    refine inv_q727 hC hA hS hl.1 hw ⟨Nat.le_of_ble_eq_true rfl, Nat.le_of_ble_eq_true rfl⟩ (Nat.le_of_ble_eq_true rfl) ⟨Nat.zero_le _, Nat.zero_le _⟩ dX0_crosses_61 (fun r9 H locs hw hS => ?_)
    refine lv_imul hx hb dX0_crosses_64 ?_
    refine lv_if_ge (tgt := 72) hx hb dX0_crosses_65 (by decide) (fun c10 => ?_) (fun c10 => ?_)
    · have hw := hw.1 c10
      refine lv_iconst (v := 0) hx hb dX0_crosses_72 (by decide) ?_
      exact wRetz hC hS (by decide) ⟨rfl, hw⟩ (Nat.le_refl _) (Nat.le_refl _) dX0_crosses_73
    · have hw := hw.2 c10
      refine lv_iconst (v := 1) hx hb dX0_crosses_68 (by decide) ?_
      refine lv_goto (tgt := 73) hx hb dX0_crosses_69 (by decide) ?_
      exact wRetz hC hS (by decide) ⟨rfl, hw⟩ (Nat.le_refl _) (Nat.le_refl _) dX0_crosses_73
abbrev v_X0_crosses (X : XS) (p1 : Int32) (p2 : Int32) (post : Int32 → Prop) : Prop := w_X0_crosses X p1 p2 post
set_option maxHeartbeats 4000000 in
set_option maxRecDepth 100000 in
theorem met_X0_crosses (l : Launch) (D : va_G) (dT : Nat → ClassId) (a : Nat → Nat) (sz : Nat) (X : XS) (vs0 : XE) (p1 : Int32) (p2 : Int32) (post : Int32 → Prop) (hw : v_X0_crosses X p1 p2 post) : Met l yX0_crosses (ws_ yX0_crosses cX0_crosses 7 (some .boolean)) rmX0_crosses (wPc D dT (XW dT a) (XI vs0) sz (X, vs0) [.ref (a 0), .int p1, .int p2]) (va_Qi (fun r u9 => u9 = (X, vs0) ∧ post r) (wB D (XW dT a) (XI vs0) (va_A ((XW dT a) (X, vs0)) sz)) (va_A ((XW dT a) (X, vs0)) sz)) 0 0 (va_A ((XW dT a) (X, vs0)) sz) :=
  wEnt (Q := fun A => (va_Qi (fun r u9 => u9 = (X, vs0) ∧ post r) (wB D (XW dT a) (XI vs0) A) A)) (by decide) (Nat.le_of_ble_eq_true rfl) (fun p e s m below meth c A ls hC _ hA hS hl => k_X0_crosses_0 hC hA  hS hl hw) sz
theorem hd_X0_crosses : yX0_crosses.cls ≠ "java/lang/invoke/MethodHandle" ∧ yX0_crosses.cls ≠ "java/lang/invoke/VarHandle" ∧ (parseMethodDescriptor yX0_crosses.desc).map (fun d => d.parameters.length) = some 2 := by decide +kernel
section
variable {p : Program} {l : Launch} {e : Env} {R : Room} {s : State} {m : MethodId} {args : Array Value} {below : List Frame} {meth : Method} {c : Code} {H : Heap} {locs : List Loc} {cells slots : Nat} {Q : State → Prop} {cc : ByteArray} {nL : Nat} {ret : Option FieldType} {pc : Nat} {ls : Array Slot} {rest : List Value}
set_option maxHeartbeats 4000000 in
set_option maxRecDepth 100000 in
theorem inv_q723 {D : va_G} {dT : Nat → ClassId} {a : Nat → Nat} {A : Nat → Prop} {vs0 : XE} {vs : XE} {X : XS} {p1 : Int32} {p2 : Int32} {post : Int32 → Prop} (hC : wCx RX0 cc nL ret D dT p s m args meth c) (hA : wAz A s) (hS : StX D dT a A s vs0 X vs H locs) (hl : ls.size = nL) (hw : v_X0_crosses X p1 p2 post) (hR : rmX0_crosses.frames + 1 ≤ R.frames ∧ 8 + (7 + 11) + rmX0_crosses.locals ≤ R.locals) (hrest : (rest.map fun v => v.category).sum ≤ 8) (hf : cells ≤ R.cells ∧ slots ≤ R.slots) (hdg : decode cc pc = .ok (.invokevirtual 308, 3)) (kk : ∀ (r : Int32) (H1 : Heap) (locs1 : List Loc), post r → StX D dT a A s vs0 X vs H1 locs1 → W p l e R s m args below meth c H1 locs1 cells slots Q (F0 m (pc + 3) ls (.int r :: rest))) : W p l e R s m args below meth c H locs cells slots Q (F0 m pc ls (.int p2 :: .int p1 :: .ref (a 0) :: rest)) := by
  exact wCallVi (As := [.int p1, .int p2]) (rest := rest) (mc := 0) (ms := 0) 0 hC (met_X0_crosses l D dT a H.size X vs p1 p2 post hw) (lw_V q723 q725 qs38 q85 q726) ⟨⟨rfl, rfl⟩, hd_X0_crosses, hR, hf⟩ XW_0 rfl rfl hA hS.self hl rfl hrest hdg (fun r u H1 locs1 hp hS1 => kk r H1 locs1 hp.2 (by have h9 := hS.back hS1; rw [hp.1] at h9; exact h9))
end
/-! LeastFrames.crossed -/
def w_X0_crossed_15b (p1 : Int32) (K4 : XS → Int32 → Int32 → Prop) (K15 : XS → Int32 → Int32 → Int32 → Prop) (post : Int32 → XS → Prop) (X : XS) (x2 : Int32) (x3 : Int32) (x4 : Int32) : Prop :=
  ((10 : Int32) ≤ x4 → (∀ v2 : Int32, v2 = x3 + 1 → (K4 X x2 v2))) ∧ (¬ (10 : Int32) ≤ x4 → (v_X0_isIn (X_frame X) x3 (fun r3 => (r3 = (0 : Int32) → (∀ v5 : Int32, v5 = x4 + 1 → (K15 X x2 x3 v5))) ∧ (¬ r3 = (0 : Int32) → (v_X0_isIn (X_frame X) x4 (fun r6 => (r6 = (0 : Int32) → (∀ v8 : Int32, v8 = x4 + 1 → (K15 X x2 x3 v8))) ∧ (¬ r6 = (0 : Int32) → (v_X0_crosses X x3 x4 (fun r9 => (r9 = (0 : Int32) → (∀ v16 : Int32, v16 = x4 + 1 → (K15 X x2 x3 v16))) ∧ (¬ r9 = (0 : Int32) → (∀ X11 : XS, X11 = sX_first X x3 → (∀ X12 : XS, X12 = sX_second X11 x4 → ((x2 = (0 : Int32) → (post (1 : Int32) X12)) ∧ (¬ x2 = (0 : Int32) → (∀ v14 : Int32, v14 = x2 + (-1) → (∀ v15 : Int32, v15 = x4 + 1 → (K15 X12 v14 x3 v15)))))))))))))))))
def w_X0_crossed_15 (p1 : Int32) (K4 : XS → Int32 → Int32 → Prop) (post : Int32 → XS → Prop) : Nat → XS → Int32 → Int32 → Int32 → Prop
  | 0, _, _, _, _ => False
  | n + 1, X, x2, x3, x4 => w_X0_crossed_15b p1 K4 (w_X0_crossed_15 p1 K4 post n) post X x2 x3 x4
def w_X0_crossed_4b (p1 : Int32) (K4 : XS → Int32 → Int32 → Prop) (post : Int32 → XS → Prop) (X : XS) (x2 : Int32) (x3 : Int32) : Prop :=
  ((10 : Int32) ≤ x3 → (post (0 : Int32) X)) ∧ (¬ (10 : Int32) ≤ x3 → (∀ v2 : Int32, v2 = x3 + 1 → (∃ n, w_X0_crossed_15 p1 K4 post n X x2 x3 v2)))
def w_X0_crossed_4 (p1 : Int32) (post : Int32 → XS → Prop) : Nat → XS → Int32 → Int32 → Prop
  | 0, _, _, _ => False
  | n + 1, X, x2, x3 => w_X0_crossed_4b p1 (w_X0_crossed_4 p1 post n) post X x2 x3
def w_X0_crossed (p1 : Int32) (post : Int32 → XS → Prop) (X : XS) : Prop :=
  ∃ n, w_X0_crossed_4 p1 post n X p1 0
abbrev rmX0_crossed : Room := { frames := 3, cells := 0, slots := 0, locals := 72 }
set_option maxHeartbeats 4000000 in
set_option maxRecDepth 100000 in
theorem k_X0_crossed_15b {p : Program} {l : Launch} {e : Env} {s : State} {m : MethodId} {args : Array Value} {below : List Frame} {meth : Method} {c : Code} {D : va_G} {dT : Nat → ClassId} {a : Nat → Nat} {A : Nat → Prop} {vs0 : XE} {p1 : Int32} {K4 : XS → Int32 → Int32 → Prop} {K15 : XS → Int32 → Int32 → Int32 → Prop} {post : Int32 → XS → Prop} (hC : wCx RX0 cX0_crossed 5 (some .boolean) D dT p s m args meth c) (hA : wAz A s) (hK4 : ∀ (X : XS) (x2 : Int32) (x3 : Int32), K4 X x2 x3 → ∀ {vs : XE} {H : Heap} {locs : List Loc} {ls : Array Slot}, StX D dT a A s vs0 X vs H locs → lv_has ls 5 [(0, .ref (a 0)), (2, .int x2), (3, .int x3)] → W p l e rmX0_crossed s m args below meth c H locs 0 0 (MQ below (va_Qi (fun r u9 => post r u9.1) (wB D (XW dT a) (XI vs0) A) A) args s 0 0 A) (F0 m 4 ls [])) (hK15 : ∀ (X : XS) (x2 : Int32) (x3 : Int32) (x4 : Int32), K15 X x2 x3 x4 → ∀ {vs : XE} {H : Heap} {locs : List Loc} {ls : Array Slot}, StX D dT a A s vs0 X vs H locs → lv_has ls 5 [(0, .ref (a 0)), (2, .int x2), (3, .int x3), (4, .int x4)] → W p l e rmX0_crossed s m args below meth c H locs 0 0 (MQ below (va_Qi (fun r u9 => post r u9.1) (wB D (XW dT a) (XI vs0) A) A) args s 0 0 A) (F0 m 15 ls [])) (X : XS) (x2 : Int32) (x3 : Int32) (x4 : Int32) {vs : XE} {H : Heap} {locs : List Loc} {ls : Array Slot} (hS : StX D dT a A s vs0 X vs H locs) (hl : lv_has ls 5 [(0, .ref (a 0)), (2, .int x2), (3, .int x3), (4, .int x4)])  (hw : w_X0_crossed_15b p1 K4 K15 post X x2 x3 x4) : W p l e rmX0_crossed s m args below meth c H locs 0 0 (MQ below (va_Qi (fun r u9 => post r u9.1) (wB D (XW dT a) (XI vs0) A) A) args s 0 0 A) (F0 m 15 ls []) := by
  have hx := hC.1
  have hb := hC.2.1
  have hown := hC.2.2.2.1
  have hts := hC.2.2.2.2.1
  unfold w_X0_crossed_15b at hw
  refine lv_iload hx hb dX0_crossed_15 (lv_at hl 3 rfl) ?_
  refine lv_bipush (v := 10) hx hb dX0_crossed_17 (by decide) ?_
  refine lv_icmp_ge (tgt := 84) hx hb dX0_crossed_19 (by decide) (fun c1 => ?_) (fun c1 => ?_)
  · have hw := hw.1 c1
    obtain ⟨v2, ev2⟩ : ∃ y : Int32, y = x3 + 1 := ⟨_, rfl⟩
    have hw := hw v2 ev2
    refine lv_iinc (v := v2) (lv' := [(3, .int v2), (0, .ref (a 0)), (2, .int x2), (4, .int x4)]) hx hb dX0_crossed_84 hl (k := 2) rfl (by rw [ev2]; rfl) (by decide) rfl (fun ls hl => ?_)
    refine lv_goto (tgt := 4) hx hb dX0_crossed_87 (by decide) ?_
    exact hK4 _ _ _ hw hS (lv_sub hl [1, 2, 0] rfl)
  · have hw := hw.2 c1
    refine lv_aload_n hx hb dX0_crossed_22 rfl (lv_at hl 0 rfl) ?_
    refine ld_q201 hC hS dX0_crossed_23 ?_
    refine lv_iload_n hx hb dX0_crossed_26 rfl (lv_at hl 2 rfl) ?_
    refine inv_q341 hC hS hl.1 hw ⟨Nat.le_of_ble_eq_true rfl, Nat.le_of_ble_eq_true rfl⟩ (Nat.le_of_ble_eq_true rfl) ⟨Nat.zero_le _, Nat.zero_le _⟩ dX0_crossed_27 (fun r3 H locs hw hS => ?_)
    refine lv_if_eq (tgt := 78) hx hb dX0_crossed_30 (by decide) (fun c4 => ?_) (fun c4 => ?_)
    · have hw := hw.1 c4
      obtain ⟨v5, ev5⟩ : ∃ y : Int32, y = x4 + 1 := ⟨_, rfl⟩
      have hw := hw v5 ev5
      refine lv_iinc (v := v5) (lv' := [(4, .int v5), (0, .ref (a 0)), (2, .int x2), (3, .int x3)]) hx hb dX0_crossed_78 hl (k := 3) rfl (by rw [ev5]; rfl) (by decide) rfl (fun ls hl => ?_)
      refine lv_goto (tgt := 15) hx hb dX0_crossed_81 (by decide) ?_
      exact hK15 _ _ _ _ hw hS (lv_sub hl [1, 2, 3, 0] rfl)
    · have hw := hw.2 c4
      refine lv_aload_n hx hb dX0_crossed_33 rfl (lv_at hl 0 rfl) ?_
      refine ld_q201 hC hS dX0_crossed_34 ?_
      refine lv_iload hx hb dX0_crossed_37 (lv_at hl 3 rfl) ?_
      refine inv_q341 hC hS hl.1 hw ⟨Nat.le_of_ble_eq_true rfl, Nat.le_of_ble_eq_true rfl⟩ (Nat.le_of_ble_eq_true rfl) ⟨Nat.zero_le _, Nat.zero_le _⟩ dX0_crossed_39 (fun r6 H locs hw hS => ?_)
      refine lv_if_eq (tgt := 78) hx hb dX0_crossed_42 (by decide) (fun c7 => ?_) (fun c7 => ?_)
      · have hw := hw.1 c7
        obtain ⟨v8, ev8⟩ : ∃ y : Int32, y = x4 + 1 := ⟨_, rfl⟩
        have hw := hw v8 ev8
        refine lv_iinc (v := v8) (lv' := [(4, .int v8), (0, .ref (a 0)), (2, .int x2), (3, .int x3)]) hx hb dX0_crossed_78 hl (k := 3) rfl (by rw [ev8]; rfl) (by decide) rfl (fun ls hl => ?_)
        refine lv_goto (tgt := 15) hx hb dX0_crossed_81 (by decide) ?_
        exact hK15 _ _ _ _ hw hS (lv_sub hl [1, 2, 3, 0] rfl)
      · have hw := hw.2 c7
        refine lv_aload_n hx hb dX0_crossed_45 rfl (lv_at hl 0 rfl) ?_
        refine lv_iload_n hx hb dX0_crossed_46 rfl (lv_at hl 2 rfl) ?_
        refine lv_iload hx hb dX0_crossed_47 (lv_at hl 3 rfl) ?_
        refine inv_q723 hC hA hS hl.1 hw ⟨Nat.le_of_ble_eq_true rfl, Nat.le_of_ble_eq_true rfl⟩ (Nat.le_of_ble_eq_true rfl) ⟨Nat.zero_le _, Nat.zero_le _⟩ dX0_crossed_49 (fun r9 H locs hw hS => ?_)
        refine lv_if_ne (tgt := 58) hx hb dX0_crossed_52 (by decide) (fun c10 => ?_) (fun c10 => ?_)
        · have hw := hw.2 c10
          refine lv_aload_n hx hb dX0_crossed_58 rfl (lv_at hl 0 rfl) ?_
          refine lv_iload_n hx hb dX0_crossed_59 rfl (lv_at hl 2 rfl) ?_
          refine st_q204 hC hS dX0_crossed_60 (fun H locs hS => ?_)
          have hw := hw (sX_first X x3) rfl
          generalize sX_first X x3 = X11 at hS hw
          refine lv_aload_n hx hb dX0_crossed_63 rfl (lv_at hl 0 rfl) ?_
          refine lv_iload hx hb dX0_crossed_64 (lv_at hl 3 rfl) ?_
          refine st_q205 hC hS dX0_crossed_66 (fun H locs hS => ?_)
          have hw := hw (sX_second X11 x4) rfl
          generalize sX_second X11 x4 = X12 at hS hw
          refine lv_iload_n hx hb dX0_crossed_69 rfl (lv_at hl 1 rfl) ?_
          refine lv_if_ne (tgt := 75) hx hb dX0_crossed_70 (by decide) (fun c13 => ?_) (fun c13 => ?_)
          · have hw := hw.2 c13
            obtain ⟨v14, ev14⟩ : ∃ y : Int32, y = x2 + (-1) := ⟨_, rfl⟩
            have hw := hw v14 ev14
            refine lv_iinc (v := v14) (lv' := [(2, .int v14), (0, .ref (a 0)), (3, .int x3), (4, .int x4)]) hx hb dX0_crossed_75 hl (k := 1) rfl (by rw [ev14]; rfl) (by decide) rfl (fun ls hl => ?_)
            obtain ⟨v15, ev15⟩ : ∃ y : Int32, y = x4 + 1 := ⟨_, rfl⟩
            have hw := hw v15 ev15
            refine lv_iinc (v := v15) (lv' := [(4, .int v15), (2, .int v14), (0, .ref (a 0)), (3, .int x3)]) hx hb dX0_crossed_78 hl (k := 3) rfl (by rw [ev15]; rfl) (by decide) rfl (fun ls hl => ?_)
            refine lv_goto (tgt := 15) hx hb dX0_crossed_81 (by decide) ?_
            exact hK15 _ _ _ _ hw hS (lv_sub hl [2, 1, 3, 0] rfl)
          · have hw := hw.1 c13
            refine lv_iconst (v := 1) hx hb dX0_crossed_73 (by decide) ?_
            exact wRetz hC hS (by decide) hw (Nat.le_refl _) (Nat.le_refl _) dX0_crossed_74
        · have hw := hw.1 c10
          refine lv_goto (tgt := 78) hx hb dX0_crossed_55 (by decide) ?_
          obtain ⟨v16, ev16⟩ : ∃ y : Int32, y = x4 + 1 := ⟨_, rfl⟩
          have hw := hw v16 ev16
          refine lv_iinc (v := v16) (lv' := [(4, .int v16), (0, .ref (a 0)), (2, .int x2), (3, .int x3)]) hx hb dX0_crossed_78 hl (k := 3) rfl (by rw [ev16]; rfl) (by decide) rfl (fun ls hl => ?_)
          refine lv_goto (tgt := 15) hx hb dX0_crossed_81 (by decide) ?_
          exact hK15 _ _ _ _ hw hS (lv_sub hl [1, 2, 3, 0] rfl)
set_option maxHeartbeats 4000000 in
set_option maxRecDepth 100000 in
theorem k_X0_crossed_15 {p : Program} {l : Launch} {e : Env} {s : State} {m : MethodId} {args : Array Value} {below : List Frame} {meth : Method} {c : Code} {D : va_G} {dT : Nat → ClassId} {a : Nat → Nat} {A : Nat → Prop} {vs0 : XE} {p1 : Int32} {K4 : XS → Int32 → Int32 → Prop} {post : Int32 → XS → Prop} (hC : wCx RX0 cX0_crossed 5 (some .boolean) D dT p s m args meth c) (hA : wAz A s) (hK4 : ∀ (X : XS) (x2 : Int32) (x3 : Int32), K4 X x2 x3 → ∀ {vs : XE} {H : Heap} {locs : List Loc} {ls : Array Slot}, StX D dT a A s vs0 X vs H locs → lv_has ls 5 [(0, .ref (a 0)), (2, .int x2), (3, .int x3)] → W p l e rmX0_crossed s m args below meth c H locs 0 0 (MQ below (va_Qi (fun r u9 => post r u9.1) (wB D (XW dT a) (XI vs0) A) A) args s 0 0 A) (F0 m 4 ls [])) : ∀ (X : XS) (x2 : Int32) (x3 : Int32) (x4 : Int32) (n : Nat), ∀ {vs : XE} {H : Heap} {locs : List Loc} {ls : Array Slot}, StX D dT a A s vs0 X vs H locs → lv_has ls 5 [(0, .ref (a 0)), (2, .int x2), (3, .int x3), (4, .int x4)] → w_X0_crossed_15 p1 K4 post n X x2 x3 x4 → W p l e rmX0_crossed s m args below meth c H locs 0 0 (MQ below (va_Qi (fun r u9 => post r u9.1) (wB D (XW dT a) (XI vs0) A) A) args s 0 0 A) (F0 m 15 ls []) := by
  intro X x2 x3 x4 n
  induction n generalizing X x2 x3 x4 with
  | zero => intro vs H locs ls  hS hl hw; exact hw.elim
  | succ n ih =>
    intro vs H locs ls  hS hl hw
    exact k_X0_crossed_15b hC hA hK4 (fun X x2 x3 x4 hk {vs} {H} {locs} {ls}  hS hl => ih X x2 x3 x4  hS hl hk) X x2 x3 x4  hS hl hw
set_option maxHeartbeats 4000000 in
set_option maxRecDepth 100000 in
theorem k_X0_crossed_4b {p : Program} {l : Launch} {e : Env} {s : State} {m : MethodId} {args : Array Value} {below : List Frame} {meth : Method} {c : Code} {D : va_G} {dT : Nat → ClassId} {a : Nat → Nat} {A : Nat → Prop} {vs0 : XE} {p1 : Int32} {K4 : XS → Int32 → Int32 → Prop} {post : Int32 → XS → Prop} (hC : wCx RX0 cX0_crossed 5 (some .boolean) D dT p s m args meth c) (hA : wAz A s) (hK4 : ∀ (X : XS) (x2 : Int32) (x3 : Int32), K4 X x2 x3 → ∀ {vs : XE} {H : Heap} {locs : List Loc} {ls : Array Slot}, StX D dT a A s vs0 X vs H locs → lv_has ls 5 [(0, .ref (a 0)), (2, .int x2), (3, .int x3)] → W p l e rmX0_crossed s m args below meth c H locs 0 0 (MQ below (va_Qi (fun r u9 => post r u9.1) (wB D (XW dT a) (XI vs0) A) A) args s 0 0 A) (F0 m 4 ls [])) (X : XS) (x2 : Int32) (x3 : Int32) {vs : XE} {H : Heap} {locs : List Loc} {ls : Array Slot} (hS : StX D dT a A s vs0 X vs H locs) (hl : lv_has ls 5 [(0, .ref (a 0)), (2, .int x2), (3, .int x3)])  (hw : w_X0_crossed_4b p1 K4 post X x2 x3) : W p l e rmX0_crossed s m args below meth c H locs 0 0 (MQ below (va_Qi (fun r u9 => post r u9.1) (wB D (XW dT a) (XI vs0) A) A) args s 0 0 A) (F0 m 4 ls []) := by
  have hx := hC.1
  have hb := hC.2.1
  have hown := hC.2.2.2.1
  have hts := hC.2.2.2.2.1
  unfold w_X0_crossed_4b at hw
  refine lv_iload_n hx hb dX0_crossed_4 rfl (lv_at hl 2 rfl) ?_
  refine lv_bipush (v := 10) hx hb dX0_crossed_5 (by decide) ?_
  refine lv_icmp_ge (tgt := 90) hx hb dX0_crossed_7 (by decide) (fun c1 => ?_) (fun c1 => ?_)
  · have hw := hw.1 c1
    refine lv_iconst (v := 0) hx hb dX0_crossed_90 (by decide) ?_
    exact wRetz hC hS (by decide) hw (Nat.le_refl _) (Nat.le_refl _) dX0_crossed_91
  · have hw := hw.2 c1
    refine lv_iload_n hx hb dX0_crossed_10 rfl (lv_at hl 2 rfl) ?_
    refine lv_iconst (v := 1) hx hb dX0_crossed_11 (by decide) ?_
    refine lv_iadd hx hb dX0_crossed_12 ?_
    refine lv_topi (fun v2 ev2 => ?_)
    have hw := hw v2 ev2
    refine lv_istore (lv' := [(4, .int v2), (0, .ref (a 0)), (2, .int x2), (3, .int x3)]) hx hb dX0_crossed_13 hl (by decide) rfl (fun ls hl => ?_)
    obtain ⟨n, hw⟩ := hw
    exact k_X0_crossed_15 hC hA hK4 _ _ _ _ n hS (lv_sub hl [1, 2, 3, 0] rfl) hw
set_option maxHeartbeats 4000000 in
set_option maxRecDepth 100000 in
theorem k_X0_crossed_4 {p : Program} {l : Launch} {e : Env} {s : State} {m : MethodId} {args : Array Value} {below : List Frame} {meth : Method} {c : Code} {D : va_G} {dT : Nat → ClassId} {a : Nat → Nat} {A : Nat → Prop} {vs0 : XE} {p1 : Int32} {post : Int32 → XS → Prop} (hC : wCx RX0 cX0_crossed 5 (some .boolean) D dT p s m args meth c) (hA : wAz A s) : ∀ (X : XS) (x2 : Int32) (x3 : Int32) (n : Nat), ∀ {vs : XE} {H : Heap} {locs : List Loc} {ls : Array Slot}, StX D dT a A s vs0 X vs H locs → lv_has ls 5 [(0, .ref (a 0)), (2, .int x2), (3, .int x3)] → w_X0_crossed_4 p1 post n X x2 x3 → W p l e rmX0_crossed s m args below meth c H locs 0 0 (MQ below (va_Qi (fun r u9 => post r u9.1) (wB D (XW dT a) (XI vs0) A) A) args s 0 0 A) (F0 m 4 ls []) := by
  intro X x2 x3 n
  induction n generalizing X x2 x3 with
  | zero => intro vs H locs ls  hS hl hw; exact hw.elim
  | succ n ih =>
    intro vs H locs ls  hS hl hw
    exact k_X0_crossed_4b hC hA (fun X x2 x3 hk {vs} {H} {locs} {ls}  hS hl => ih X x2 x3  hS hl hk) X x2 x3  hS hl hw
set_option maxHeartbeats 4000000 in
set_option maxRecDepth 100000 in
theorem k_X0_crossed_0 {p : Program} {l : Launch} {e : Env} {s : State} {m : MethodId} {args : Array Value} {below : List Frame} {meth : Method} {c : Code} {D : va_G} {dT : Nat → ClassId} {a : Nat → Nat} {A : Nat → Prop} {vs0 : XE} {p1 : Int32} {post : Int32 → XS → Prop} (hC : wCx RX0 cX0_crossed 5 (some .boolean) D dT p s m args meth c) (hA : wAz A s) (X : XS) {vs : XE} {H : Heap} {locs : List Loc} {ls : Array Slot} (hS : StX D dT a A s vs0 X vs H locs) (hl : lv_has ls 5 [(0, .ref (a 0)), (1, .int p1)])  (hw : w_X0_crossed p1 post X) : W p l e rmX0_crossed s m args below meth c H locs 0 0 (MQ below (va_Qi (fun r u9 => post r u9.1) (wB D (XW dT a) (XI vs0) A) A) args s 0 0 A) (F0 m 0 ls []) := by
  have hx := hC.1
  have hb := hC.2.1
  have hown := hC.2.2.2.1
  have hts := hC.2.2.2.2.1
  unfold w_X0_crossed at hw
  refine lv_iload_n hx hb dX0_crossed_0 rfl (lv_at hl 1 rfl) ?_
  refine lv_istore_n (lv' := [(2, .int p1), (0, .ref (a 0)), (1, .int p1)]) hx hb dX0_crossed_1 rfl hl (by decide) rfl (fun ls hl => ?_)
  refine lv_iconst (v := 0) hx hb dX0_crossed_2 (by decide) ?_
  refine lv_istore_n (lv' := [(3, .int 0), (2, .int p1), (0, .ref (a 0)), (1, .int p1)]) hx hb dX0_crossed_3 rfl hl (by decide) rfl (fun ls hl => ?_)
  obtain ⟨n, hw⟩ := hw
  exact k_X0_crossed_4 hC hA _ _ _ n hS (lv_sub hl [2, 1, 0] rfl) hw
abbrev v_X0_crossed (X : XS) (p1 : Int32) (post : Int32 → XS → Prop) : Prop := w_X0_crossed p1 post X
set_option maxHeartbeats 4000000 in
set_option maxRecDepth 100000 in
theorem met_X0_crossed (l : Launch) (D : va_G) (dT : Nat → ClassId) (a : Nat → Nat) (sz : Nat) (X : XS) (vs0 : XE) (p1 : Int32) (post : Int32 → XS → Prop) (hw : v_X0_crossed X p1 post) : Met l yX0_crossed (ws_ yX0_crossed cX0_crossed 5 (some .boolean)) rmX0_crossed (wPc D dT (XW dT a) (XI vs0) sz (X, vs0) [.ref (a 0), .int p1]) (va_Qi (fun r u9 => post r u9.1) (wB D (XW dT a) (XI vs0) (va_A ((XW dT a) (X, vs0)) sz)) (va_A ((XW dT a) (X, vs0)) sz)) 0 0 (va_A ((XW dT a) (X, vs0)) sz) :=
  wEnt (Q := fun A => (va_Qi (fun r u9 => post r u9.1) (wB D (XW dT a) (XI vs0) A) A)) (by decide) (Nat.le_of_ble_eq_true rfl) (fun p e s m below meth c A ls hC _ hA hS hl => k_X0_crossed_0 hC hA _ hS hl hw) sz
theorem hd_X0_crossed : yX0_crossed.cls ≠ "java/lang/invoke/MethodHandle" ∧ yX0_crossed.cls ≠ "java/lang/invoke/VarHandle" ∧ (parseMethodDescriptor yX0_crossed.desc).map (fun d => d.parameters.length) = some 1 := by decide +kernel
section
variable {p : Program} {l : Launch} {e : Env} {R : Room} {s : State} {m : MethodId} {args : Array Value} {below : List Frame} {meth : Method} {c : Code} {H : Heap} {locs : List Loc} {cells slots : Nat} {Q : State → Prop} {cc : ByteArray} {nL : Nat} {ret : Option FieldType} {pc : Nat} {ls : Array Slot} {rest : List Value}
set_option maxHeartbeats 4000000 in
set_option maxRecDepth 100000 in
theorem inv_q719 {D : va_G} {dT : Nat → ClassId} {a : Nat → Nat} {A : Nat → Prop} {vs0 : XE} {vs : XE} {X : XS} {p1 : Int32} {post : Int32 → XS → Prop} (hC : wCx RX0 cc nL ret D dT p s m args meth c) (hA : wAz A s) (hS : StX D dT a A s vs0 X vs H locs) (hl : ls.size = nL) (hw : v_X0_crossed X p1 post) (hR : rmX0_crossed.frames + 1 ≤ R.frames ∧ 8 + (5 + 11) + rmX0_crossed.locals ≤ R.locals) (hrest : (rest.map fun v => v.category).sum ≤ 8) (hf : cells ≤ R.cells ∧ slots ≤ R.slots) (hdg : decode cc pc = .ok (.invokevirtual 322, 3)) (kk : ∀ (r : Int32) (X1 : XS) (vs1 : XE) (H1 : Heap) (locs1 : List Loc), post r X1 → (∀ v ∈ vs, v ∈ vs1) → StX D dT a A s vs0 X1 vs1 H1 locs1 → W p l e R s m args below meth c H1 locs1 cells slots Q (F0 m (pc + 3) ls (.int r :: rest))) : W p l e R s m args below meth c H locs cells slots Q (F0 m pc ls (.int p1 :: .ref (a 0) :: rest)) := by
  exact wCallVi (As := [.int p1]) (rest := rest) (mc := 0) (ms := 0) 0 hC (met_X0_crossed l D dT a H.size X vs p1 post hw) (lw_V q719 q721 qs37 q85 q722) ⟨⟨rfl, rfl⟩, hd_X0_crossed, hR, hf⟩ XW_0 rfl rfl hA hS.self hl rfl hrest hdg (fun r u H1 locs1 hp hS1 => kk r u.1 u.2 H1 locs1 hp hS1.2.2.2.2 (hS.back hS1))
end
/-! LeastFrames.placed -/
def w_X0_placed (X : XS) (p1 : Int32) (p2 : Int32) (post : Int64 → Prop) : Prop :=
  v_X0_lesser (X_first X) (fun r1 => vp_in r1 5 ∧ (v_X0_lesser (X_second X) (fun r3 => vp_in r3 5 ∧ (v_X0_far X (X_first X) (0 : Int32) (fun r5 => v_X0_far X (X_second X) (1 : Int32) (fun r6 => v_X0_far X (X_first X) (1 : Int32) (fun r7 => v_X0_far X (X_second X) (0 : Int32) (fun r8 => ∀ v9 : Int64, v9 = (r5.toInt64 * r6.toInt64) - ((r7 * r8).toInt64) → (v_X0_far X (X_second X) (1 : Int32) (fun r10 => v_X0_far X (X_second X) (0 : Int32) (fun r11 => ∀ v12 : Int64, v12 = ((((X_px X r3.toNatClampNeg) - (X_px X r1.toNatClampNeg)).toInt64) * r10.toInt64) - ((((X_py X r3.toNatClampNeg) - (X_py X r1.toNatClampNeg)) * r11).toInt64) → (v_X1_at X r1.toNatClampNeg p1 (fun r13 => v_X0_far X (X_first X) p1 (fun r14 => ∀ v15 : Int64, v15 = (r13.toInt64 * v9) + (v12 * r14.toInt64) → (((0 : Int64) ≤ v9 → (v_X0_part v15 v9 p2 (fun r17 => post r17))) ∧ (¬ (0 : Int64) ≤ v9 → (v_X0_part (-v15) (-v9) p2 (fun r18 => post r18))))))))))))))))))
abbrev rmX0_placed : Room := { frames := 3, cells := 0, slots := 0, locals := 74 }
set_option maxHeartbeats 4000000 in
set_option maxRecDepth 100000 in
theorem k_X0_placed_0 {p : Program} {l : Launch} {e : Env} {s : State} {m : MethodId} {args : Array Value} {below : List Frame} {meth : Method} {c : Code} {D : va_G} {dT : Nat → ClassId} {a : Nat → Nat} {A : Nat → Prop} {vs0 : XE} {X : XS} {p1 : Int32} {p2 : Int32} {post : Int64 → Prop} (hC : wCx RX0 cX0_placed 11 (some .long) D dT p s m args meth c) (hA : wAz A s) {H : Heap} {locs : List Loc} {ls : Array Slot} (hS : StX D dT a A s vs0 X vs0 H locs) (hl : lv_has ls 11 [(0, .ref (a 0)), (1, .int p1), (2, .int p2)])  (hw : w_X0_placed X p1 p2 post) : W p l e rmX0_placed s m args below meth c H locs 0 0 (MQ below (va_Ql (fun r u9 => u9 = (X, vs0) ∧ post r) (wB D (XW dT a) (XI vs0) A) A) args s 0 0 A) (F0 m 0 ls []) := by
  have hx := hC.1
  have hb := hC.2.1
  have hown := hC.2.2.2.1
  have hts := hC.2.2.2.2.1
  unfold w_X0_placed at hw
  refine lv_aload_n hx hb dX0_placed_0 rfl (lv_at hl 0 rfl) ?_
  refine ld_q193 hC hS dX0_placed_1 ?_
  refine lv_aload_n hx hb dX0_placed_4 rfl (lv_at hl 0 rfl) ?_
  refine ld_q204 hC hS dX0_placed_5 ?_
  refine inv_q323 hC hS hl.1 hw ⟨Nat.le_of_ble_eq_true rfl, Nat.le_of_ble_eq_true rfl⟩ (Nat.le_of_ble_eq_true rfl) ⟨Nat.zero_le _, Nat.zero_le _⟩ dX0_placed_8 (fun r1 H locs hw hS => ?_)
  have hi2 := hw.1
  have hw := hw.2
  refine aa_PA hC hS hi2 dX0_placed_11 ?_
  refine lv_astore_n (lv' := [(3, .ref (a (2 + r1.toNatClampNeg))), (0, .ref (a 0)), (1, .int p1), (2, .int p2)]) hx hb dX0_placed_12 rfl hl (by decide) rfl (fun ls hl => ?_)
  refine lv_aload_n hx hb dX0_placed_13 rfl (lv_at hl 1 rfl) ?_
  refine ld_q193 hC hS dX0_placed_14 ?_
  refine lv_aload_n hx hb dX0_placed_17 rfl (lv_at hl 1 rfl) ?_
  refine ld_q205 hC hS dX0_placed_18 ?_
  refine inv_q323 hC hS hl.1 hw ⟨Nat.le_of_ble_eq_true rfl, Nat.le_of_ble_eq_true rfl⟩ (Nat.le_of_ble_eq_true rfl) ⟨Nat.zero_le _, Nat.zero_le _⟩ dX0_placed_21 (fun r3 H locs hw hS => ?_)
  have hi4 := hw.1
  have hw := hw.2
  refine aa_PA hC hS hi4 dX0_placed_24 ?_
  refine lv_astore (lv' := [(4, .ref (a (2 + r3.toNatClampNeg))), (3, .ref (a (2 + r1.toNatClampNeg))), (0, .ref (a 0)), (1, .int p1), (2, .int p2)]) hx hb dX0_placed_25 hl (by decide) rfl (fun ls hl => ?_)
  refine lv_aload_n hx hb dX0_placed_27 rfl (lv_at hl 2 rfl) ?_
  refine lv_aload_n hx hb dX0_placed_28 rfl (lv_at hl 2 rfl) ?_
  refine ld_q204 hC hS dX0_placed_29 ?_
  refine lv_iconst (v := 0) hx hb dX0_placed_32 (by decide) ?_
  refine inv_q333 hC hA hS hl.1 hw ⟨Nat.le_of_ble_eq_true rfl, Nat.le_of_ble_eq_true rfl⟩ (Nat.le_of_ble_eq_true rfl) ⟨Nat.zero_le _, Nat.zero_le _⟩ dX0_placed_33 (fun r5 H locs hw hS => ?_)
  refine lv_i2l hx hb dX0_placed_36 rfl ?_
  refine lv_aload_n hx hb dX0_placed_37 rfl (lv_at hl 2 rfl) ?_
  refine lv_aload_n hx hb dX0_placed_38 rfl (lv_at hl 2 rfl) ?_
  refine ld_q205 hC hS dX0_placed_39 ?_
  refine lv_iconst (v := 1) hx hb dX0_placed_42 (by decide) ?_
  refine inv_q333 hC hA hS hl.1 hw ⟨Nat.le_of_ble_eq_true rfl, Nat.le_of_ble_eq_true rfl⟩ (Nat.le_of_ble_eq_true rfl) ⟨Nat.zero_le _, Nat.zero_le _⟩ dX0_placed_43 (fun r6 H locs hw hS => ?_)
  refine lv_i2l hx hb dX0_placed_46 rfl ?_
  refine lv_lmul hx hb dX0_placed_47 ?_
  refine lv_aload_n hx hb dX0_placed_48 rfl (lv_at hl 2 rfl) ?_
  refine lv_aload_n hx hb dX0_placed_49 rfl (lv_at hl 2 rfl) ?_
  refine ld_q204 hC hS dX0_placed_50 ?_
  refine lv_iconst (v := 1) hx hb dX0_placed_53 (by decide) ?_
  refine inv_q333 hC hA hS hl.1 hw ⟨Nat.le_of_ble_eq_true rfl, Nat.le_of_ble_eq_true rfl⟩ (Nat.le_of_ble_eq_true rfl) ⟨Nat.zero_le _, Nat.zero_le _⟩ dX0_placed_54 (fun r7 H locs hw hS => ?_)
  refine lv_aload_n hx hb dX0_placed_57 rfl (lv_at hl 2 rfl) ?_
  refine lv_aload_n hx hb dX0_placed_58 rfl (lv_at hl 2 rfl) ?_
  refine ld_q205 hC hS dX0_placed_59 ?_
  refine lv_iconst (v := 0) hx hb dX0_placed_62 (by decide) ?_
  refine inv_q333 hC hA hS hl.1 hw ⟨Nat.le_of_ble_eq_true rfl, Nat.le_of_ble_eq_true rfl⟩ (Nat.le_of_ble_eq_true rfl) ⟨Nat.zero_le _, Nat.zero_le _⟩ dX0_placed_63 (fun r8 H locs hw hS => ?_)
  refine lv_imul hx hb dX0_placed_66 ?_
  refine lv_i2l hx hb dX0_placed_67 rfl ?_
  refine lv_lsub hx hb dX0_placed_68 ?_
  refine lv_topl (fun v9 ev9 => ?_)
  have hw := hw v9 ev9
  refine lv_lstore (lv' := [(5, .long v9), (4, .ref (a (2 + r3.toNatClampNeg))), (3, .ref (a (2 + r1.toNatClampNeg))), (0, .ref (a 0)), (1, .int p1), (2, .int p2)]) hx hb dX0_placed_69 hl (by decide) rfl (fun ls hl => ?_)
  refine lv_aload hx hb dX0_placed_71 (lv_at hl 1 rfl) ?_
  refine ld_q123 hC hS (vp_lt hi4) dX0_placed_73 ?_
  refine lv_aload_n hx hb dX0_placed_76 rfl (lv_at hl 2 rfl) ?_
  refine ld_q123 hC hS (vp_lt hi2) dX0_placed_77 ?_
  refine lv_isub hx hb dX0_placed_80 ?_
  refine lv_i2l hx hb dX0_placed_81 rfl ?_
  refine lv_aload_n hx hb dX0_placed_82 rfl (lv_at hl 3 rfl) ?_
  refine lv_aload_n hx hb dX0_placed_83 rfl (lv_at hl 3 rfl) ?_
  refine ld_q205 hC hS dX0_placed_84 ?_
  refine lv_iconst (v := 1) hx hb dX0_placed_87 (by decide) ?_
  refine inv_q333 hC hA hS hl.1 hw ⟨Nat.le_of_ble_eq_true rfl, Nat.le_of_ble_eq_true rfl⟩ (Nat.le_of_ble_eq_true rfl) ⟨Nat.zero_le _, Nat.zero_le _⟩ dX0_placed_88 (fun r10 H locs hw hS => ?_)
  refine lv_i2l hx hb dX0_placed_91 rfl ?_
  refine lv_lmul hx hb dX0_placed_92 ?_
  refine lv_aload hx hb dX0_placed_93 (lv_at hl 1 rfl) ?_
  refine ld_q125 hC hS (vp_lt hi4) dX0_placed_95 ?_
  refine lv_aload_n hx hb dX0_placed_98 rfl (lv_at hl 2 rfl) ?_
  refine ld_q125 hC hS (vp_lt hi2) dX0_placed_99 ?_
  refine lv_isub hx hb dX0_placed_102 ?_
  refine lv_aload_n hx hb dX0_placed_103 rfl (lv_at hl 3 rfl) ?_
  refine lv_aload_n hx hb dX0_placed_104 rfl (lv_at hl 3 rfl) ?_
  refine ld_q205 hC hS dX0_placed_105 ?_
  refine lv_iconst (v := 0) hx hb dX0_placed_108 (by decide) ?_
  refine inv_q333 hC hA hS hl.1 hw ⟨Nat.le_of_ble_eq_true rfl, Nat.le_of_ble_eq_true rfl⟩ (Nat.le_of_ble_eq_true rfl) ⟨Nat.zero_le _, Nat.zero_le _⟩ dX0_placed_109 (fun r11 H locs hw hS => ?_)
  refine lv_imul hx hb dX0_placed_112 ?_
  refine lv_i2l hx hb dX0_placed_113 rfl ?_
  refine lv_lsub hx hb dX0_placed_114 ?_
  refine lv_topl (fun v12 ev12 => ?_)
  have hw := hw v12 ev12
  refine lv_lstore (lv' := [(7, .long v12), (5, .long v9), (4, .ref (a (2 + r3.toNatClampNeg))), (3, .ref (a (2 + r1.toNatClampNeg))), (0, .ref (a 0)), (1, .int p1), (2, .int p2)]) hx hb dX0_placed_115 hl (by decide) rfl (fun ls hl => ?_)
  refine lv_aload_n hx hb dX0_placed_117 rfl (lv_at hl 3 rfl) ?_
  refine lv_iload_n hx hb dX0_placed_118 rfl (lv_at hl 5 rfl) ?_
  refine inv_q337 hC hA hS (vp_lt hi2) hl.1 hw ⟨Nat.le_of_ble_eq_true rfl, Nat.le_of_ble_eq_true rfl⟩ (Nat.le_of_ble_eq_true rfl) ⟨Nat.zero_le _, Nat.zero_le _⟩ dX0_placed_119 (fun r13 H locs hw hS => ?_)
  refine lv_i2l hx hb dX0_placed_122 rfl ?_
  refine lv_lload hx hb dX0_placed_123 (lv_at hl 1 rfl) ?_
  refine lv_lmul hx hb dX0_placed_125 ?_
  refine lv_lload hx hb dX0_placed_126 (lv_at hl 0 rfl) ?_
  refine lv_aload_n hx hb dX0_placed_128 rfl (lv_at hl 4 rfl) ?_
  refine lv_aload_n hx hb dX0_placed_129 rfl (lv_at hl 4 rfl) ?_
  refine ld_q204 hC hS dX0_placed_130 ?_
  refine lv_iload_n hx hb dX0_placed_133 rfl (lv_at hl 5 rfl) ?_
  refine inv_q333 hC hA hS hl.1 hw ⟨Nat.le_of_ble_eq_true rfl, Nat.le_of_ble_eq_true rfl⟩ (Nat.le_of_ble_eq_true rfl) ⟨Nat.zero_le _, Nat.zero_le _⟩ dX0_placed_134 (fun r14 H locs hw hS => ?_)
  refine lv_i2l hx hb dX0_placed_137 rfl ?_
  refine lv_lmul hx hb dX0_placed_138 ?_
  refine lv_ladd hx hb dX0_placed_139 ?_
  refine lv_topl (fun v15 ev15 => ?_)
  have hw := hw v15 ev15
  refine lv_lstore (lv' := [(9, .long v15), (7, .long v12), (5, .long v9), (4, .ref (a (2 + r3.toNatClampNeg))), (3, .ref (a (2 + r1.toNatClampNeg))), (0, .ref (a 0)), (1, .int p1), (2, .int p2)]) hx hb dX0_placed_140 hl (by decide) rfl (fun ls hl => ?_)
  refine lv_lload hx hb dX0_placed_142 (lv_at hl 2 rfl) ?_
  refine lv_lconst (v := 0) hx hb dX0_placed_144 (by decide) ?_
  refine lc_if_ge (tgt := 162) hx hb dX0_placed_145 dX0_placed_146 (by decide) (fun c16 => ?_) (fun c16 => ?_)
  · have hw := hw.1 c16
    refine lv_lload hx hb dX0_placed_162 (lv_at hl 0 rfl) ?_
    refine lv_lload hx hb dX0_placed_164 (lv_at hl 2 rfl) ?_
    refine lv_iload_n hx hb dX0_placed_166 rfl (lv_at hl 7 rfl) ?_
    refine inv_q555 hC hS hl.1 hw ⟨Nat.le_of_ble_eq_true rfl, Nat.le_of_ble_eq_true rfl⟩ (Nat.le_of_ble_eq_true rfl) ⟨Nat.zero_le _, Nat.zero_le _⟩ dX0_placed_167 (fun r17 H locs hw hS => ?_)
    exact wRetl hC hS ⟨rfl, hw⟩ (Nat.le_refl _) (Nat.le_refl _) dX0_placed_170
  · have hw := hw.2 c16
    refine lv_lload hx hb dX0_placed_149 (lv_at hl 0 rfl) ?_
    refine lv_lneg hx hb dX0_placed_151 ?_
    refine lv_lload hx hb dX0_placed_152 (lv_at hl 2 rfl) ?_
    refine lv_lneg hx hb dX0_placed_154 ?_
    refine lv_iload_n hx hb dX0_placed_155 rfl (lv_at hl 7 rfl) ?_
    refine inv_q555 hC hS hl.1 hw ⟨Nat.le_of_ble_eq_true rfl, Nat.le_of_ble_eq_true rfl⟩ (Nat.le_of_ble_eq_true rfl) ⟨Nat.zero_le _, Nat.zero_le _⟩ dX0_placed_156 (fun r18 H locs hw hS => ?_)
    refine lv_goto (tgt := 170) hx hb dX0_placed_159 (by decide) ?_
    exact wRetl hC hS ⟨rfl, hw⟩ (Nat.le_refl _) (Nat.le_refl _) dX0_placed_170
abbrev v_X0_placed (X : XS) (p1 : Int32) (p2 : Int32) (post : Int64 → Prop) : Prop := w_X0_placed X p1 p2 post
set_option maxHeartbeats 4000000 in
set_option maxRecDepth 100000 in
theorem met_X0_placed (l : Launch) (D : va_G) (dT : Nat → ClassId) (a : Nat → Nat) (sz : Nat) (X : XS) (vs0 : XE) (p1 : Int32) (p2 : Int32) (post : Int64 → Prop) (hw : v_X0_placed X p1 p2 post) : Met l yX0_placed (ws_ yX0_placed cX0_placed 11 (some .long)) rmX0_placed (wPc D dT (XW dT a) (XI vs0) sz (X, vs0) [.ref (a 0), .int p1, .int p2]) (va_Ql (fun r u9 => u9 = (X, vs0) ∧ post r) (wB D (XW dT a) (XI vs0) (va_A ((XW dT a) (X, vs0)) sz)) (va_A ((XW dT a) (X, vs0)) sz)) 0 0 (va_A ((XW dT a) (X, vs0)) sz) :=
  wEnt (Q := fun A => (va_Ql (fun r u9 => u9 = (X, vs0) ∧ post r) (wB D (XW dT a) (XI vs0) A) A)) (by decide) (Nat.le_of_ble_eq_true rfl) (fun p e s m below meth c A ls hC _ hA hS hl => k_X0_placed_0 hC hA  hS hl hw) sz
theorem hd_X0_placed : yX0_placed.cls ≠ "java/lang/invoke/MethodHandle" ∧ yX0_placed.cls ≠ "java/lang/invoke/VarHandle" ∧ (parseMethodDescriptor yX0_placed.desc).map (fun d => d.parameters.length) = some 2 := by decide +kernel
section
variable {p : Program} {l : Launch} {e : Env} {R : Room} {s : State} {m : MethodId} {args : Array Value} {below : List Frame} {meth : Method} {c : Code} {H : Heap} {locs : List Loc} {cells slots : Nat} {Q : State → Prop} {cc : ByteArray} {nL : Nat} {ret : Option FieldType} {pc : Nat} {ls : Array Slot} {rest : List Value}
set_option maxHeartbeats 4000000 in
set_option maxRecDepth 100000 in
theorem inv_q738 {D : va_G} {dT : Nat → ClassId} {a : Nat → Nat} {A : Nat → Prop} {vs0 : XE} {vs : XE} {X : XS} {p1 : Int32} {p2 : Int32} {post : Int64 → Prop} (hC : wCx RX0 cc nL ret D dT p s m args meth c) (hA : wAz A s) (hS : StX D dT a A s vs0 X vs H locs) (hl : ls.size = nL) (hw : v_X0_placed X p1 p2 post) (hR : rmX0_placed.frames + 1 ≤ R.frames ∧ 8 + (11 + 11) + rmX0_placed.locals ≤ R.locals) (hrest : (rest.map fun v => v.category).sum ≤ 8) (hf : cells ≤ R.cells ∧ slots ≤ R.slots) (hdg : decode cc pc = .ok (.invokevirtual 317, 3)) (kk : ∀ (r : Int64) (H1 : Heap) (locs1 : List Loc), post r → StX D dT a A s vs0 X vs H1 locs1 → W p l e R s m args below meth c H1 locs1 cells slots Q (F0 m (pc + 3) ls (.long r :: rest))) : W p l e R s m args below meth c H locs cells slots Q (F0 m pc ls (.int p2 :: .int p1 :: .ref (a 0) :: rest)) := by
  exact wCallVl (As := [.int p1, .int p2]) (rest := rest) (mc := 0) (ms := 0) 0 hC (met_X0_placed l D dT a H.size X vs p1 p2 post hw) (lw_V q738 q740 qs41 q85 q741) ⟨⟨rfl, rfl⟩, hd_X0_placed, hR, hf⟩ XW_0 rfl rfl hA hS.self hl rfl hrest hdg (fun r u H1 locs1 hp hS1 => kk r H1 locs1 hp.2 (by have h9 := hS.back hS1; rw [hp.1] at h9; exact h9))
end
/-! LeastFrames.crossBy -/
def w_X0_crossBy (X : XS) (p1 : Int32) (post : Int32 → Prop) : Prop :=
  ((p1 = 0 → (post (X_first X))) ∧ (¬ p1 = 0 → ((p1 = 1 → (post (X_second X))) ∧ (¬ p1 = 1 → (v_X0_placed X ((p1 / 2) - 1) (p1 - p1 / 2 * 2) (fun r2 => post r2.toInt32))))))
abbrev rmX0_crossBy : Room := { frames := 4, cells := 0, slots := 0, locals := 104 }
set_option maxHeartbeats 4000000 in
set_option maxRecDepth 100000 in
theorem k_X0_crossBy_0 {p : Program} {l : Launch} {e : Env} {s : State} {m : MethodId} {args : Array Value} {below : List Frame} {meth : Method} {c : Code} {D : va_G} {dT : Nat → ClassId} {a : Nat → Nat} {A : Nat → Prop} {vs0 : XE} {X : XS} {p1 : Int32} {post : Int32 → Prop} (hC : wCx RX0 cX0_crossBy 2 (some .int) D dT p s m args meth c) (hA : wAz A s) {H : Heap} {locs : List Loc} {ls : Array Slot} (hS : StX D dT a A s vs0 X vs0 H locs) (hl : lv_has ls 2 [(0, .ref (a 0)), (1, .int p1)])  (hw : w_X0_crossBy X p1 post) : W p l e rmX0_crossBy s m args below meth c H locs 0 0 (MQ below (va_Qi (fun r u9 => u9 = (X, vs0) ∧ post r) (wB D (XW dT a) (XI vs0) A) A) args s 0 0 A) (F0 m 0 ls []) := by
  have hx := hC.1
  have hb := hC.2.1
  have hown := hC.2.2.2.1
  have hts := hC.2.2.2.2.1
  unfold w_X0_crossBy at hw
  refine lv_iload_n hx hb dX0_crossBy_0 rfl (lv_at hl 1 rfl) ?_
  rcases Decidable.em (p1 = (0 : Int32)) with c1_0 | c1_0
  · have hw := hw.1 c1_0
    refine lv_lookup (off := 27) (tgt := 28) hx hb dX0_crossBy_1 (by decide) (by rw [c1_0]; decide) (by decide) ?_
    refine lv_aload_n hx hb dX0_crossBy_28 rfl (lv_at hl 0 rfl) ?_
    refine ld_q204 hC hS dX0_crossBy_29 ?_
    refine lv_goto (tgt := 55) hx hb dX0_crossBy_32 (by decide) ?_
    exact wReti hC hS ⟨rfl, hw⟩ (Nat.le_refl _) (Nat.le_refl _) dX0_crossBy_55
  have hw := hw.2 c1_0
  rcases Decidable.em (p1 = (1 : Int32)) with c1_1 | c1_1
  · have hw := hw.1 c1_1
    refine lv_lookup (off := 34) (tgt := 35) hx hb dX0_crossBy_1 (by decide) (by rw [c1_1]; decide) (by decide) ?_
    refine lv_aload_n hx hb dX0_crossBy_35 rfl (lv_at hl 0 rfl) ?_
    refine ld_q205 hC hS dX0_crossBy_36 ?_
    refine lv_goto (tgt := 55) hx hb dX0_crossBy_39 (by decide) ?_
    exact wReti hC hS ⟨rfl, hw⟩ (Nat.le_refl _) (Nat.le_refl _) dX0_crossBy_55
  have hw := hw.2 c1_1
  refine lv_lookup (off := 41) (tgt := 42) hx hb dX0_crossBy_1 (by decide) (sw_lk2 c1_0 c1_1) (by decide) ?_
  refine lv_aload_n hx hb dX0_crossBy_42 rfl (lv_at hl 0 rfl) ?_
  refine lv_iload_n hx hb dX0_crossBy_43 rfl (lv_at hl 1 rfl) ?_
  refine lv_iconst (v := 2) hx hb dX0_crossBy_44 (by decide) ?_
  refine lv_idiv hx hb dX0_crossBy_45 (by decide) ?_
  refine lv_iconst (v := 1) hx hb dX0_crossBy_46 (by decide) ?_
  refine lv_isub hx hb dX0_crossBy_47 ?_
  refine lv_iload_n hx hb dX0_crossBy_48 rfl (lv_at hl 1 rfl) ?_
  refine lv_iconst (v := 2) hx hb dX0_crossBy_49 (by decide) ?_
  refine lv_irem hx hb dX0_crossBy_50 (by decide) ?_
  refine inv_q738 hC hA hS hl.1 hw ⟨Nat.le_of_ble_eq_true rfl, Nat.le_of_ble_eq_true rfl⟩ (Nat.le_of_ble_eq_true rfl) ⟨Nat.zero_le _, Nat.zero_le _⟩ dX0_crossBy_51 (fun r2 H locs hw hS => ?_)
  refine lv_l2i hx hb dX0_crossBy_54 rfl ?_
  exact wReti hC hS ⟨rfl, hw⟩ (Nat.le_refl _) (Nat.le_refl _) dX0_crossBy_55
abbrev v_X0_crossBy (X : XS) (p1 : Int32) (post : Int32 → Prop) : Prop := w_X0_crossBy X p1 post
set_option maxHeartbeats 4000000 in
set_option maxRecDepth 100000 in
theorem met_X0_crossBy (l : Launch) (D : va_G) (dT : Nat → ClassId) (a : Nat → Nat) (sz : Nat) (X : XS) (vs0 : XE) (p1 : Int32) (post : Int32 → Prop) (hw : v_X0_crossBy X p1 post) : Met l yX0_crossBy (ws_ yX0_crossBy cX0_crossBy 2 (some .int)) rmX0_crossBy (wPc D dT (XW dT a) (XI vs0) sz (X, vs0) [.ref (a 0), .int p1]) (va_Qi (fun r u9 => u9 = (X, vs0) ∧ post r) (wB D (XW dT a) (XI vs0) (va_A ((XW dT a) (X, vs0)) sz)) (va_A ((XW dT a) (X, vs0)) sz)) 0 0 (va_A ((XW dT a) (X, vs0)) sz) :=
  wEnt (Q := fun A => (va_Qi (fun r u9 => u9 = (X, vs0) ∧ post r) (wB D (XW dT a) (XI vs0) A) A)) (by decide) (Nat.le_of_ble_eq_true rfl) (fun p e s m below meth c A ls hC _ hA hS hl => k_X0_crossBy_0 hC hA  hS hl hw) sz
theorem hd_X0_crossBy : yX0_crossBy.cls ≠ "java/lang/invoke/MethodHandle" ∧ yX0_crossBy.cls ≠ "java/lang/invoke/VarHandle" ∧ (parseMethodDescriptor yX0_crossBy.desc).map (fun d => d.parameters.length) = some 1 := by decide +kernel
section
variable {p : Program} {l : Launch} {e : Env} {R : Room} {s : State} {m : MethodId} {args : Array Value} {below : List Frame} {meth : Method} {c : Code} {H : Heap} {locs : List Loc} {cells slots : Nat} {Q : State → Prop} {cc : ByteArray} {nL : Nat} {ret : Option FieldType} {pc : Nat} {ls : Array Slot} {rest : List Value}
set_option maxHeartbeats 4000000 in
set_option maxRecDepth 100000 in
theorem inv_q734 {D : va_G} {dT : Nat → ClassId} {a : Nat → Nat} {A : Nat → Prop} {vs0 : XE} {vs : XE} {X : XS} {p1 : Int32} {post : Int32 → Prop} (hC : wCx RX0 cc nL ret D dT p s m args meth c) (hA : wAz A s) (hS : StX D dT a A s vs0 X vs H locs) (hl : ls.size = nL) (hw : v_X0_crossBy X p1 post) (hR : rmX0_crossBy.frames + 1 ≤ R.frames ∧ 8 + (2 + 11) + rmX0_crossBy.locals ≤ R.locals) (hrest : (rest.map fun v => v.category).sum ≤ 8) (hf : cells ≤ R.cells ∧ slots ≤ R.slots) (hdg : decode cc pc = .ok (.invokevirtual 325, 3)) (kk : ∀ (r : Int32) (H1 : Heap) (locs1 : List Loc), post r → StX D dT a A s vs0 X vs H1 locs1 → W p l e R s m args below meth c H1 locs1 cells slots Q (F0 m (pc + 3) ls (.int r :: rest))) : W p l e R s m args below meth c H locs cells slots Q (F0 m pc ls (.int p1 :: .ref (a 0) :: rest)) := by
  exact wCallVi (As := [.int p1]) (rest := rest) (mc := 0) (ms := 0) 0 hC (met_X0_crossBy l D dT a H.size X vs p1 post hw) (lw_V q734 q736 qs40 q85 q737) ⟨⟨rfl, rfl⟩, hd_X0_crossBy, hR, hf⟩ XW_0 rfl rfl hA hS.self hl rfl hrest hdg (fun r u H1 locs1 hp hS1 => kk r H1 locs1 hp.2 (by have h9 := hS.back hS1; rw [hp.1] at h9; exact h9))
end
/-! LeastFrames.waysNow -/
def w_X0_waysNow_4b (X : XS) (K4 : Int32 → Int32 → Prop) (post : Int32 → Prop) (x1 : Int32) (x2 : Int32) : Prop :=
  ((X_many X) ≤ x2 → (post x1)) ∧ (¬ (X_many X) ≤ x2 → (vp_in x2 5 ∧ (v_J3_bitCount (X_ph X x2.toNatClampNeg) (fun r3 => ∀ v4 : Int32, v4 = x1 + (2 - r3) → (∀ v5 : Int32, v5 = x2 + 1 → (K4 v4 v5))))))
def w_X0_waysNow_4 (X : XS) (post : Int32 → Prop) : Nat → Int32 → Int32 → Prop
  | 0, _, _ => False
  | n + 1, x1, x2 => w_X0_waysNow_4b X (w_X0_waysNow_4 X post n) post x1 x2
def w_X0_waysNow (X : XS) (post : Int32 → Prop) : Prop :=
  ∃ n, w_X0_waysNow_4 X post n 0 0
abbrev rmX0_waysNow : Room := { frames := 1, cells := 0, slots := 0, locals := 20 }
set_option maxHeartbeats 4000000 in
set_option maxRecDepth 100000 in
theorem k_X0_waysNow_4b {p : Program} {l : Launch} {e : Env} {s : State} {m : MethodId} {args : Array Value} {below : List Frame} {meth : Method} {c : Code} {D : va_G} {dT : Nat → ClassId} {a : Nat → Nat} {A : Nat → Prop} {vs0 : XE} {X : XS} {K4 : Int32 → Int32 → Prop} {post : Int32 → Prop} (hC : wCx RX0 cX0_waysNow 3 (some .int) D dT p s m args meth c) (hA : wAz A s) (hK4 : ∀ (x1 : Int32) (x2 : Int32), K4 x1 x2 → ∀ {H : Heap} {locs : List Loc} {ls : Array Slot}, StX D dT a A s vs0 X vs0 H locs → lv_has ls 3 [(0, .ref (a 0)), (1, .int x1), (2, .int x2)] → W p l e rmX0_waysNow s m args below meth c H locs 0 0 (MQ below (va_Qi (fun r u9 => u9 = (X, vs0) ∧ post r) (wB D (XW dT a) (XI vs0) A) A) args s 0 0 A) (F0 m 4 ls [])) (x1 : Int32) (x2 : Int32) {H : Heap} {locs : List Loc} {ls : Array Slot} (hS : StX D dT a A s vs0 X vs0 H locs) (hl : lv_has ls 3 [(0, .ref (a 0)), (1, .int x1), (2, .int x2)])  (hw : w_X0_waysNow_4b X K4 post x1 x2) : W p l e rmX0_waysNow s m args below meth c H locs 0 0 (MQ below (va_Qi (fun r u9 => u9 = (X, vs0) ∧ post r) (wB D (XW dT a) (XI vs0) A) A) args s 0 0 A) (F0 m 4 ls []) := by
  have hx := hC.1
  have hb := hC.2.1
  have hown := hC.2.2.2.1
  have hts := hC.2.2.2.2.1
  unfold w_X0_waysNow_4b at hw
  refine lv_iload_n hx hb dX0_waysNow_4 rfl (lv_at hl 2 rfl) ?_
  refine lv_aload_n hx hb dX0_waysNow_5 rfl (lv_at hl 0 rfl) ?_
  refine ld_q196 hC hS dX0_waysNow_6 ?_
  refine lv_icmp_ge (tgt := 35) hx hb dX0_waysNow_9 (by decide) (fun c1 => ?_) (fun c1 => ?_)
  · have hw := hw.1 c1
    refine lv_iload_n hx hb dX0_waysNow_35 rfl (lv_at hl 1 rfl) ?_
    exact wReti hC hS ⟨rfl, hw⟩ (Nat.le_refl _) (Nat.le_refl _) dX0_waysNow_36
  · have hw := hw.2 c1
    refine lv_iload_n hx hb dX0_waysNow_12 rfl (lv_at hl 1 rfl) ?_
    refine lv_iconst (v := 2) hx hb dX0_waysNow_13 (by decide) ?_
    refine lv_aload_n hx hb dX0_waysNow_14 rfl (lv_at hl 0 rfl) ?_
    refine ld_q193 hC hS dX0_waysNow_15 ?_
    refine lv_iload_n hx hb dX0_waysNow_18 rfl (lv_at hl 2 rfl) ?_
    have hi2 := hw.1
    have hw := hw.2
    refine aa_PA hC hS hi2 dX0_waysNow_19 ?_
    refine ld_q127 hC hS (vp_lt hi2) dX0_waysNow_20 ?_
    refine inv_q661 hC hS hl.1 hw ⟨Nat.le_of_ble_eq_true rfl, Nat.le_of_ble_eq_true rfl⟩ (Nat.le_of_ble_eq_true rfl) ⟨Nat.zero_le _, Nat.zero_le _⟩ dX0_waysNow_23 (fun r3 H locs hw hS => ?_)
    refine lv_isub hx hb dX0_waysNow_26 ?_
    refine lv_iadd hx hb dX0_waysNow_27 ?_
    refine lv_topi (fun v4 ev4 => ?_)
    have hw := hw v4 ev4
    refine lv_istore_n (lv' := [(1, .int v4), (0, .ref (a 0)), (2, .int x2)]) hx hb dX0_waysNow_28 rfl hl (by decide) rfl (fun ls hl => ?_)
    obtain ⟨v5, ev5⟩ : ∃ y : Int32, y = x2 + 1 := ⟨_, rfl⟩
    have hw := hw v5 ev5
    refine lv_iinc (v := v5) (lv' := [(2, .int v5), (1, .int v4), (0, .ref (a 0))]) hx hb dX0_waysNow_29 hl (k := 2) rfl (by rw [ev5]; rfl) (by decide) rfl (fun ls hl => ?_)
    refine lv_goto (tgt := 4) hx hb dX0_waysNow_32 (by decide) ?_
    exact hK4 _ _ hw hS (lv_sub hl [2, 1, 0] rfl)
set_option maxHeartbeats 4000000 in
set_option maxRecDepth 100000 in
theorem k_X0_waysNow_4 {p : Program} {l : Launch} {e : Env} {s : State} {m : MethodId} {args : Array Value} {below : List Frame} {meth : Method} {c : Code} {D : va_G} {dT : Nat → ClassId} {a : Nat → Nat} {A : Nat → Prop} {vs0 : XE} {X : XS} {post : Int32 → Prop} (hC : wCx RX0 cX0_waysNow 3 (some .int) D dT p s m args meth c) (hA : wAz A s) : ∀ (x1 : Int32) (x2 : Int32) (n : Nat), ∀ {H : Heap} {locs : List Loc} {ls : Array Slot}, StX D dT a A s vs0 X vs0 H locs → lv_has ls 3 [(0, .ref (a 0)), (1, .int x1), (2, .int x2)] → w_X0_waysNow_4 X post n x1 x2 → W p l e rmX0_waysNow s m args below meth c H locs 0 0 (MQ below (va_Qi (fun r u9 => u9 = (X, vs0) ∧ post r) (wB D (XW dT a) (XI vs0) A) A) args s 0 0 A) (F0 m 4 ls []) := by
  intro x1 x2 n
  induction n generalizing x1 x2 with
  | zero => intro H locs ls  hS hl hw; exact hw.elim
  | succ n ih =>
    intro H locs ls  hS hl hw
    exact k_X0_waysNow_4b hC hA (fun x1 x2 hk {H} {locs} {ls}  hS hl => ih x1 x2  hS hl hk) x1 x2  hS hl hw
set_option maxHeartbeats 4000000 in
set_option maxRecDepth 100000 in
theorem k_X0_waysNow_0 {p : Program} {l : Launch} {e : Env} {s : State} {m : MethodId} {args : Array Value} {below : List Frame} {meth : Method} {c : Code} {D : va_G} {dT : Nat → ClassId} {a : Nat → Nat} {A : Nat → Prop} {vs0 : XE} {X : XS} {post : Int32 → Prop} (hC : wCx RX0 cX0_waysNow 3 (some .int) D dT p s m args meth c) (hA : wAz A s) {H : Heap} {locs : List Loc} {ls : Array Slot} (hS : StX D dT a A s vs0 X vs0 H locs) (hl : lv_has ls 3 [(0, .ref (a 0))])  (hw : w_X0_waysNow X post) : W p l e rmX0_waysNow s m args below meth c H locs 0 0 (MQ below (va_Qi (fun r u9 => u9 = (X, vs0) ∧ post r) (wB D (XW dT a) (XI vs0) A) A) args s 0 0 A) (F0 m 0 ls []) := by
  have hx := hC.1
  have hb := hC.2.1
  have hown := hC.2.2.2.1
  have hts := hC.2.2.2.2.1
  unfold w_X0_waysNow at hw
  refine lv_iconst (v := 0) hx hb dX0_waysNow_0 (by decide) ?_
  refine lv_istore_n (lv' := [(1, .int 0), (0, .ref (a 0))]) hx hb dX0_waysNow_1 rfl hl (by decide) rfl (fun ls hl => ?_)
  refine lv_iconst (v := 0) hx hb dX0_waysNow_2 (by decide) ?_
  refine lv_istore_n (lv' := [(2, .int 0), (1, .int 0), (0, .ref (a 0))]) hx hb dX0_waysNow_3 rfl hl (by decide) rfl (fun ls hl => ?_)
  obtain ⟨n, hw⟩ := hw
  exact k_X0_waysNow_4 hC hA _ _ n hS (lv_sub hl [2, 1, 0] rfl) hw
abbrev v_X0_waysNow (X : XS) (post : Int32 → Prop) : Prop := w_X0_waysNow X post
set_option maxHeartbeats 4000000 in
set_option maxRecDepth 100000 in
theorem met_X0_waysNow (l : Launch) (D : va_G) (dT : Nat → ClassId) (a : Nat → Nat) (sz : Nat) (X : XS) (vs0 : XE) (post : Int32 → Prop) (hw : v_X0_waysNow X post) : Met l yX0_waysNow (ws_ yX0_waysNow cX0_waysNow 3 (some .int)) rmX0_waysNow (wPc D dT (XW dT a) (XI vs0) sz (X, vs0) [.ref (a 0)]) (va_Qi (fun r u9 => u9 = (X, vs0) ∧ post r) (wB D (XW dT a) (XI vs0) (va_A ((XW dT a) (X, vs0)) sz)) (va_A ((XW dT a) (X, vs0)) sz)) 0 0 (va_A ((XW dT a) (X, vs0)) sz) :=
  wEnt (Q := fun A => (va_Qi (fun r u9 => u9 = (X, vs0) ∧ post r) (wB D (XW dT a) (XI vs0) A) A)) (by decide) (Nat.le_of_ble_eq_true rfl) (fun p e s m below meth c A ls hC _ hA hS hl => k_X0_waysNow_0 hC hA  hS hl hw) sz
theorem hd_X0_waysNow : yX0_waysNow.cls ≠ "java/lang/invoke/MethodHandle" ∧ yX0_waysNow.cls ≠ "java/lang/invoke/VarHandle" ∧ (parseMethodDescriptor yX0_waysNow.desc).map (fun d => d.parameters.length) = some 0 := by decide +kernel
section
variable {p : Program} {l : Launch} {e : Env} {R : Room} {s : State} {m : MethodId} {args : Array Value} {below : List Frame} {meth : Method} {c : Code} {H : Heap} {locs : List Loc} {cells slots : Nat} {Q : State → Prop} {cc : ByteArray} {nL : Nat} {ret : Option FieldType} {pc : Nat} {ls : Array Slot} {rest : List Value}
set_option maxHeartbeats 4000000 in
set_option maxRecDepth 100000 in
theorem inv_q911 {D : va_G} {dT : Nat → ClassId} {a : Nat → Nat} {A : Nat → Prop} {vs0 : XE} {vs : XE} {X : XS} {post : Int32 → Prop} (hC : wCx RX0 cc nL ret D dT p s m args meth c) (hA : wAz A s) (hS : StX D dT a A s vs0 X vs H locs) (hl : ls.size = nL) (hw : v_X0_waysNow X post) (hR : rmX0_waysNow.frames + 1 ≤ R.frames ∧ 8 + (3 + 11) + rmX0_waysNow.locals ≤ R.locals) (hrest : (rest.map fun v => v.category).sum ≤ 8) (hf : cells ≤ R.cells ∧ slots ≤ R.slots) (hdg : decode cc pc = .ok (.invokevirtual 359, 3)) (kk : ∀ (r : Int32) (H1 : Heap) (locs1 : List Loc), post r → StX D dT a A s vs0 X vs H1 locs1 → W p l e R s m args below meth c H1 locs1 cells slots Q (F0 m (pc + 3) ls (.int r :: rest))) : W p l e R s m args below meth c H locs cells slots Q (F0 m pc ls (.ref (a 0) :: rest)) := by
  exact wCallVi (As := []) (rest := rest) (mc := 0) (ms := 0) 0 hC (met_X0_waysNow l D dT a H.size X vs post hw) (lw_V q911 q913 qs43 q85 q914) ⟨⟨rfl, rfl⟩, hd_X0_waysNow, hR, hf⟩ XW_0 rfl rfl hA hS.self hl rfl hrest hdg (fun r u H1 locs1 hp hS1 => kk r H1 locs1 hp.2 (by have h9 := hS.back hS1; rw [hp.1] at h9; exact h9))
end
/-! LeastFrames.crossings -/
def w_X0_crossings_2b (K2 : XS → Int32 → Prop) (post : Int32 → XS → Prop) (X : XS) (x1 : Int32) : Prop :=
  v_X0_crossed X x1 (fun r1 X2 => (r1 = (0 : Int32) → (post x1 X2)) ∧ (¬ r1 = (0 : Int32) → (∀ v4 : Int32, v4 = x1 + 1 → (K2 X2 v4))))
def w_X0_crossings_2 (post : Int32 → XS → Prop) : Nat → XS → Int32 → Prop
  | 0, _, _ => False
  | n + 1, X, x1 => w_X0_crossings_2b  (w_X0_crossings_2 post n) post X x1
def w_X0_crossings (post : Int32 → XS → Prop) (X : XS) : Prop :=
  ∃ n, w_X0_crossings_2 post n X 0
abbrev rmX0_crossings : Room := { frames := 4, cells := 0, slots := 0, locals := 96 }
set_option maxHeartbeats 4000000 in
set_option maxRecDepth 100000 in
theorem k_X0_crossings_2b {p : Program} {l : Launch} {e : Env} {s : State} {m : MethodId} {args : Array Value} {below : List Frame} {meth : Method} {c : Code} {D : va_G} {dT : Nat → ClassId} {a : Nat → Nat} {A : Nat → Prop} {vs0 : XE} {K2 : XS → Int32 → Prop} {post : Int32 → XS → Prop} (hC : wCx RX0 cX0_crossings 2 (some .int) D dT p s m args meth c) (hA : wAz A s) (hK2 : ∀ (X : XS) (x1 : Int32), K2 X x1 → ∀ {vs : XE} {H : Heap} {locs : List Loc} {ls : Array Slot}, StX D dT a A s vs0 X vs H locs → lv_has ls 2 [(0, .ref (a 0)), (1, .int x1)] → W p l e rmX0_crossings s m args below meth c H locs 0 0 (MQ below (va_Qi (fun r u9 => post r u9.1) (wB D (XW dT a) (XI vs0) A) A) args s 0 0 A) (F0 m 2 ls [])) (X : XS) (x1 : Int32) {vs : XE} {H : Heap} {locs : List Loc} {ls : Array Slot} (hS : StX D dT a A s vs0 X vs H locs) (hl : lv_has ls 2 [(0, .ref (a 0)), (1, .int x1)])  (hw : w_X0_crossings_2b K2 post X x1) : W p l e rmX0_crossings s m args below meth c H locs 0 0 (MQ below (va_Qi (fun r u9 => post r u9.1) (wB D (XW dT a) (XI vs0) A) A) args s 0 0 A) (F0 m 2 ls []) := by
  have hx := hC.1
  have hb := hC.2.1
  have hown := hC.2.2.2.1
  have hts := hC.2.2.2.2.1
  unfold w_X0_crossings_2b at hw
  refine lv_aload_n hx hb dX0_crossings_2 rfl (lv_at hl 0 rfl) ?_
  refine lv_iload_n hx hb dX0_crossings_3 rfl (lv_at hl 1 rfl) ?_
  refine inv_q719 hC hA hS hl.1 hw ⟨Nat.le_of_ble_eq_true rfl, Nat.le_of_ble_eq_true rfl⟩ (Nat.le_of_ble_eq_true rfl) ⟨Nat.zero_le _, Nat.zero_le _⟩ dX0_crossings_4 (fun r1 X2 vs H locs hw hv9 hS => ?_)
  refine lv_if_eq (tgt := 16) hx hb dX0_crossings_7 (by decide) (fun c3 => ?_) (fun c3 => ?_)
  · have hw := hw.1 c3
    refine lv_iload_n hx hb dX0_crossings_16 rfl (lv_at hl 1 rfl) ?_
    exact wReti hC hS hw (Nat.le_refl _) (Nat.le_refl _) dX0_crossings_17
  · have hw := hw.2 c3
    obtain ⟨v4, ev4⟩ : ∃ y : Int32, y = x1 + 1 := ⟨_, rfl⟩
    have hw := hw v4 ev4
    refine lv_iinc (v := v4) (lv' := [(1, .int v4), (0, .ref (a 0))]) hx hb dX0_crossings_10 hl (k := 1) rfl (by rw [ev4]; rfl) (by decide) rfl (fun ls hl => ?_)
    refine lv_goto (tgt := 2) hx hb dX0_crossings_13 (by decide) ?_
    exact hK2 _ _ hw hS (lv_sub hl [1, 0] rfl)
set_option maxHeartbeats 4000000 in
set_option maxRecDepth 100000 in
theorem k_X0_crossings_2 {p : Program} {l : Launch} {e : Env} {s : State} {m : MethodId} {args : Array Value} {below : List Frame} {meth : Method} {c : Code} {D : va_G} {dT : Nat → ClassId} {a : Nat → Nat} {A : Nat → Prop} {vs0 : XE} {post : Int32 → XS → Prop} (hC : wCx RX0 cX0_crossings 2 (some .int) D dT p s m args meth c) (hA : wAz A s) : ∀ (X : XS) (x1 : Int32) (n : Nat), ∀ {vs : XE} {H : Heap} {locs : List Loc} {ls : Array Slot}, StX D dT a A s vs0 X vs H locs → lv_has ls 2 [(0, .ref (a 0)), (1, .int x1)] → w_X0_crossings_2 post n X x1 → W p l e rmX0_crossings s m args below meth c H locs 0 0 (MQ below (va_Qi (fun r u9 => post r u9.1) (wB D (XW dT a) (XI vs0) A) A) args s 0 0 A) (F0 m 2 ls []) := by
  intro X x1 n
  induction n generalizing X x1 with
  | zero => intro vs H locs ls  hS hl hw; exact hw.elim
  | succ n ih =>
    intro vs H locs ls  hS hl hw
    exact k_X0_crossings_2b hC hA (fun X x1 hk {vs} {H} {locs} {ls}  hS hl => ih X x1  hS hl hk) X x1  hS hl hw
set_option maxHeartbeats 4000000 in
set_option maxRecDepth 100000 in
theorem k_X0_crossings_0 {p : Program} {l : Launch} {e : Env} {s : State} {m : MethodId} {args : Array Value} {below : List Frame} {meth : Method} {c : Code} {D : va_G} {dT : Nat → ClassId} {a : Nat → Nat} {A : Nat → Prop} {vs0 : XE} {post : Int32 → XS → Prop} (hC : wCx RX0 cX0_crossings 2 (some .int) D dT p s m args meth c) (hA : wAz A s) (X : XS) {vs : XE} {H : Heap} {locs : List Loc} {ls : Array Slot} (hS : StX D dT a A s vs0 X vs H locs) (hl : lv_has ls 2 [(0, .ref (a 0))])  (hw : w_X0_crossings post X) : W p l e rmX0_crossings s m args below meth c H locs 0 0 (MQ below (va_Qi (fun r u9 => post r u9.1) (wB D (XW dT a) (XI vs0) A) A) args s 0 0 A) (F0 m 0 ls []) := by
  have hx := hC.1
  have hb := hC.2.1
  have hown := hC.2.2.2.1
  have hts := hC.2.2.2.2.1
  unfold w_X0_crossings at hw
  refine lv_iconst (v := 0) hx hb dX0_crossings_0 (by decide) ?_
  refine lv_istore_n (lv' := [(1, .int 0), (0, .ref (a 0))]) hx hb dX0_crossings_1 rfl hl (by decide) rfl (fun ls hl => ?_)
  obtain ⟨n, hw⟩ := hw
  exact k_X0_crossings_2 hC hA _ _ n hS (lv_sub hl [1, 0] rfl) hw
abbrev v_X0_crossings (X : XS) (post : Int32 → XS → Prop) : Prop := w_X0_crossings post X
set_option maxHeartbeats 4000000 in
set_option maxRecDepth 100000 in
theorem met_X0_crossings (l : Launch) (D : va_G) (dT : Nat → ClassId) (a : Nat → Nat) (sz : Nat) (X : XS) (vs0 : XE) (post : Int32 → XS → Prop) (hw : v_X0_crossings X post) : Met l yX0_crossings (ws_ yX0_crossings cX0_crossings 2 (some .int)) rmX0_crossings (wPc D dT (XW dT a) (XI vs0) sz (X, vs0) [.ref (a 0)]) (va_Qi (fun r u9 => post r u9.1) (wB D (XW dT a) (XI vs0) (va_A ((XW dT a) (X, vs0)) sz)) (va_A ((XW dT a) (X, vs0)) sz)) 0 0 (va_A ((XW dT a) (X, vs0)) sz) :=
  wEnt (Q := fun A => (va_Qi (fun r u9 => post r u9.1) (wB D (XW dT a) (XI vs0) A) A)) (by decide) (Nat.le_of_ble_eq_true rfl) (fun p e s m below meth c A ls hC _ hA hS hl => k_X0_crossings_0 hC hA _ hS hl hw) sz
theorem hd_X0_crossings : yX0_crossings.cls ≠ "java/lang/invoke/MethodHandle" ∧ yX0_crossings.cls ≠ "java/lang/invoke/VarHandle" ∧ (parseMethodDescriptor yX0_crossings.desc).map (fun d => d.parameters.length) = some 0 := by decide +kernel
section
variable {p : Program} {l : Launch} {e : Env} {R : Room} {s : State} {m : MethodId} {args : Array Value} {below : List Frame} {meth : Method} {c : Code} {H : Heap} {locs : List Loc} {cells slots : Nat} {Q : State → Prop} {cc : ByteArray} {nL : Nat} {ret : Option FieldType} {pc : Nat} {ls : Array Slot} {rest : List Value}
set_option maxHeartbeats 4000000 in
set_option maxRecDepth 100000 in
theorem inv_q915 {D : va_G} {dT : Nat → ClassId} {a : Nat → Nat} {A : Nat → Prop} {vs0 : XE} {vs : XE} {X : XS} {post : Int32 → XS → Prop} (hC : wCx RX0 cc nL ret D dT p s m args meth c) (hA : wAz A s) (hS : StX D dT a A s vs0 X vs H locs) (hl : ls.size = nL) (hw : v_X0_crossings X post) (hR : rmX0_crossings.frames + 1 ≤ R.frames ∧ 8 + (2 + 11) + rmX0_crossings.locals ≤ R.locals) (hrest : (rest.map fun v => v.category).sum ≤ 8) (hf : cells ≤ R.cells ∧ slots ≤ R.slots) (hdg : decode cc pc = .ok (.invokevirtual 362, 3)) (kk : ∀ (r : Int32) (X1 : XS) (vs1 : XE) (H1 : Heap) (locs1 : List Loc), post r X1 → (∀ v ∈ vs, v ∈ vs1) → StX D dT a A s vs0 X1 vs1 H1 locs1 → W p l e R s m args below meth c H1 locs1 cells slots Q (F0 m (pc + 3) ls (.int r :: rest))) : W p l e R s m args below meth c H locs cells slots Q (F0 m pc ls (.ref (a 0) :: rest)) := by
  exact wCallVi (As := []) (rest := rest) (mc := 0) (ms := 0) 0 hC (met_X0_crossings l D dT a H.size X vs post hw) (lw_V q915 q917 qs44 q85 q918) ⟨⟨rfl, rfl⟩, hd_X0_crossings, hR, hf⟩ XW_0 rfl rfl hA hS.self hl rfl hrest hdg (fun r u H1 locs1 hp hS1 => kk r u.1 u.2 H1 locs1 hp hS1.2.2.2.2 (hS.back hS1))
end
/-! LeastFrames_Program.brings -/
def w_X2_brings (X : XS) (p1 : Int32) (p2 : Int32) (p3 : Int32) (p4 : Int32) (post : Int64 → Prop) : Prop :=
  v_X0_isIn p1 p2 (fun r1 => (r1 = (0 : Int32) → (post (0 : Int64))) ∧ (¬ r1 = (0 : Int32) → (v_X0_pairs X (fun r3 => (p2 < r3 → (v_X0_lesser p2 (fun r5 => (r5 = p3 → (v_X0_far X p2 p4 (fun r10 => post r10.toInt64))) ∧ (¬ r5 = p3 → (v_X0_greater p2 (fun r7 => (r7 = p3 → (v_X0_far X p2 p4 (fun r9 => post ((-r9).toInt64)))) ∧ (¬ r7 = p3 → (post (0 : Int64))))))))) ∧ (¬ p2 < r3 → (post (0 : Int64)))))))
abbrev rmX2_brings : Room := { frames := 3, cells := 0, slots := 0, locals := 64 }
set_option maxHeartbeats 4000000 in
set_option maxRecDepth 100000 in
theorem k_X2_brings_0 {p : Program} {l : Launch} {e : Env} {s : State} {m : MethodId} {args : Array Value} {below : List Frame} {meth : Method} {c : Code} {D : va_G} {dT : Nat → ClassId} {a : Nat → Nat} {A : Nat → Prop} {vs0 : XE} {X : XS} {p1 : Int32} {p2 : Int32} {p3 : Int32} {p4 : Int32} {post : Int64 → Prop} (hC : wCx RX2 cX2_brings 5 (some .long) D dT p s m args meth c) (hA : wAz A s) {H : Heap} {locs : List Loc} {ls : Array Slot} (hS : StX D dT a A s vs0 X vs0 H locs) (hl : lv_has ls 5 [(0, .ref (a 22)), (1, .int p1), (2, .int p2), (3, .int p3), (4, .int p4)])  (hw : w_X2_brings X p1 p2 p3 p4 post) : W p l e rmX2_brings s m args below meth c H locs 0 0 (MQ below (va_Ql (fun r u9 => u9 = (X, vs0) ∧ post r) (wB D (XW dT a) (XI vs0) A) A) args s 0 0 A) (F0 m 0 ls []) := by
  have hx := hC.1
  have hb := hC.2.1
  have hown := hC.2.2.2.1
  have hts := hC.2.2.2.2.1
  unfold w_X2_brings at hw
  refine lv_iload_n hx hb dX2_brings_0 rfl (lv_at hl 1 rfl) ?_
  refine lv_iload_n hx hb dX2_brings_1 rfl (lv_at hl 2 rfl) ?_
  refine inv_q386 hC hS hl.1 hw ⟨Nat.le_of_ble_eq_true rfl, Nat.le_of_ble_eq_true rfl⟩ (Nat.le_of_ble_eq_true rfl) ⟨Nat.zero_le _, Nat.zero_le _⟩ dX2_brings_2 (fun r1 H locs hw hS => ?_)
  refine lv_if_eq (tgt := 19) hx hb dX2_brings_5 (by decide) (fun c2 => ?_) (fun c2 => ?_)
  · have hw := hw.1 c2
    refine lv_lconst (v := 0) hx hb dX2_brings_19 (by decide) ?_
    exact wRetl hC hS ⟨rfl, hw⟩ (Nat.le_refl _) (Nat.le_refl _) dX2_brings_20
  · have hw := hw.2 c2
    refine lv_iload_n hx hb dX2_brings_8 rfl (lv_at hl 2 rfl) ?_
    refine lv_aload_n hx hb dX2_brings_9 rfl (lv_at hl 0 rfl) ?_
    refine ld_q163 hC hS dX2_brings_10 ?_
    refine inv_q387 hC hA hS hl.1 hw ⟨Nat.le_of_ble_eq_true rfl, Nat.le_of_ble_eq_true rfl⟩ (Nat.le_of_ble_eq_true rfl) ⟨Nat.zero_le _, Nat.zero_le _⟩ dX2_brings_13 (fun r3 H locs hw hS => ?_)
    refine lv_icmp_lt (tgt := 21) hx hb dX2_brings_16 (by decide) (fun c4 => ?_) (fun c4 => ?_)
    · have hw := hw.1 c4
      refine lv_iload_n hx hb dX2_brings_21 rfl (lv_at hl 2 rfl) ?_
      refine inv_q388 hC hS hl.1 hw ⟨Nat.le_of_ble_eq_true rfl, Nat.le_of_ble_eq_true rfl⟩ (Nat.le_of_ble_eq_true rfl) ⟨Nat.zero_le _, Nat.zero_le _⟩ dX2_brings_22 (fun r5 H locs hw hS => ?_)
      refine lv_iload_n hx hb dX2_brings_25 rfl (lv_at hl 3 rfl) ?_
      refine lv_icmp_ne (tgt := 43) hx hb dX2_brings_26 (by decide) (fun c6 => ?_) (fun c6 => ?_)
      · have hw := hw.2 c6
        refine lv_iload_n hx hb dX2_brings_43 rfl (lv_at hl 2 rfl) ?_
        refine inv_q390 hC hS hl.1 hw ⟨Nat.le_of_ble_eq_true rfl, Nat.le_of_ble_eq_true rfl⟩ (Nat.le_of_ble_eq_true rfl) ⟨Nat.zero_le _, Nat.zero_le _⟩ dX2_brings_44 (fun r7 H locs hw hS => ?_)
        refine lv_iload_n hx hb dX2_brings_47 rfl (lv_at hl 3 rfl) ?_
        refine lv_icmp_ne (tgt := 66) hx hb dX2_brings_48 (by decide) (fun c8 => ?_) (fun c8 => ?_)
        · have hw := hw.2 c8
          refine lv_lconst (v := 0) hx hb dX2_brings_66 (by decide) ?_
          exact wRetl hC hS ⟨rfl, hw⟩ (Nat.le_refl _) (Nat.le_refl _) dX2_brings_67
        · have hw := hw.1 c8
          refine lv_aload_n hx hb dX2_brings_51 rfl (lv_at hl 0 rfl) ?_
          refine ld_q163 hC hS dX2_brings_52 ?_
          refine lv_iload_n hx hb dX2_brings_55 rfl (lv_at hl 2 rfl) ?_
          refine lv_iload hx hb dX2_brings_56 (lv_at hl 4 rfl) ?_
          refine inv_q389 hC hA hS hl.1 hw ⟨Nat.le_of_ble_eq_true rfl, Nat.le_of_ble_eq_true rfl⟩ (Nat.le_of_ble_eq_true rfl) ⟨Nat.zero_le _, Nat.zero_le _⟩ dX2_brings_58 (fun r9 H locs hw hS => ?_)
          refine lv_ineg hx hb dX2_brings_61 ?_
          refine lv_i2l hx hb dX2_brings_62 rfl ?_
          refine lv_goto (tgt := 67) hx hb dX2_brings_63 (by decide) ?_
          exact wRetl hC hS ⟨rfl, hw⟩ (Nat.le_refl _) (Nat.le_refl _) dX2_brings_67
      · have hw := hw.1 c6
        refine lv_aload_n hx hb dX2_brings_29 rfl (lv_at hl 0 rfl) ?_
        refine ld_q163 hC hS dX2_brings_30 ?_
        refine lv_iload_n hx hb dX2_brings_33 rfl (lv_at hl 2 rfl) ?_
        refine lv_iload hx hb dX2_brings_34 (lv_at hl 4 rfl) ?_
        refine inv_q389 hC hA hS hl.1 hw ⟨Nat.le_of_ble_eq_true rfl, Nat.le_of_ble_eq_true rfl⟩ (Nat.le_of_ble_eq_true rfl) ⟨Nat.zero_le _, Nat.zero_le _⟩ dX2_brings_36 (fun r10 H locs hw hS => ?_)
        refine lv_i2l hx hb dX2_brings_39 rfl ?_
        refine lv_goto (tgt := 67) hx hb dX2_brings_40 (by decide) ?_
        exact wRetl hC hS ⟨rfl, hw⟩ (Nat.le_refl _) (Nat.le_refl _) dX2_brings_67
    · have hw := hw.2 c4
      refine lv_lconst (v := 0) hx hb dX2_brings_19 (by decide) ?_
      exact wRetl hC hS ⟨rfl, hw⟩ (Nat.le_refl _) (Nat.le_refl _) dX2_brings_20
abbrev v_X2_brings (X : XS) (p1 : Int32) (p2 : Int32) (p3 : Int32) (p4 : Int32) (post : Int64 → Prop) : Prop := w_X2_brings X p1 p2 p3 p4 post
set_option maxHeartbeats 4000000 in
set_option maxRecDepth 100000 in
theorem met_X2_brings (l : Launch) (D : va_G) (dT : Nat → ClassId) (a : Nat → Nat) (sz : Nat) (X : XS) (vs0 : XE) (p1 : Int32) (p2 : Int32) (p3 : Int32) (p4 : Int32) (post : Int64 → Prop) (hw : v_X2_brings X p1 p2 p3 p4 post) : Met l yX2_brings (ws_ yX2_brings cX2_brings 5 (some .long)) rmX2_brings (wPc D dT (XW dT a) (XI vs0) sz (X, vs0) [.ref (a 22), .int p1, .int p2, .int p3, .int p4]) (va_Ql (fun r u9 => u9 = (X, vs0) ∧ post r) (wB D (XW dT a) (XI vs0) (va_A ((XW dT a) (X, vs0)) sz)) (va_A ((XW dT a) (X, vs0)) sz)) 0 0 (va_A ((XW dT a) (X, vs0)) sz) :=
  wEnt (Q := fun A => (va_Ql (fun r u9 => u9 = (X, vs0) ∧ post r) (wB D (XW dT a) (XI vs0) A) A)) (by decide) (Nat.le_of_ble_eq_true rfl) (fun p e s m below meth c A ls hC _ hA hS hl => k_X2_brings_0 hC hA  hS hl hw) sz
theorem hd_X2_brings : yX2_brings.cls ≠ "java/lang/invoke/MethodHandle" ∧ yX2_brings.cls ≠ "java/lang/invoke/VarHandle" ∧ (parseMethodDescriptor yX2_brings.desc).map (fun d => d.parameters.length) = some 4 := by decide +kernel
section
variable {p : Program} {l : Launch} {e : Env} {R : Room} {s : State} {m : MethodId} {args : Array Value} {below : List Frame} {meth : Method} {c : Code} {H : Heap} {locs : List Loc} {cells slots : Nat} {Q : State → Prop} {cc : ByteArray} {nL : Nat} {ret : Option FieldType} {pc : Nat} {ls : Array Slot} {rest : List Value}
set_option maxHeartbeats 4000000 in
set_option maxRecDepth 100000 in
theorem inv_q382 {D : va_G} {dT : Nat → ClassId} {a : Nat → Nat} {A : Nat → Prop} {vs0 : XE} {vs : XE} {X : XS} {p1 : Int32} {p2 : Int32} {p3 : Int32} {p4 : Int32} {post : Int64 → Prop} (hC : wCx RX2 cc nL ret D dT p s m args meth c) (hA : wAz A s) (hS : StX D dT a A s vs0 X vs H locs) (hl : ls.size = nL) (hw : v_X2_brings X p1 p2 p3 p4 post) (hR : rmX2_brings.frames + 1 ≤ R.frames ∧ 8 + (5 + 11) + rmX2_brings.locals ≤ R.locals) (hrest : (rest.map fun v => v.category).sum ≤ 8) (hf : cells ≤ R.cells ∧ slots ≤ R.slots) (hdg : decode cc pc = .ok (.invokevirtual 51, 3)) (kk : ∀ (r : Int64) (H1 : Heap) (locs1 : List Loc), post r → StX D dT a A s vs0 X vs H1 locs1 → W p l e R s m args below meth c H1 locs1 cells slots Q (F0 m (pc + 3) ls (.long r :: rest))) : W p l e R s m args below meth c H locs cells slots Q (F0 m pc ls (.int p4 :: .int p3 :: .int p2 :: .int p1 :: .ref (a 22) :: rest)) := by
  exact wCallVl (As := [.int p1, .int p2, .int p3, .int p4]) (rest := rest) (mc := 0) (ms := 0) 22 hC (met_X2_brings l D dT a H.size X vs p1 p2 p3 p4 post hw) (lw_V q382 q384 qs12 q87 q385) ⟨⟨rfl, rfl⟩, hd_X2_brings, hR, hf⟩ XW_22 rfl rfl hA hS.self hl rfl hrest hdg (fun r u H1 locs1 hp hS1 => kk r H1 locs1 hp.2 (by have h9 := hS.back hS1; rw [hp.1] at h9; exact h9))
end
