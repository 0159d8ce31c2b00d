/-! LeastFramesModel.pair -/
def w_X4_pair (M : MS) (p1 : Int32) (p2 : Int32) (post : Int32 → Prop) : Prop :=
  v_X4_isPair M p1 (fun r1 => (r1 = (0 : Int32) → (post ((-2) : Int32))) ∧ (¬ r1 = (0 : Int32) → (v_X4_in p2 (0 : Int32) (3 : Int32) (fun r3 => (r3 = (0 : Int32) → (post ((-2) : Int32))) ∧ (¬ r3 = (0 : Int32) → (v_X4_pairOf M p1 p2 (fun r5 => post r5)))))))
abbrev rmX4_pair : Room := { frames := 5, cells := 0, slots := 0, locals := 109 }
set_option maxHeartbeats 4000000 in
set_option maxRecDepth 100000 in
theorem k_X4_pair_0 {p : Program} {l : Launch} {e : Env} {s : State} {m : MethodId} {args : Array Value} {below : List Frame} {meth : Method} {c : Code} {D : va_G} {dT : Nat → ClassId} {a : Nat → Nat} {A : Nat → Prop}  {M : MS} {p1 : Int32} {p2 : Int32} {post : Int32 → Prop} (hC : wCx RX4 cX4_pair 3 (some .int) D dT p s m args meth c) (hA : wAz A s) {H : Heap} {locs : List Loc} {ls : Array Slot} (hS : StM D dT a A s M H locs) (hl : lv_has ls 3 [(0, .ref (a 0)), (1, .int p1), (2, .int p2)])  (hw : w_X4_pair M p1 p2 post) : W p l e rmX4_pair s m args below meth c H locs 0 0 (MQ below (va_Qi (fun r M9 => M9 = M ∧ post r) (wB D (MW dT a) MI A) A) args s 0 0 A) (F0 m 0 ls []) := by
  have hx := hC.1
  have hb := hC.2.1
  have hown := hC.2.2.2.1
  have hts := hC.2.2.2.2.1
  unfold w_X4_pair at hw
  refine lv_aload_n hx hb dX4_pair_0 rfl (lv_at hl 0 rfl) ?_
  refine lv_iload_n hx hb dX4_pair_1 rfl (lv_at hl 1 rfl) ?_
  refine inv_q1035 hC hA hS hl.1 hw ⟨Nat.le_of_ble_eq_true rfl, Nat.le_of_ble_eq_true rfl⟩ (Nat.le_of_ble_eq_true rfl) ⟨Nat.zero_le _, Nat.zero_le _⟩ dX4_pair_2 (fun r1 H locs hw hS => ?_)
  refine lv_if_eq (tgt := 26) hx hb dX4_pair_5 (by decide) (fun c2 => ?_) (fun c2 => ?_)
  · have hw := hw.1 c2
    refine lv_bipush (v := (-2)) hx hb dX4_pair_26 (by decide) ?_
    exact wReti hC hS ⟨rfl, hw⟩ (Nat.le_refl _) (Nat.le_refl _) dX4_pair_28
  · have hw := hw.2 c2
    refine lv_iload_n hx hb dX4_pair_8 rfl (lv_at hl 2 rfl) ?_
    refine lv_iconst (v := 0) hx hb dX4_pair_9 (by decide) ?_
    refine lv_iconst (v := 3) hx hb dX4_pair_10 (by decide) ?_
    refine inv_q1007 hC hS hl.1 hw ⟨Nat.le_of_ble_eq_true rfl, Nat.le_of_ble_eq_true rfl⟩ (Nat.le_of_ble_eq_true rfl) ⟨Nat.zero_le _, Nat.zero_le _⟩ dX4_pair_11 (fun r3 H locs hw hS => ?_)
    refine lv_if_eq (tgt := 26) hx hb dX4_pair_14 (by decide) (fun c4 => ?_) (fun c4 => ?_)
    · have hw := hw.1 c4
      refine lv_bipush (v := (-2)) hx hb dX4_pair_26 (by decide) ?_
      exact wReti hC hS ⟨rfl, hw⟩ (Nat.le_refl _) (Nat.le_refl _) dX4_pair_28
    · have hw := hw.2 c4
      refine lv_aload_n hx hb dX4_pair_17 rfl (lv_at hl 0 rfl) ?_
      refine lv_iload_n hx hb dX4_pair_18 rfl (lv_at hl 1 rfl) ?_
      refine lv_iload_n hx hb dX4_pair_19 rfl (lv_at hl 2 rfl) ?_
      refine inv_q1068 hC hA hS hl.1 hw ⟨Nat.le_of_ble_eq_true rfl, Nat.le_of_ble_eq_true rfl⟩ (Nat.le_of_ble_eq_true rfl) ⟨Nat.zero_le _, Nat.zero_le _⟩ dX4_pair_20 (fun r5 H locs hw hS => ?_)
      refine lv_goto (tgt := 28) hx hb dX4_pair_23 (by decide) ?_
      exact wReti hC hS ⟨rfl, hw⟩ (Nat.le_refl _) (Nat.le_refl _) dX4_pair_28
abbrev v_X4_pair (M : MS) (p1 : Int32) (p2 : Int32) (post : Int32 → Prop) : Prop := w_X4_pair M p1 p2 post
set_option maxHeartbeats 4000000 in
set_option maxRecDepth 100000 in
theorem met_X4_pair (l : Launch) (D : va_G) (dT : Nat → ClassId) (a : Nat → Nat) (sz : Nat) (M : MS) (p1 : Int32) (p2 : Int32) (post : Int32 → Prop) (hw : v_X4_pair M p1 p2 post) : Met l yX4_pair (ws_ yX4_pair cX4_pair 3 (some .int)) rmX4_pair (wPc D dT (MW dT a) MI sz M [.ref (a 0), .int p1, .int p2]) (va_Qi (fun r M9 => M9 = M ∧ post r) (wB D (MW dT a) MI (va_A ((MW dT a) M) sz)) (va_A ((MW dT a) M) sz)) 0 0 (va_A ((MW dT a) M) sz) :=
  wEnt (Q := fun A => (va_Qi (fun r M9 => M9 = M ∧ post r) (wB D (MW dT a) MI A) A)) (by decide) (Nat.le_of_ble_eq_true rfl) (fun p e s m below meth c A ls hC _ hA hS hl => k_X4_pair_0 hC hA  hS hl hw) sz
theorem hd_X4_pair : yX4_pair.cls ≠ "java/lang/invoke/MethodHandle" ∧ yX4_pair.cls ≠ "java/lang/invoke/VarHandle" ∧ (parseMethodDescriptor yX4_pair.desc).map (fun d => d.parameters.length) = some 2 := by decide +kernel
/-! LeastFramesModel.isWay -/
def w_X4_isWay (M : MS) (p1 : Int32) (post : Int32 → Prop) : Prop :=
  ((M_points M) ≤ (p1 / 2) → (post (0 : Int32))) ∧ (¬ (M_points M) ≤ (p1 / 2) → (vp_in (p1 / 2) 5 ∧ (((((M_helds M (p1 / 2).toNatClampNeg) >>> ((p1 - p1 / 2 * 2) &&& 31)) &&& 1) = (0 : Int32) → (post (1 : Int32))) ∧ (¬ (((M_helds M (p1 / 2).toNatClampNeg) >>> ((p1 - p1 / 2 * 2) &&& 31)) &&& 1) = (0 : Int32) → (post (0 : Int32))))))
abbrev rmX4_isWay : Room := { frames := 0, cells := 0, slots := 0, locals := 0 }
set_option maxHeartbeats 4000000 in
set_option maxRecDepth 100000 in
theorem k_X4_isWay_0 {p : Program} {l : Launch} {e : Env} {s : State} {m : MethodId} {args : Array Value} {below : List Frame} {meth : Method} {c : Code} {D : va_G} {dT : Nat → ClassId} {a : Nat → Nat} {A : Nat → Prop}  {M : MS} {p1 : Int32} {post : Int32 → Prop} (hC : wCx RX4 cX4_isWay 2 (some .boolean) D dT p s m args meth c) (hA : wAz A s) {H : Heap} {locs : List Loc} {ls : Array Slot} (hS : StM D dT a A s M H locs) (hl : lv_has ls 2 [(0, .ref (a 0)), (1, .int p1)])  (hw : w_X4_isWay M p1 post) : W p l e rmX4_isWay s m args below meth c H locs 0 0 (MQ below (va_Qi (fun r M9 => M9 = M ∧ post r) (wB D (MW dT a) MI A) A) args s 0 0 A) (F0 m 0 ls []) := by
  have hx := hC.1
  have hb := hC.2.1
  have hown := hC.2.2.2.1
  have hts := hC.2.2.2.2.1
  unfold w_X4_isWay at hw
  refine lv_iload_n hx hb dX4_isWay_0 rfl (lv_at hl 1 rfl) ?_
  refine lv_iconst (v := 2) hx hb dX4_isWay_1 (by decide) ?_
  refine lv_idiv hx hb dX4_isWay_2 (by decide) ?_
  refine lv_aload_n hx hb dX4_isWay_3 rfl (lv_at hl 0 rfl) ?_
  refine ld_q940 hC hS dX4_isWay_4 ?_
  refine lv_icmp_ge (tgt := 31) hx hb dX4_isWay_7 (by decide) (fun c1 => ?_) (fun c1 => ?_)
  · have hw := hw.1 c1
    refine lv_iconst (v := 0) hx hb dX4_isWay_31 (by decide) ?_
    exact wRetz hC hS (by decide) ⟨rfl, hw⟩ (Nat.le_refl _) (Nat.le_refl _) dX4_isWay_32
  · have hw := hw.2 c1
    refine lv_aload_n hx hb dX4_isWay_10 rfl (lv_at hl 0 rfl) ?_
    refine ld_q937 hC hS dX4_isWay_11 ?_
    refine lv_iload_n hx hb dX4_isWay_14 rfl (lv_at hl 1 rfl) ?_
    refine lv_iconst (v := 2) hx hb dX4_isWay_15 (by decide) ?_
    refine lv_idiv hx hb dX4_isWay_16 (by decide) ?_
    refine al_helds hC hS hw.1 dX4_isWay_17 ?_
    have hw := hw.2
    refine lv_iload_n hx hb dX4_isWay_18 rfl (lv_at hl 1 rfl) ?_
    refine lv_iconst (v := 2) hx hb dX4_isWay_19 (by decide) ?_
    refine lv_irem hx hb dX4_isWay_20 (by decide) ?_
    refine lv_ishr hx hb dX4_isWay_21 ?_
    refine lv_iconst (v := 1) hx hb dX4_isWay_22 (by decide) ?_
    refine lv_iand hx hb dX4_isWay_23 ?_
    refine lv_if_ne (tgt := 31) hx hb dX4_isWay_24 (by decide) (fun c2 => ?_) (fun c2 => ?_)
    · have hw := hw.2 c2
      refine lv_iconst (v := 0) hx hb dX4_isWay_31 (by decide) ?_
      exact wRetz hC hS (by decide) ⟨rfl, hw⟩ (Nat.le_refl _) (Nat.le_refl _) dX4_isWay_32
    · have hw := hw.1 c2
      refine lv_iconst (v := 1) hx hb dX4_isWay_27 (by decide) ?_
      refine lv_goto (tgt := 32) hx hb dX4_isWay_28 (by decide) ?_
      exact wRetz hC hS (by decide) ⟨rfl, hw⟩ (Nat.le_refl _) (Nat.le_refl _) dX4_isWay_32
abbrev v_X4_isWay (M : MS) (p1 : Int32) (post : Int32 → Prop) : Prop := w_X4_isWay M p1 post
set_option maxHeartbeats 4000000 in
set_option maxRecDepth 100000 in
theorem met_X4_isWay (l : Launch) (D : va_G) (dT : Nat → ClassId) (a : Nat → Nat) (sz : Nat) (M : MS) (p1 : Int32) (post : Int32 → Prop) (hw : v_X4_isWay M p1 post) : Met l yX4_isWay (ws_ yX4_isWay cX4_isWay 2 (some .boolean)) rmX4_isWay (wPc D dT (MW dT a) MI sz M [.ref (a 0), .int p1]) (va_Qi (fun r M9 => M9 = M ∧ post r) (wB D (MW dT a) MI (va_A ((MW dT a) M) sz)) (va_A ((MW dT a) M) sz)) 0 0 (va_A ((MW dT a) M) sz) :=
  wEnt (Q := fun A => (va_Qi (fun r M9 => M9 = M ∧ post r) (wB D (MW dT a) MI A) A)) (by decide) (Nat.le_of_ble_eq_true rfl) (fun p e s m below meth c A ls hC _ hA hS hl => k_X4_isWay_0 hC hA  hS hl hw) sz
theorem hd_X4_isWay : yX4_isWay.cls ≠ "java/lang/invoke/MethodHandle" ∧ yX4_isWay.cls ≠ "java/lang/invoke/VarHandle" ∧ (parseMethodDescriptor yX4_isWay.desc).map (fun d => d.parameters.length) = some 1 := by decide +kernel
section
variable {p : Program} {l : Launch} {e : Env} {R : Room} {s : State} {m : MethodId} {args : Array Value} {below : List Frame} {meth : Method} {c : Code} {H : Heap} {locs : List Loc} {cells slots : Nat} {Q : State → Prop} {cc : ByteArray} {nL : Nat} {ret : Option FieldType} {pc : Nat} {ls : Array Slot} {rest : List Value}
set_option maxHeartbeats 4000000 in
set_option maxRecDepth 100000 in
theorem inv_q1106 {D : va_G} {dT : Nat → ClassId} {a : Nat → Nat} {A : Nat → Prop} {M : MS} {p1 : Int32} {post : Int32 → Prop} (hC : wCx RX4 cc nL ret D dT p s m args meth c) (hA : wAz A s) (hS : StM D dT a A s M H locs) (hl : ls.size = nL) (hw : v_X4_isWay M p1 post) (hR : rmX4_isWay.frames + 1 ≤ R.frames ∧ 8 + (2 + 11) + rmX4_isWay.locals ≤ R.locals) (hrest : (rest.map fun v => v.category).sum ≤ 8) (hf : cells ≤ R.cells ∧ slots ≤ R.slots) (hdg : decode cc pc = .ok (.invokevirtual 131, 3)) (kk : ∀ (r : Int32) (H1 : Heap) (locs1 : List Loc), post r → StM D dT a A s M H1 locs1 → W p l e R s m args below meth c H1 locs1 cells slots Q (F0 m (pc + 3) ls (.int r :: rest))) : W p l e R s m args below meth c H locs cells slots Q (F0 m pc ls (.int p1 :: .ref (a 0) :: rest)) := by
  exact wCallVi (As := [.int p1]) (rest := rest) (mc := 0) (ms := 0) 0 hC (met_X4_isWay l D dT a H.size M p1 post hw) (lw_V q1106 q1108 qs58 q89 q1109) ⟨⟨rfl, rfl⟩, hd_X4_isWay, hR, hf⟩ rfl rfl rfl hA hS hl rfl hrest hdg (fun r u H1 locs1 hp hS1 => kk r H1 locs1 hp.2 (hp.1 ▸ hS1))
end
/-! LeastFramesModel.brought -/
def w_X4_brought (M : MS) (p1 : Int32) (p2 : Int32) (post : Int32 → Prop) : Prop :=
  ∀ v1 : Int32, v1 = p2 / 2 → (v_X4_lesser p1 (fun r2 => (v1 = r2 → (v_X4_far M p1 (p2 - p2 / 2 * 2) (fun r7 => post r7))) ∧ (¬ v1 = r2 → (v_X4_greater p1 (fun r4 => (v1 = r4 → (v_X4_far M p1 (p2 - p2 / 2 * 2) (fun r6 => post (-r6)))) ∧ (¬ v1 = r4 → (post (0 : Int32))))))))
abbrev rmX4_brought : Room := { frames := 3, cells := 0, slots := 0, locals := 66 }
set_option maxHeartbeats 4000000 in
set_option maxRecDepth 100000 in
theorem k_X4_brought_0 {p : Program} {l : Launch} {e : Env} {s : State} {m : MethodId} {args : Array Value} {below : List Frame} {meth : Method} {c : Code} {D : va_G} {dT : Nat → ClassId} {a : Nat → Nat} {A : Nat → Prop}  {M : MS} {p1 : Int32} {p2 : Int32} {post : Int32 → Prop} (hC : wCx RX4 cX4_brought 4 (some .int) D dT p s m args meth c) (hA : wAz A s) {H : Heap} {locs : List Loc} {ls : Array Slot} (hS : StM D dT a A s M H locs) (hl : lv_has ls 4 [(0, .ref (a 0)), (1, .int p1), (2, .int p2)])  (hw : w_X4_brought M p1 p2 post) : W p l e rmX4_brought s m args below meth c H locs 0 0 (MQ below (va_Qi (fun r M9 => M9 = M ∧ post r) (wB D (MW dT a) MI A) A) args s 0 0 A) (F0 m 0 ls []) := by
  have hx := hC.1
  have hb := hC.2.1
  have hown := hC.2.2.2.1
  have hts := hC.2.2.2.2.1
  unfold w_X4_brought at hw
  refine lv_iload_n hx hb dX4_brought_0 rfl (lv_at hl 2 rfl) ?_
  refine lv_iconst (v := 2) hx hb dX4_brought_1 (by decide) ?_
  refine lv_idiv hx hb dX4_brought_2 (by decide) ?_
  refine lv_topi (fun v1 ev1 => ?_)
  have hw := hw v1 ev1
  refine lv_istore_n (lv' := [(3, .int v1), (0, .ref (a 0)), (1, .int p1), (2, .int p2)]) hx hb dX4_brought_3 rfl hl (by decide) rfl (fun ls hl => ?_)
  refine lv_iload_n hx hb dX4_brought_4 rfl (lv_at hl 0 rfl) ?_
  refine lv_iload_n hx hb dX4_brought_5 rfl (lv_at hl 2 rfl) ?_
  refine inv_q1072 hC hS hl.1 hw ⟨Nat.le_of_ble_eq_true rfl, Nat.le_of_ble_eq_true rfl⟩ (Nat.le_of_ble_eq_true rfl) ⟨Nat.zero_le _, Nat.zero_le _⟩ dX4_brought_6 (fun r2 H locs hw hS => ?_)
  refine lv_icmp_ne (tgt := 23) hx hb dX4_brought_9 (by decide) (fun c3 => ?_) (fun c3 => ?_)
  · have hw := hw.2 c3
    refine lv_iload_n hx hb dX4_brought_23 rfl (lv_at hl 0 rfl) ?_
    refine lv_iload_n hx hb dX4_brought_24 rfl (lv_at hl 2 rfl) ?_
    refine inv_q1075 hC hS hl.1 hw ⟨Nat.le_of_ble_eq_true rfl, Nat.le_of_ble_eq_true rfl⟩ (Nat.le_of_ble_eq_true rfl) ⟨Nat.zero_le _, Nat.zero_le _⟩ dX4_brought_25 (fun r4 H locs hw hS => ?_)
    refine lv_icmp_ne (tgt := 43) hx hb dX4_brought_28 (by decide) (fun c5 => ?_) (fun c5 => ?_)
    · have hw := hw.2 c5
      refine lv_iconst (v := 0) hx hb dX4_brought_43 (by decide) ?_
      exact wReti hC hS ⟨rfl, hw⟩ (Nat.le_refl _) (Nat.le_refl _) dX4_brought_44
    · have hw := hw.1 c5
      refine lv_aload_n hx hb dX4_brought_31 rfl (lv_at hl 1 rfl) ?_
      refine lv_iload_n hx hb dX4_brought_32 rfl (lv_at hl 2 rfl) ?_
      refine lv_iload_n hx hb dX4_brought_33 rfl (lv_at hl 3 rfl) ?_
      refine lv_iconst (v := 2) hx hb dX4_brought_34 (by decide) ?_
      refine lv_irem hx hb dX4_brought_35 (by decide) ?_
      refine inv_q1082 hC hA hS hl.1 hw ⟨Nat.le_of_ble_eq_true rfl, Nat.le_of_ble_eq_true rfl⟩ (Nat.le_of_ble_eq_true rfl) ⟨Nat.zero_le _, Nat.zero_le _⟩ dX4_brought_36 (fun r6 H locs hw hS => ?_)
      refine lv_ineg hx hb dX4_brought_39 ?_
      refine lv_goto (tgt := 44) hx hb dX4_brought_40 (by decide) ?_
      exact wReti hC hS ⟨rfl, hw⟩ (Nat.le_refl _) (Nat.le_refl _) dX4_brought_44
  · have hw := hw.1 c3
    refine lv_aload_n hx hb dX4_brought_12 rfl (lv_at hl 1 rfl) ?_
    refine lv_iload_n hx hb dX4_brought_13 rfl (lv_at hl 2 rfl) ?_
    refine lv_iload_n hx hb dX4_brought_14 rfl (lv_at hl 3 rfl) ?_
    refine lv_iconst (v := 2) hx hb dX4_brought_15 (by decide) ?_
    refine lv_irem hx hb dX4_brought_16 (by decide) ?_
    refine inv_q1082 hC hA hS hl.1 hw ⟨Nat.le_of_ble_eq_true rfl, Nat.le_of_ble_eq_true rfl⟩ (Nat.le_of_ble_eq_true rfl) ⟨Nat.zero_le _, Nat.zero_le _⟩ dX4_brought_17 (fun r7 H locs hw hS => ?_)
    refine lv_goto (tgt := 44) hx hb dX4_brought_20 (by decide) ?_
    exact wReti hC hS ⟨rfl, hw⟩ (Nat.le_refl _) (Nat.le_refl _) dX4_brought_44
abbrev v_X4_brought (M : MS) (p1 : Int32) (p2 : Int32) (post : Int32 → Prop) : Prop := w_X4_brought M p1 p2 post
set_option maxHeartbeats 4000000 in
set_option maxRecDepth 100000 in
theorem met_X4_brought (l : Launch) (D : va_G) (dT : Nat → ClassId) (a : Nat → Nat) (sz : Nat) (M : MS) (p1 : Int32) (p2 : Int32) (post : Int32 → Prop) (hw : v_X4_brought M p1 p2 post) : Met l yX4_brought (ws_ yX4_brought cX4_brought 4 (some .int)) rmX4_brought (wPc D dT (MW dT a) MI sz M [.ref (a 0), .int p1, .int p2]) (va_Qi (fun r M9 => M9 = M ∧ post r) (wB D (MW dT a) MI (va_A ((MW dT a) M) sz)) (va_A ((MW dT a) M) sz)) 0 0 (va_A ((MW dT a) M) sz) :=
  wEnt (Q := fun A => (va_Qi (fun r M9 => M9 = M ∧ post r) (wB D (MW dT a) MI A) A)) (by decide) (Nat.le_of_ble_eq_true rfl) (fun p e s m below meth c A ls hC _ hA hS hl => k_X4_brought_0 hC hA  hS hl hw) sz
theorem hd_X4_brought : yX4_brought.cls ≠ "java/lang/invoke/MethodHandle" ∧ yX4_brought.cls ≠ "java/lang/invoke/VarHandle" ∧ (parseMethodDescriptor yX4_brought.desc).map (fun d => d.parameters.length) = some 2 := by decide +kernel
section
variable {p : Program} {l : Launch} {e : Env} {R : Room} {s : State} {m : MethodId} {args : Array Value} {below : List Frame} {meth : Method} {c : Code} {H : Heap} {locs : List Loc} {cells slots : Nat} {Q : State → Prop} {cc : ByteArray} {nL : Nat} {ret : Option FieldType} {pc : Nat} {ls : Array Slot} {rest : List Value}
set_option maxHeartbeats 4000000 in
set_option maxRecDepth 100000 in
theorem inv_q1114 {D : va_G} {dT : Nat → ClassId} {a : Nat → Nat} {A : Nat → Prop} {M : MS} {p1 : Int32} {p2 : Int32} {post : Int32 → Prop} (hC : wCx RX4 cc nL ret D dT p s m args meth c) (hA : wAz A s) (hS : StM D dT a A s M H locs) (hl : ls.size = nL) (hw : v_X4_brought M p1 p2 post) (hR : rmX4_brought.frames + 1 ≤ R.frames ∧ 8 + (4 + 11) + rmX4_brought.locals ≤ R.locals) (hrest : (rest.map fun v => v.category).sum ≤ 8) (hf : cells ≤ R.cells ∧ slots ≤ R.slots) (hdg : decode cc pc = .ok (.invokevirtual 124, 3)) (kk : ∀ (r : Int32) (H1 : Heap) (locs1 : List Loc), post r → StM D dT a A s M H1 locs1 → W p l e R s m args below meth c H1 locs1 cells slots Q (F0 m (pc + 3) ls (.int r :: rest))) : W p l e R s m args below meth c H locs cells slots Q (F0 m pc ls (.int p2 :: .int p1 :: .ref (a 0) :: rest)) := by
  exact wCallVi (As := [.int p1, .int p2]) (rest := rest) (mc := 0) (ms := 0) 0 hC (met_X4_brought l D dT a H.size M p1 p2 post hw) (lw_V q1114 q1116 qs60 q89 q1117) ⟨⟨rfl, rfl⟩, hd_X4_brought, hR, hf⟩ rfl rfl rfl hA hS hl rfl hrest hdg (fun r u H1 locs1 hp hS1 => kk r H1 locs1 hp.2 (hp.1 ▸ hS1))
end
/-! LeastFramesModel.divisor -/
def w_X4_divisor_28b (p0 : Int64) (p2 : Int64) (K28 : Int64 → Int64 → Prop) (post : Int64 → Prop) (x4 : Int64) (x6 : Int64) : Prop :=
  (x6 = (0 : Int64) → (post x4)) ∧ (¬ x6 = (0 : Int64) → ((¬ x6 = 0) ∧ (∀ v2 : Int64, v2 = x4 - x4 / x6 * x6 → (K28 x6 v2))))
def w_X4_divisor_28 (p0 : Int64) (p2 : Int64) (post : Int64 → Prop) : Nat → Int64 → Int64 → Prop
  | 0, _, _ => False
  | n + 1, x4, x6 => w_X4_divisor_28b p0 p2 (w_X4_divisor_28 p0 p2 post n) post x4 x6
def w_X4_divisor_12 (p0 : Int64) (p2 : Int64) (post : Int64 → Prop) (y0 : Int64) : Prop :=
  ((0 : Int64) ≤ p2 → (∃ n, w_X4_divisor_28 p0 p2 post n y0 p2)) ∧ (¬ (0 : Int64) ≤ p2 → (∀ v2 : Int64, v2 = -p2 → (∃ n, w_X4_divisor_28 p0 p2 post n y0 v2)))
def w_X4_divisor (p0 : Int64) (p2 : Int64) (post : Int64 → Prop) : Prop :=
  ((0 : Int64) ≤ p0 → (w_X4_divisor_12 p0 p2 post p0)) ∧ (¬ (0 : Int64) ≤ p0 → (w_X4_divisor_12 p0 p2 post (-p0)))
abbrev rmX4_divisor : Room := { frames := 0, cells := 0, slots := 0, locals := 0 }
set_option maxHeartbeats 4000000 in
set_option maxRecDepth 100000 in
theorem k_X4_divisor_28b {p : Program} {l : Launch} {e : Env} {s : State} {m : MethodId} {args : Array Value} {below : List Frame} {meth : Method} {c : Code}  {p0 : Int64} {p2 : Int64} {K28 : Int64 → Int64 → Prop} {post : Int64 → Prop} (hC : sCx RX4 cX4_divisor 10 (some .long) p s m args meth c) (hK28 : ∀ (x4 : Int64) (x6 : Int64), K28 x4 x6 → ∀ {H : Heap} {locs : List Loc} {ls : Array Slot}, va_S (fun _ => False) s.heap H locs → lv_has ls 10 [(4, .long x4), (6, .long x6)] → W p l e rmX4_divisor s m args below meth c H locs 0 0 (MQ below (va_Ql (fun r (_ : Unit) => post r) (fun _ _ => True) (fun _ => False)) args s 0 0 (fun _ => False)) (F0 m 28 ls [])) (x4 : Int64) (x6 : Int64) {H : Heap} {locs : List Loc} {ls : Array Slot} (hS : va_S (fun _ => False) s.heap H locs) (hl : lv_has ls 10 [(4, .long x4), (6, .long x6)])  (hw : w_X4_divisor_28b p0 p2 K28 post x4 x6) : W p l e rmX4_divisor s m args below meth c H locs 0 0 (MQ below (va_Ql (fun r (_ : Unit) => post r) (fun _ _ => True) (fun _ => False)) args s 0 0 (fun _ => False)) (F0 m 28 ls []) := by
  have hx := hC.1
  have hb := hC.2.1
  have hown := hC.2.2.2.1
  have hts := hC.2.2.2.2.1
  unfold w_X4_divisor_28b at hw
  refine lv_lload hx hb dX4_divisor_28 (lv_at hl 1 rfl) ?_
  refine lv_lconst (v := 0) hx hb dX4_divisor_30 (by decide) ?_
  refine lc_if_eq (tgt := 53) hx hb dX4_divisor_31 dX4_divisor_32 (by decide) (fun c1 => ?_) (fun c1 => ?_)
  · have hw := hw.1 c1
    refine lv_lload hx hb dX4_divisor_53 (lv_at hl 0 rfl) ?_
    exact sRetl hC hS hw dX4_divisor_55
  · have hw := hw.2 c1
    refine lv_lload hx hb dX4_divisor_35 (lv_at hl 0 rfl) ?_
    refine lv_lload hx hb dX4_divisor_37 (lv_at hl 1 rfl) ?_
    refine lv_lrem hx hb dX4_divisor_39 hw.1 ?_
    have hw := hw.2
    refine lv_topl (fun v2 ev2 => ?_)
    have hw := hw v2 ev2
    refine lv_lstore (lv' := [(8, .long v2), (4, .long x4), (6, .long x6)]) hx hb dX4_divisor_40 hl (by decide) rfl (fun ls hl => ?_)
    refine lv_lload hx hb dX4_divisor_42 (lv_at hl 2 rfl) ?_
    refine lv_lstore (lv' := [(4, .long x6), (8, .long v2), (6, .long x6)]) hx hb dX4_divisor_44 hl (by decide) rfl (fun ls hl => ?_)
    refine lv_lload hx hb dX4_divisor_46 (lv_at hl 1 rfl) ?_
    refine lv_lstore (lv' := [(6, .long v2), (4, .long x6), (8, .long v2)]) hx hb dX4_divisor_48 hl (by decide) rfl (fun ls hl => ?_)
    refine lv_goto (tgt := 28) hx hb dX4_divisor_50 (by decide) ?_
    exact hK28 _ _ hw hS (lv_sub hl [1, 0] rfl)
set_option maxHeartbeats 4000000 in
set_option maxRecDepth 100000 in
theorem k_X4_divisor_28 {p : Program} {l : Launch} {e : Env} {s : State} {m : MethodId} {args : Array Value} {below : List Frame} {meth : Method} {c : Code}  {p0 : Int64} {p2 : Int64} {post : Int64 → Prop} (hC : sCx RX4 cX4_divisor 10 (some .long) p s m args meth c) : ∀ (x4 : Int64) (x6 : Int64) (n : Nat), ∀ {H : Heap} {locs : List Loc} {ls : Array Slot}, va_S (fun _ => False) s.heap H locs → lv_has ls 10 [(4, .long x4), (6, .long x6)] → w_X4_divisor_28 p0 p2 post n x4 x6 → W p l e rmX4_divisor s m args below meth c H locs 0 0 (MQ below (va_Ql (fun r (_ : Unit) => post r) (fun _ _ => True) (fun _ => False)) args s 0 0 (fun _ => False)) (F0 m 28 ls []) := by
  intro x4 x6 n
  induction n generalizing x4 x6 with
  | zero => intro H locs ls  hS hl hw; exact hw.elim
  | succ n ih =>
    intro H locs ls  hS hl hw
    exact k_X4_divisor_28b hC (fun x4 x6 hk {H} {locs} {ls}  hS hl => ih x4 x6  hS hl hk) x4 x6  hS hl hw
set_option maxHeartbeats 4000000 in
set_option maxRecDepth 100000 in
theorem k_X4_divisor_12 {p : Program} {l : Launch} {e : Env} {s : State} {m : MethodId} {args : Array Value} {below : List Frame} {meth : Method} {c : Code}  {p0 : Int64} {p2 : Int64} {post : Int64 → Prop} (hC : sCx RX4 cX4_divisor 10 (some .long) p s m args meth c) (y0 : Int64) {H : Heap} {locs : List Loc} {ls : Array Slot} (hS : va_S (fun _ => False) s.heap H locs) (hl : lv_has ls 10 [(2, .long p2)])  (hw : w_X4_divisor_12 p0 p2 post y0) : W p l e rmX4_divisor s m args below meth c H locs 0 0 (MQ below (va_Ql (fun r (_ : Unit) => post r) (fun _ _ => True) (fun _ => False)) args s 0 0 (fun _ => False)) (F0 m 12 ls [.long y0]) := by
  have hx := hC.1
  have hb := hC.2.1
  have hown := hC.2.2.2.1
  have hts := hC.2.2.2.2.1
  unfold w_X4_divisor_12 at hw
  refine lv_lstore (lv' := [(4, .long y0), (2, .long p2)]) hx hb dX4_divisor_12 hl (by decide) rfl (fun ls hl => ?_)
  refine lv_lload_n hx hb dX4_divisor_14 rfl (lv_at hl 1 rfl) ?_
  refine lv_lconst (v := 0) hx hb dX4_divisor_15 (by decide) ?_
  refine lc_if_ge (tgt := 25) hx hb dX4_divisor_16 dX4_divisor_17 (by decide) (fun c1 => ?_) (fun c1 => ?_)
  · have hw := hw.1 c1
    refine lv_lload_n hx hb dX4_divisor_25 rfl (lv_at hl 1 rfl) ?_
    refine lv_lstore (lv' := [(6, .long p2), (4, .long y0), (2, .long p2)]) hx hb dX4_divisor_26 hl (by decide) rfl (fun ls hl => ?_)
    obtain ⟨n, hw⟩ := hw
    exact k_X4_divisor_28 hC _ _ n hS (lv_sub hl [1, 0] rfl) hw
  · have hw := hw.2 c1
    refine lv_lload_n hx hb dX4_divisor_20 rfl (lv_at hl 1 rfl) ?_
    refine lv_lneg hx hb dX4_divisor_21 ?_
    refine lv_goto (tgt := 26) hx hb dX4_divisor_22 (by decide) ?_
    refine lv_topl (fun v2 ev2 => ?_)
    have hw := hw v2 ev2
    refine lv_lstore (lv' := [(6, .long v2), (4, .long y0), (2, .long p2)]) hx hb dX4_divisor_26 hl (by decide) rfl (fun ls hl => ?_)
    obtain ⟨n, hw⟩ := hw
    exact k_X4_divisor_28 hC _ _ n hS (lv_sub hl [1, 0] rfl) hw
set_option maxHeartbeats 4000000 in
set_option maxRecDepth 100000 in
theorem k_X4_divisor_0 {p : Program} {l : Launch} {e : Env} {s : State} {m : MethodId} {args : Array Value} {below : List Frame} {meth : Method} {c : Code}  {p0 : Int64} {p2 : Int64} {post : Int64 → Prop} (hC : sCx RX4 cX4_divisor 10 (some .long) p s m args meth c) {H : Heap} {locs : List Loc} {ls : Array Slot} (hS : va_S (fun _ => False) s.heap H locs) (hl : lv_has ls 10 [(0, .long p0), (2, .long p2)])  (hw : w_X4_divisor p0 p2 post) : W p l e rmX4_divisor s m args below meth c H locs 0 0 (MQ below (va_Ql (fun r (_ : Unit) => post r) (fun _ _ => True) (fun _ => False)) args s 0 0 (fun _ => False)) (F0 m 0 ls []) := by
  have hx := hC.1
  have hb := hC.2.1
  have hown := hC.2.2.2.1
  have hts := hC.2.2.2.2.1
  unfold w_X4_divisor at hw
  refine lv_lload_n hx hb dX4_divisor_0 rfl (lv_at hl 0 rfl) ?_
  refine lv_lconst (v := 0) hx hb dX4_divisor_1 (by decide) ?_
  refine lc_if_ge (tgt := 11) hx hb dX4_divisor_2 dX4_divisor_3 (by decide) (fun c1 => ?_) (fun c1 => ?_)
  · have hw := hw.1 c1
    refine lv_lload_n hx hb dX4_divisor_11 rfl (lv_at hl 0 rfl) ?_
    exact k_X4_divisor_12 hC _ hS (lv_sub hl [1] rfl) hw
  · have hw := hw.2 c1
    refine lv_lload_n hx hb dX4_divisor_6 rfl (lv_at hl 0 rfl) ?_
    refine lv_lneg hx hb dX4_divisor_7 ?_
    refine lv_goto (tgt := 12) hx hb dX4_divisor_8 (by decide) ?_
    exact k_X4_divisor_12 hC _ hS (lv_sub hl [1] rfl) hw
abbrev v_X4_divisor (p0 : Int64) (p2 : Int64) (post : Int64 → Prop) : Prop := w_X4_divisor p0 p2 post
set_option maxHeartbeats 4000000 in
set_option maxRecDepth 100000 in
theorem met_X4_divisor (l : Launch) (p0 : Int64) (p2 : Int64) (post : Int64 → Prop) (hw : v_X4_divisor p0 p2 post) : Met l yX4_divisor (ws_ yX4_divisor cX4_divisor 10 (some .long)) rmX4_divisor (va_Pc [.long p0, .long p2] (fun _ => True)) (va_Ql (fun r (_ : Unit) => post r) (fun _ _ => True) (fun _ => False)) 0 0 (fun _ => False) :=
  sEnt (by decide) (Nat.le_of_ble_eq_true rfl) (fun p e s m below meth c ls hC hS hl => k_X4_divisor_0 hC  hS hl hw)
theorem hd_X4_divisor : yX4_divisor.cls ≠ "java/lang/invoke/MethodHandle" ∧ yX4_divisor.cls ≠ "java/lang/invoke/VarHandle" ∧ (parseMethodDescriptor yX4_divisor.desc).map (fun d => d.parameters.length) = some 2 := by decide +kernel
section
variable {p : Program} {l : Launch} {e : Env} {R : Room} {s : State} {m : MethodId} {args : Array Value} {below : List Frame} {meth : Method} {c : Code} {H : Heap} {locs : List Loc} {cells slots : Nat} {Q : State → Prop} {cc : ByteArray} {nL : Nat} {ret : Option FieldType} {pc : Nat} {ls : Array Slot} {rest : List Value}
set_option maxHeartbeats 4000000 in
set_option maxRecDepth 100000 in
theorem inv_q1126 {σ : Type} {D : va_G} {dT : Nat → ClassId} {Wd : σ → va_W} {I : σ → Prop} {A : Nat → Prop} {x : σ} {p0 : Int64} {p2 : Int64} {post : Int64 → Prop} (hC : wCx RX4 cc nL ret D dT p s m args meth c) (hS : wSt D Wd I A s x H locs) (hl : ls.size = nL) (hw : v_X4_divisor p0 p2 post) (hR : rmX4_divisor.frames + 1 ≤ R.frames ∧ 8 + (10 + 11) + rmX4_divisor.locals ≤ R.locals) (hrest : (rest.map fun v => v.category).sum ≤ 8) (hf : cells ≤ R.cells ∧ slots ≤ R.slots) (hdg : decode cc pc = .ok (.invokestatic 56, 3)) (kk : ∀ (r : Int64) (H1 : Heap) (locs1 : List Loc), post r → wSt D Wd I A s x H1 locs1 → W p l e R s m args below meth c H1 locs1 cells slots Q (F0 m (pc + 3) ls (.long r :: rest))) : W p l e R s m args below meth c H locs cells slots Q (F0 m pc ls (.long p2 :: .long p0 :: rest)) :=
  wCallSl (As := [.long p0, .long p2]) (rest := rest) hC (met_X4_divisor l p0 p2 post hw) (lw_S q1126 q1127 q89 q1128) ⟨⟨rfl, rfl⟩, hd_X4_divisor, hR, hf⟩ hS hl rfl hrest hdg kk
set_option maxHeartbeats 4000000 in
set_option maxRecDepth 100000 in
theorem invs_q1126 {p0 : Int64} {p2 : Int64} {post : Int64 → Prop} (hC : sCx RX4 cc nL ret p s m args meth c) (hS : va_S (fun _ => False) s.heap H locs) (hl : ls.size = nL) (hw : v_X4_divisor p0 p2 post) (hR : rmX4_divisor.frames + 1 ≤ R.frames ∧ 8 + (10 + 11) + rmX4_divisor.locals ≤ R.locals) (hrest : (rest.map fun v => v.category).sum ≤ 8) (hf : cells ≤ R.cells ∧ slots ≤ R.slots) (hdg : decode cc pc = .ok (.invokestatic 56, 3)) (kk : ∀ (r : Int64) (H1 : Heap) (locs1 : List Loc), post r → va_S (fun _ => False) s.heap H1 locs1 → W p l e R s m args below meth c H1 locs1 cells slots Q (F0 m (pc + 3) ls (.long r :: rest))) : W p l e R s m args below meth c H locs cells slots Q (F0 m pc ls (.long p2 :: .long p0 :: rest)) :=
  sCallSl (As := [.long p0, .long p2]) (rest := rest) hC (met_X4_divisor l p0 p2 post hw) (lw_S q1126 q1127 q89 q1128) ⟨⟨rfl, rfl⟩, hd_X4_divisor, hR, hf⟩ hS hl rfl hrest hdg kk
end
/-! LeastFramesModel.lowers -/
def w_X4_lowers_35b (p1 : Int32) (K35 : MS → Int64 → Int32 → Prop) (post : MS → Prop) (M : MS) (x2 : Int64) (x4 : Int32) : Prop :=
  ((11 : Int32) ≤ x4 → (post M)) ∧ (¬ (11 : Int32) ≤ x4 → ((x2 ≤ (1 : Int64) → (post M)) ∧ (¬ x2 ≤ (1 : Int64) → (vp_in (p1 + x4) 110 ∧ ((¬ x2 = 0) ∧ (vp_in (p1 + x4) 110 ∧ (∀ M3 : MS, M3 = sM_rows M (vp_updL (M_rows M) (p1 + x4).toNatClampNeg ((M_rows M (p1 + x4).toNatClampNeg) / x2)) → (∀ v4 : Int32, v4 = x4 + 1 → (K35 M3 x2 v4)))))))))
def w_X4_lowers_35 (p1 : Int32) (post : MS → Prop) : Nat → MS → Int64 → Int32 → Prop
  | 0, _, _, _ => False
  | n + 1, M, x2, x4 => w_X4_lowers_35b p1 (w_X4_lowers_35 p1 post n) post M x2 x4
def w_X4_lowers_5b (p1 : Int32) (K5 : MS → Int64 → Int32 → Prop) (post : MS → Prop) (M : MS) (x2 : Int64) (x4 : Int32) : Prop :=
  ((11 : Int32) ≤ x4 → (∃ n, w_X4_lowers_35 p1 post n M x2 0)) ∧ (¬ (11 : Int32) ≤ x4 → (vp_in (p1 + x4) 110 ∧ (v_X4_divisor x2 (M_rows M (p1 + x4).toNatClampNeg) (fun r2 => ∀ v3 : Int32, v3 = x4 + 1 → (K5 M r2 v3)))))
def w_X4_lowers_5 (p1 : Int32) (post : MS → Prop) : Nat → MS → Int64 → Int32 → Prop
  | 0, _, _, _ => False
  | n + 1, M, x2, x4 => w_X4_lowers_5b p1 (w_X4_lowers_5 p1 post n) post M x2 x4
def w_X4_lowers (p1 : Int32) (post : MS → Prop) (M : MS) : Prop :=
  ∃ n, w_X4_lowers_5 p1 post n M 0 0
abbrev rmX4_lowers : Room := { frames := 1, cells := 0, slots := 0, locals := 29 }
set_option maxHeartbeats 4000000 in
set_option maxRecDepth 100000 in
theorem k_X4_lowers_35b {p : Program} {l : Launch} {e : Env} {s : State} {m : MethodId} {args : Array Value} {below : List Frame} {meth : Method} {c : Code} {D : va_G} {dT : Nat → ClassId} {a : Nat → Nat} {A : Nat → Prop}  {p1 : Int32} {K35 : MS → Int64 → Int32 → Prop} {post : MS → Prop} (hC : wCx RX4 cX4_lowers 5 (none) D dT p s m args meth c) (hA : wAz A s) (hK35 : ∀ (M : MS) (x2 : Int64) (x4 : Int32), K35 M x2 x4 → ∀ {H : Heap} {locs : List Loc} {ls : Array Slot}, StM D dT a A s M H locs → lv_has ls 5 [(0, .ref (a 0)), (1, .int p1), (2, .long x2), (4, .int x4)] → W p l e rmX4_lowers s m args below meth c H locs 0 0 (MQ below (va_Qv post (wB D (MW dT a) MI A) A) args s 0 0 A) (F0 m 35 ls [])) (M : MS) (x2 : Int64) (x4 : Int32) {H : Heap} {locs : List Loc} {ls : Array Slot} (hS : StM D dT a A s M H locs) (hl : lv_has ls 5 [(0, .ref (a 0)), (1, .int p1), (2, .long x2), (4, .int x4)])  (hw : w_X4_lowers_35b p1 K35 post M x2 x4) : W p l e rmX4_lowers s m args below meth c H locs 0 0 (MQ below (va_Qv post (wB D (MW dT a) MI A) A) args s 0 0 A) (F0 m 35 ls []) := by
  have hx := hC.1
  have hb := hC.2.1
  have hown := hC.2.2.2.1
  have hts := hC.2.2.2.2.1
  unfold w_X4_lowers_35b at hw
  refine lv_iload hx hb dX4_lowers_35 (lv_at hl 3 rfl) ?_
  refine lv_bipush (v := 11) hx hb dX4_lowers_37 (by decide) ?_
  refine lv_icmp_ge (tgt := 67) hx hb dX4_lowers_39 (by decide) (fun c1 => ?_) (fun c1 => ?_)
  · have hw := hw.1 c1
    exact wRetv hC hS hw (Nat.le_refl _) (Nat.le_refl _) dX4_lowers_67
  · have hw := hw.2 c1
    refine lv_lload_n hx hb dX4_lowers_42 rfl (lv_at hl 2 rfl) ?_
    refine lv_lconst (v := 1) hx hb dX4_lowers_43 (by decide) ?_
    refine lc_if_le (tgt := 67) hx hb dX4_lowers_44 dX4_lowers_45 (by decide) (fun c2 => ?_) (fun c2 => ?_)
    · have hw := hw.1 c2
      exact wRetv hC hS hw (Nat.le_refl _) (Nat.le_refl _) dX4_lowers_67
    · have hw := hw.2 c2
      refine lv_aload_n hx hb dX4_lowers_48 rfl (lv_at hl 0 rfl) ?_
      refine ld_q942 hC hS dX4_lowers_49 ?_
      refine lv_iload_n hx hb dX4_lowers_52 rfl (lv_at hl 1 rfl) ?_
      refine lv_iload hx hb dX4_lowers_53 (lv_at hl 3 rfl) ?_
      refine lv_iadd hx hb dX4_lowers_55 ?_
      refine lv_dup2_11 hx hb dX4_lowers_56 rfl rfl ?_
      refine al_rows hC hS hw.1 dX4_lowers_57 ?_
      have hw := hw.2
      refine lv_lload_n hx hb dX4_lowers_58 rfl (lv_at hl 2 rfl) ?_
      refine lv_ldiv hx hb dX4_lowers_59 hw.1 ?_
      have hw := hw.2
      have hi := hw.1
      have hw := hw.2
      refine as_rows hC hS hi dX4_lowers_60 (fun H locs hS => ?_)
      have hw := hw (sM_rows M (vp_updL (M_rows M) (p1 + x4).toNatClampNeg ((M_rows M (p1 + x4).toNatClampNeg) / x2))) rfl
      generalize sM_rows M (vp_updL (M_rows M) (p1 + x4).toNatClampNeg ((M_rows M (p1 + x4).toNatClampNeg) / x2)) = M3 at hS hw
      obtain ⟨v4, ev4⟩ : ∃ y : Int32, y = x4 + 1 := ⟨_, rfl⟩
      have hw := hw v4 ev4
      refine lv_iinc (v := v4) (lv' := [(4, .int v4), (0, .ref (a 0)), (1, .int p1), (2, .long x2)]) hx hb dX4_lowers_61 hl (k := 3) rfl (by rw [ev4]; rfl) (by decide) rfl (fun ls hl => ?_)
      refine lv_goto (tgt := 35) hx hb dX4_lowers_64 (by decide) ?_
      exact hK35 _ _ _ hw hS (lv_sub hl [1, 2, 3, 0] rfl)
set_option maxHeartbeats 4000000 in
set_option maxRecDepth 100000 in
theorem k_X4_lowers_35 {p : Program} {l : Launch} {e : Env} {s : State} {m : MethodId} {args : Array Value} {below : List Frame} {meth : Method} {c : Code} {D : va_G} {dT : Nat → ClassId} {a : Nat → Nat} {A : Nat → Prop}  {p1 : Int32} {post : MS → Prop} (hC : wCx RX4 cX4_lowers 5 (none) D dT p s m args meth c) (hA : wAz A s) : ∀ (M : MS) (x2 : Int64) (x4 : Int32) (n : Nat), ∀ {H : Heap} {locs : List Loc} {ls : Array Slot}, StM D dT a A s M H locs → lv_has ls 5 [(0, .ref (a 0)), (1, .int p1), (2, .long x2), (4, .int x4)] → w_X4_lowers_35 p1 post n M x2 x4 → W p l e rmX4_lowers s m args below meth c H locs 0 0 (MQ below (va_Qv post (wB D (MW dT a) MI A) A) args s 0 0 A) (F0 m 35 ls []) := by
  intro M x2 x4 n
  induction n generalizing M x2 x4 with
  | zero => intro H locs ls  hS hl hw; exact hw.elim
  | succ n ih =>
    intro H locs ls  hS hl hw
    exact k_X4_lowers_35b hC hA (fun M x2 x4 hk {H} {locs} {ls}  hS hl => ih M x2 x4  hS hl hk) M x2 x4  hS hl hw
set_option maxHeartbeats 4000000 in
set_option maxRecDepth 100000 in
theorem k_X4_lowers_5b {p : Program} {l : Launch} {e : Env} {s : State} {m : MethodId} {args : Array Value} {below : List Frame} {meth : Method} {c : Code} {D : va_G} {dT : Nat → ClassId} {a : Nat → Nat} {A : Nat → Prop}  {p1 : Int32} {K5 : MS → Int64 → Int32 → Prop} {post : MS → Prop} (hC : wCx RX4 cX4_lowers 5 (none) D dT p s m args meth c) (hA : wAz A s) (hK5 : ∀ (M : MS) (x2 : Int64) (x4 : Int32), K5 M x2 x4 → ∀ {H : Heap} {locs : List Loc} {ls : Array Slot}, StM D dT a A s M H locs → lv_has ls 5 [(0, .ref (a 0)), (1, .int p1), (2, .long x2), (4, .int x4)] → W p l e rmX4_lowers s m args below meth c H locs 0 0 (MQ below (va_Qv post (wB D (MW dT a) MI A) A) args s 0 0 A) (F0 m 5 ls [])) (M : MS) (x2 : Int64) (x4 : Int32) {H : Heap} {locs : List Loc} {ls : Array Slot} (hS : StM D dT a A s M H locs) (hl : lv_has ls 5 [(0, .ref (a 0)), (1, .int p1), (2, .long x2), (4, .int x4)])  (hw : w_X4_lowers_5b p1 K5 post M x2 x4) : W p l e rmX4_lowers s m args below meth c H locs 0 0 (MQ below (va_Qv post (wB D (MW dT a) MI A) A) args s 0 0 A) (F0 m 5 ls []) := by
  have hx := hC.1
  have hb := hC.2.1
  have hown := hC.2.2.2.1
  have hts := hC.2.2.2.2.1
  unfold w_X4_lowers_5b at hw
  refine lv_iload hx hb dX4_lowers_5 (lv_at hl 3 rfl) ?_
  refine lv_bipush (v := 11) hx hb dX4_lowers_7 (by decide) ?_
  refine lv_icmp_ge (tgt := 32) hx hb dX4_lowers_9 (by decide) (fun c1 => ?_) (fun c1 => ?_)
  · have hw := hw.1 c1
    refine lv_iconst (v := 0) hx hb dX4_lowers_32 (by decide) ?_
    refine lv_istore (lv' := [(4, .int 0), (0, .ref (a 0)), (1, .int p1), (2, .long x2)]) hx hb dX4_lowers_33 hl (by decide) rfl (fun ls hl => ?_)
    obtain ⟨n, hw⟩ := hw
    exact k_X4_lowers_35 hC hA _ _ _ n hS (lv_sub hl [1, 2, 3, 0] rfl) hw
  · have hw := hw.2 c1
    refine lv_lload_n hx hb dX4_lowers_12 rfl (lv_at hl 2 rfl) ?_
    refine lv_aload_n hx hb dX4_lowers_13 rfl (lv_at hl 0 rfl) ?_
    refine ld_q942 hC hS dX4_lowers_14 ?_
    refine lv_iload_n hx hb dX4_lowers_17 rfl (lv_at hl 1 rfl) ?_
    refine lv_iload hx hb dX4_lowers_18 (lv_at hl 3 rfl) ?_
    refine lv_iadd hx hb dX4_lowers_20 ?_
    refine al_rows hC hS hw.1 dX4_lowers_21 ?_
    have hw := hw.2
    refine inv_q1126 hC hS hl.1 hw ⟨Nat.le_of_ble_eq_true rfl, Nat.le_of_ble_eq_true rfl⟩ (Nat.le_of_ble_eq_true rfl) ⟨Nat.zero_le _, Nat.zero_le _⟩ dX4_lowers_22 (fun r2 H locs hw hS => ?_)
    refine lv_lstore_n (lv' := [(2, .long r2), (0, .ref (a 0)), (1, .int p1), (4, .int x4)]) hx hb dX4_lowers_25 rfl hl (by decide) rfl (fun ls hl => ?_)
    obtain ⟨v3, ev3⟩ : ∃ y : Int32, y = x4 + 1 := ⟨_, rfl⟩
    have hw := hw v3 ev3
    refine lv_iinc (v := v3) (lv' := [(4, .int v3), (2, .long r2), (0, .ref (a 0)), (1, .int p1)]) hx hb dX4_lowers_26 hl (k := 3) rfl (by rw [ev3]; rfl) (by decide) rfl (fun ls hl => ?_)
    refine lv_goto (tgt := 5) hx hb dX4_lowers_29 (by decide) ?_
    exact hK5 _ _ _ hw hS (lv_sub hl [2, 3, 1, 0] rfl)
set_option maxHeartbeats 4000000 in
set_option maxRecDepth 100000 in
theorem k_X4_lowers_5 {p : Program} {l : Launch} {e : Env} {s : State} {m : MethodId} {args : Array Value} {below : List Frame} {meth : Method} {c : Code} {D : va_G} {dT : Nat → ClassId} {a : Nat → Nat} {A : Nat → Prop}  {p1 : Int32} {post : MS → Prop} (hC : wCx RX4 cX4_lowers 5 (none) D dT p s m args meth c) (hA : wAz A s) : ∀ (M : MS) (x2 : Int64) (x4 : Int32) (n : Nat), ∀ {H : Heap} {locs : List Loc} {ls : Array Slot}, StM D dT a A s M H locs → lv_has ls 5 [(0, .ref (a 0)), (1, .int p1), (2, .long x2), (4, .int x4)] → w_X4_lowers_5 p1 post n M x2 x4 → W p l e rmX4_lowers s m args below meth c H locs 0 0 (MQ below (va_Qv post (wB D (MW dT a) MI A) A) args s 0 0 A) (F0 m 5 ls []) := by
  intro M x2 x4 n
  induction n generalizing M x2 x4 with
  | zero => intro H locs ls  hS hl hw; exact hw.elim
  | succ n ih =>
    intro H locs ls  hS hl hw
    exact k_X4_lowers_5b hC hA (fun M x2 x4 hk {H} {locs} {ls}  hS hl => ih M x2 x4  hS hl hk) M x2 x4  hS hl hw
set_option maxHeartbeats 4000000 in
set_option maxRecDepth 100000 in
theorem k_X4_lowers_0 {p : Program} {l : Launch} {e : Env} {s : State} {m : MethodId} {args : Array Value} {below : List Frame} {meth : Method} {c : Code} {D : va_G} {dT : Nat → ClassId} {a : Nat → Nat} {A : Nat → Prop}  {p1 : Int32} {post : MS → Prop} (hC : wCx RX4 cX4_lowers 5 (none) D dT p s m args meth c) (hA : wAz A s) (M : MS) {H : Heap} {locs : List Loc} {ls : Array Slot} (hS : StM D dT a A s M H locs) (hl : lv_has ls 5 [(0, .ref (a 0)), (1, .int p1)])  (hw : w_X4_lowers p1 post M) : W p l e rmX4_lowers s m args below meth c H locs 0 0 (MQ below (va_Qv post (wB D (MW dT a) MI A) A) args s 0 0 A) (F0 m 0 ls []) := by
  have hx := hC.1
  have hb := hC.2.1
  have hown := hC.2.2.2.1
  have hts := hC.2.2.2.2.1
  unfold w_X4_lowers at hw
  refine lv_lconst (v := 0) hx hb dX4_lowers_0 (by decide) ?_
  refine lv_lstore_n (lv' := [(2, .long 0), (0, .ref (a 0)), (1, .int p1)]) hx hb dX4_lowers_1 rfl hl (by decide) rfl (fun ls hl => ?_)
  refine lv_iconst (v := 0) hx hb dX4_lowers_2 (by decide) ?_
  refine lv_istore (lv' := [(4, .int 0), (2, .long 0), (0, .ref (a 0)), (1, .int p1)]) hx hb dX4_lowers_3 hl (by decide) rfl (fun ls hl => ?_)
  obtain ⟨n, hw⟩ := hw
  exact k_X4_lowers_5 hC hA _ _ _ n hS (lv_sub hl [2, 3, 1, 0] rfl) hw
abbrev v_X4_lowers (M : MS) (p1 : Int32) (post : MS → Prop) : Prop := w_X4_lowers p1 post M
set_option maxHeartbeats 4000000 in
set_option maxRecDepth 100000 in
theorem met_X4_lowers (l : Launch) (D : va_G) (dT : Nat → ClassId) (a : Nat → Nat) (sz : Nat) (M : MS) (p1 : Int32) (post : MS → Prop) (hw : v_X4_lowers M p1 post) : Met l yX4_lowers (ws_ yX4_lowers cX4_lowers 5 (none)) rmX4_lowers (wPc D dT (MW dT a) MI sz M [.ref (a 0), .int p1]) (va_Qv post (wB D (MW dT a) MI (va_A ((MW dT a) M) sz)) (va_A ((MW dT a) M) sz)) 0 0 (va_A ((MW dT a) M) sz) :=
  wEnt (Q := fun A => (va_Qv post (wB D (MW dT a) MI A) A)) (by decide) (Nat.le_of_ble_eq_true rfl) (fun p e s m below meth c A ls hC _ hA hS hl => k_X4_lowers_0 hC hA _ hS hl hw) sz
theorem hd_X4_lowers : yX4_lowers.cls ≠ "java/lang/invoke/MethodHandle" ∧ yX4_lowers.cls ≠ "java/lang/invoke/VarHandle" ∧ (parseMethodDescriptor yX4_lowers.desc).map (fun d => d.parameters.length) = some 1 := by decide +kernel
section
variable {p : Program} {l : Launch} {e : Env} {R : Room} {s : State} {m : MethodId} {args : Array Value} {below : List Frame} {meth : Method} {c : Code} {H : Heap} {locs : List Loc} {cells slots : Nat} {Q : State → Prop} {cc : ByteArray} {nL : Nat} {ret : Option FieldType} {pc : Nat} {ls : Array Slot} {rest : List Value}
set_option maxHeartbeats 4000000 in
set_option maxRecDepth 100000 in
theorem inv_q1122 {D : va_G} {dT : Nat → ClassId} {a : Nat → Nat} {A : Nat → Prop} {M : MS} {p1 : Int32} {post : MS → Prop} (hC : wCx RX4 cc nL ret D dT p s m args meth c) (hA : wAz A s) (hS : StM D dT a A s M H locs) (hl : ls.size = nL) (hw : v_X4_lowers M p1 post) (hR : rmX4_lowers.frames + 1 ≤ R.frames ∧ 8 + (5 + 11) + rmX4_lowers.locals ≤ R.locals) (hrest : (rest.map fun v => v.category).sum ≤ 8) (hf : cells ≤ R.cells ∧ slots ≤ R.slots) (hdg : decode cc pc = .ok (.invokevirtual 117, 3)) (kk : ∀ (u : MS) (H1 : Heap) (locs1 : List Loc), post u → StM D dT a A s u H1 locs1 → W p l e R s m args below meth c H1 locs1 cells slots Q (F0 m (pc + 3) ls rest)) : W p l e R s m args below meth c H locs cells slots Q (F0 m pc ls (.int p1 :: .ref (a 0) :: rest)) := by
  exact wCallVv (As := [.int p1]) (rest := rest) (mc := 0) (ms := 0) 0 hC (met_X4_lowers l D dT a H.size M p1 post hw) (lw_V q1122 q1124 qs62 q89 q1125) ⟨⟨rfl, rfl⟩, hd_X4_lowers, hR, hf⟩ rfl rfl rfl hA hS hl rfl hrest hdg (fun  u H1 locs1 hp hS1 => kk  u H1 locs1 hp hS1)
end
/-! LeastFramesModel.clears -/
def w_X4_clears_30b (p1 : Int32) (p2 : Int32) (p3 : Int32) (K30 : MS → Int64 → Int64 → Int32 → Prop) (post : MS → Prop) (M : MS) (x4 : Int64) (x6 : Int64) (x8 : Int32) : Prop :=
  ((11 : Int32) ≤ x8 → (v_X4_lowers M p1 (fun M2 => post M2))) ∧ (¬ (11 : Int32) ≤ x8 → (vp_in (p1 + x8) 110 ∧ (vp_in (p2 + x8) 110 ∧ (vp_in (p1 + x8) 110 ∧ (∀ M3 : MS, M3 = sM_rows M (vp_updL (M_rows M) (p1 + x8).toNatClampNeg (((M_rows M (p1 + x8).toNatClampNeg) * x6) - ((M_rows M (p2 + x8).toNatClampNeg) * x4))) → (∀ v4 : Int32, v4 = x8 + 1 → (K30 M3 x4 x6 v4)))))))
def w_X4_clears_30 (p1 : Int32) (p2 : Int32) (p3 : Int32) (post : MS → Prop) : Nat → MS → Int64 → Int64 → Int32 → Prop
  | 0, _, _, _, _ => False
  | n + 1, M, x4, x6, x8 => w_X4_clears_30b p1 p2 p3 (w_X4_clears_30 p1 p2 p3 post n) post M x4 x6 x8
def w_X4_clears (p1 : Int32) (p2 : Int32) (p3 : Int32) (post : MS → Prop) (M : MS) : Prop :=
  vp_in (p1 + p3) 110 ∧ (∀ v1 : Int64, v1 = M_rows M (p1 + p3).toNatClampNeg → (vp_in (p2 + p3) 110 ∧ (∀ v2 : Int64, v2 = M_rows M (p2 + p3).toNatClampNeg → ((v1 = (0 : Int64) → (post M)) ∧ (¬ v1 = (0 : Int64) → (∃ n, w_X4_clears_30 p1 p2 p3 post n M v1 v2 0))))))
abbrev rmX4_clears : Room := { frames := 2, cells := 0, slots := 0, locals := 53 }
set_option maxHeartbeats 4000000 in
set_option maxRecDepth 100000 in
theorem k_X4_clears_30b {p : Program} {l : Launch} {e : Env} {s : State} {m : MethodId} {args : Array Value} {below : List Frame} {meth : Method} {c : Code} {D : va_G} {dT : Nat → ClassId} {a : Nat → Nat} {A : Nat → Prop}  {p1 : Int32} {p2 : Int32} {p3 : Int32} {K30 : MS → Int64 → Int64 → Int32 → Prop} {post : MS → Prop} (hC : wCx RX4 cX4_clears 9 (none) D dT p s m args meth c) (hA : wAz A s) (hK30 : ∀ (M : MS) (x4 : Int64) (x6 : Int64) (x8 : Int32), K30 M x4 x6 x8 → ∀ {H : Heap} {locs : List Loc} {ls : Array Slot}, StM D dT a A s M H locs → lv_has ls 9 [(0, .ref (a 0)), (1, .int p1), (2, .int p2), (4, .long x4), (6, .long x6), (8, .int x8)] → W p l e rmX4_clears s m args below meth c H locs 0 0 (MQ below (va_Qv post (wB D (MW dT a) MI A) A) args s 0 0 A) (F0 m 30 ls [])) (M : MS) (x4 : Int64) (x6 : Int64) (x8 : Int32) {H : Heap} {locs : List Loc} {ls : Array Slot} (hS : StM D dT a A s M H locs) (hl : lv_has ls 9 [(0, .ref (a 0)), (1, .int p1), (2, .int p2), (4, .long x4), (6, .long x6), (8, .int x8)])  (hw : w_X4_clears_30b p1 p2 p3 K30 post M x4 x6 x8) : W p l e rmX4_clears s m args below meth c H locs 0 0 (MQ below (va_Qv post (wB D (MW dT a) MI A) A) args s 0 0 A) (F0 m 30 ls []) := by
  have hx := hC.1
  have hb := hC.2.1
  have hown := hC.2.2.2.1
  have hts := hC.2.2.2.2.1
  unfold w_X4_clears_30b at hw
  refine lv_iload hx hb dX4_clears_30 (lv_at hl 5 rfl) ?_
  refine lv_bipush (v := 11) hx hb dX4_clears_32 (by decide) ?_
  refine lv_icmp_ge (tgt := 77) hx hb dX4_clears_34 (by decide) (fun c1 => ?_) (fun c1 => ?_)
  · have hw := hw.1 c1
    refine lv_aload_n hx hb dX4_clears_77 rfl (lv_at hl 0 rfl) ?_
    refine lv_iload_n hx hb dX4_clears_78 rfl (lv_at hl 1 rfl) ?_
    refine inv_q1122 hC hA hS hl.1 hw ⟨Nat.le_of_ble_eq_true rfl, Nat.le_of_ble_eq_true rfl⟩ (Nat.le_of_ble_eq_true rfl) ⟨Nat.zero_le _, Nat.zero_le _⟩ dX4_clears_79 (fun M2 H locs hw hS => ?_)
    exact wRetv hC hS hw (Nat.le_refl _) (Nat.le_refl _) dX4_clears_82
  · have hw := hw.2 c1
    refine lv_aload_n hx hb dX4_clears_37 rfl (lv_at hl 0 rfl) ?_
    refine ld_q942 hC hS dX4_clears_38 ?_
    refine lv_iload_n hx hb dX4_clears_41 rfl (lv_at hl 1 rfl) ?_
    refine lv_iload hx hb dX4_clears_42 (lv_at hl 5 rfl) ?_
    refine lv_iadd hx hb dX4_clears_44 ?_
    refine lv_aload_n hx hb dX4_clears_45 rfl (lv_at hl 0 rfl) ?_
    refine ld_q942 hC hS dX4_clears_46 ?_
    refine lv_iload_n hx hb dX4_clears_49 rfl (lv_at hl 1 rfl) ?_
    refine lv_iload hx hb dX4_clears_50 (lv_at hl 5 rfl) ?_
    refine lv_iadd hx hb dX4_clears_52 ?_
    refine al_rows hC hS hw.1 dX4_clears_53 ?_
    have hw := hw.2
    refine lv_lload hx hb dX4_clears_54 (lv_at hl 4 rfl) ?_
    refine lv_lmul hx hb dX4_clears_56 ?_
    refine lv_aload_n hx hb dX4_clears_57 rfl (lv_at hl 0 rfl) ?_
    refine ld_q942 hC hS dX4_clears_58 ?_
    refine lv_iload_n hx hb dX4_clears_61 rfl (lv_at hl 2 rfl) ?_
    refine lv_iload hx hb dX4_clears_62 (lv_at hl 5 rfl) ?_
    refine lv_iadd hx hb dX4_clears_64 ?_
    refine al_rows hC hS hw.1 dX4_clears_65 ?_
    have hw := hw.2
    refine lv_lload hx hb dX4_clears_66 (lv_at hl 3 rfl) ?_
    refine lv_lmul hx hb dX4_clears_68 ?_
    refine lv_lsub hx hb dX4_clears_69 ?_
    have hi := hw.1
    have hw := hw.2
    refine as_rows hC hS hi dX4_clears_70 (fun H locs hS => ?_)
    have hw := hw (sM_rows M (vp_updL (M_rows M) (p1 + x8).toNatClampNeg (((M_rows M (p1 + x8).toNatClampNeg) * x6) - ((M_rows M (p2 + x8).toNatClampNeg) * x4)))) rfl
    generalize sM_rows M (vp_updL (M_rows M) (p1 + x8).toNatClampNeg (((M_rows M (p1 + x8).toNatClampNeg) * x6) - ((M_rows M (p2 + x8).toNatClampNeg) * x4))) = M3 at hS hw
    obtain ⟨v4, ev4⟩ : ∃ y : Int32, y = x8 + 1 := ⟨_, rfl⟩
    have hw := hw v4 ev4
    refine lv_iinc (v := v4) (lv' := [(8, .int v4), (0, .ref (a 0)), (1, .int p1), (2, .int p2), (4, .long x4), (6, .long x6)]) hx hb dX4_clears_71 hl (k := 5) rfl (by rw [ev4]; rfl) (by decide) rfl (fun ls hl => ?_)
    refine lv_goto (tgt := 30) hx hb dX4_clears_74 (by decide) ?_
    exact hK30 _ _ _ _ hw hS (lv_sub hl [1, 2, 3, 4, 5, 0] rfl)
set_option maxHeartbeats 4000000 in
set_option maxRecDepth 100000 in
theorem k_X4_clears_30 {p : Program} {l : Launch} {e : Env} {s : State} {m : MethodId} {args : Array Value} {below : List Frame} {meth : Method} {c : Code} {D : va_G} {dT : Nat → ClassId} {a : Nat → Nat} {A : Nat → Prop}  {p1 : Int32} {p2 : Int32} {p3 : Int32} {post : MS → Prop} (hC : wCx RX4 cX4_clears 9 (none) D dT p s m args meth c) (hA : wAz A s) : ∀ (M : MS) (x4 : Int64) (x6 : Int64) (x8 : Int32) (n : Nat), ∀ {H : Heap} {locs : List Loc} {ls : Array Slot}, StM D dT a A s M H locs → lv_has ls 9 [(0, .ref (a 0)), (1, .int p1), (2, .int p2), (4, .long x4), (6, .long x6), (8, .int x8)] → w_X4_clears_30 p1 p2 p3 post n M x4 x6 x8 → W p l e rmX4_clears s m args below meth c H locs 0 0 (MQ below (va_Qv post (wB D (MW dT a) MI A) A) args s 0 0 A) (F0 m 30 ls []) := by
  intro M x4 x6 x8 n
  induction n generalizing M x4 x6 x8 with
  | zero => intro H locs ls  hS hl hw; exact hw.elim
  | succ n ih =>
    intro H locs ls  hS hl hw
    exact k_X4_clears_30b hC hA (fun M x4 x6 x8 hk {H} {locs} {ls}  hS hl => ih M x4 x6 x8  hS hl hk) M x4 x6 x8  hS hl hw
set_option maxHeartbeats 4000000 in
set_option maxRecDepth 100000 in
theorem k_X4_clears_0 {p : Program} {l : Launch} {e : Env} {s : State} {m : MethodId} {args : Array Value} {below : List Frame} {meth : Method} {c : Code} {D : va_G} {dT : Nat → ClassId} {a : Nat → Nat} {A : Nat → Prop}  {p1 : Int32} {p2 : Int32} {p3 : Int32} {post : MS → Prop} (hC : wCx RX4 cX4_clears 9 (none) D dT p s m args meth c) (hA : wAz A s) (M : MS) {H : Heap} {locs : List Loc} {ls : Array Slot} (hS : StM D dT a A s M H locs) (hl : lv_has ls 9 [(0, .ref (a 0)), (1, .int p1), (2, .int p2), (3, .int p3)])  (hw : w_X4_clears p1 p2 p3 post M) : W p l e rmX4_clears s m args below meth c H locs 0 0 (MQ below (va_Qv post (wB D (MW dT a) MI A) A) args s 0 0 A) (F0 m 0 ls []) := by
  have hx := hC.1
  have hb := hC.2.1
  have hown := hC.2.2.2.1
  have hts := hC.2.2.2.2.1
  unfold w_X4_clears at hw
  refine lv_aload_n hx hb dX4_clears_0 rfl (lv_at hl 0 rfl) ?_
  refine ld_q942 hC hS dX4_clears_1 ?_
  refine lv_iload_n hx hb dX4_clears_4 rfl (lv_at hl 1 rfl) ?_
  refine lv_iload_n hx hb dX4_clears_5 rfl (lv_at hl 3 rfl) ?_
  refine lv_iadd hx hb dX4_clears_6 ?_
  refine al_rows hC hS hw.1 dX4_clears_7 ?_
  have hw := hw.2
  refine lv_topl (fun v1 ev1 => ?_)
  have hw := hw v1 ev1
  refine lv_lstore (lv' := [(4, .long v1), (0, .ref (a 0)), (1, .int p1), (2, .int p2), (3, .int p3)]) hx hb dX4_clears_8 hl (by decide) rfl (fun ls hl => ?_)
  refine lv_aload_n hx hb dX4_clears_10 rfl (lv_at hl 1 rfl) ?_
  refine ld_q942 hC hS dX4_clears_11 ?_
  refine lv_iload_n hx hb dX4_clears_14 rfl (lv_at hl 3 rfl) ?_
  refine lv_iload_n hx hb dX4_clears_15 rfl (lv_at hl 4 rfl) ?_
  refine lv_iadd hx hb dX4_clears_16 ?_
  refine al_rows hC hS hw.1 dX4_clears_17 ?_
  have hw := hw.2
  refine lv_topl (fun v2 ev2 => ?_)
  have hw := hw v2 ev2
  refine lv_lstore (lv' := [(6, .long v2), (4, .long v1), (0, .ref (a 0)), (1, .int p1), (2, .int p2), (3, .int p3)]) hx hb dX4_clears_18 hl (by decide) rfl (fun ls hl => ?_)
  refine lv_lload hx hb dX4_clears_20 (lv_at hl 1 rfl) ?_
  refine lv_lconst (v := 0) hx hb dX4_clears_22 (by decide) ?_
  refine lc_if_eq (tgt := 82) hx hb dX4_clears_23 dX4_clears_24 (by decide) (fun c3 => ?_) (fun c3 => ?_)
  · have hw := hw.1 c3
    exact wRetv hC hS hw (Nat.le_refl _) (Nat.le_refl _) dX4_clears_82
  · have hw := hw.2 c3
    refine lv_iconst (v := 0) hx hb dX4_clears_27 (by decide) ?_
    refine lv_istore (lv' := [(8, .int 0), (6, .long v2), (4, .long v1), (0, .ref (a 0)), (1, .int p1), (2, .int p2), (3, .int p3)]) hx hb dX4_clears_28 hl (by decide) rfl (fun ls hl => ?_)
    obtain ⟨n, hw⟩ := hw
    exact k_X4_clears_30 hC hA _ _ _ _ n hS (lv_sub hl [3, 4, 5, 2, 1, 0] rfl) hw
abbrev v_X4_clears (M : MS) (p1 : Int32) (p2 : Int32) (p3 : Int32) (post : MS → Prop) : Prop := w_X4_clears p1 p2 p3 post M
set_option maxHeartbeats 4000000 in
set_option maxRecDepth 100000 in
theorem met_X4_clears (l : Launch) (D : va_G) (dT : Nat → ClassId) (a : Nat → Nat) (sz : Nat) (M : MS) (p1 : Int32) (p2 : Int32) (p3 : Int32) (post : MS → Prop) (hw : v_X4_clears M p1 p2 p3 post) : Met l yX4_clears (ws_ yX4_clears cX4_clears 9 (none)) rmX4_clears (wPc D dT (MW dT a) MI sz M [.ref (a 0), .int p1, .int p2, .int p3]) (va_Qv post (wB D (MW dT a) MI (va_A ((MW dT a) M) sz)) (va_A ((MW dT a) M) sz)) 0 0 (va_A ((MW dT a) M) sz) :=
  wEnt (Q := fun A => (va_Qv post (wB D (MW dT a) MI A) A)) (by decide) (Nat.le_of_ble_eq_true rfl) (fun p e s m below meth c A ls hC _ hA hS hl => k_X4_clears_0 hC hA _ hS hl hw) sz
theorem hd_X4_clears : yX4_clears.cls ≠ "java/lang/invoke/MethodHandle" ∧ yX4_clears.cls ≠ "java/lang/invoke/VarHandle" ∧ (parseMethodDescriptor yX4_clears.desc).map (fun d => d.parameters.length) = some 3 := by decide +kernel
section
variable {p : Program} {l : Launch} {e : Env} {R : Room} {s : State} {m : MethodId} {args : Array Value} {below : List Frame} {meth : Method} {c : Code} {H : Heap} {locs : List Loc} {cells slots : Nat} {Q : State → Prop} {cc : ByteArray} {nL : Nat} {ret : Option FieldType} {pc : Nat} {ls : Array Slot} {rest : List Value}
set_option maxHeartbeats 4000000 in
set_option maxRecDepth 100000 in
theorem inv_q1118 {D : va_G} {dT : Nat → ClassId} {a : Nat → Nat} {A : Nat → Prop} {M : MS} {p1 : Int32} {p2 : Int32} {p3 : Int32} {post : MS → Prop} (hC : wCx RX4 cc nL ret D dT p s m args meth c) (hA : wAz A s) (hS : StM D dT a A s M H locs) (hl : ls.size = nL) (hw : v_X4_clears M p1 p2 p3 post) (hR : rmX4_clears.frames + 1 ≤ R.frames ∧ 8 + (9 + 11) + rmX4_clears.locals ≤ R.locals) (hrest : (rest.map fun v => v.category).sum ≤ 8) (hf : cells ≤ R.cells ∧ slots ≤ R.slots) (hdg : decode cc pc = .ok (.invokevirtual 127, 3)) (kk : ∀ (u : MS) (H1 : Heap) (locs1 : List Loc), post u → StM D dT a A s u H1 locs1 → W p l e R s m args below meth c H1 locs1 cells slots Q (F0 m (pc + 3) ls rest)) : W p l e R s m args below meth c H locs cells slots Q (F0 m pc ls (.int p3 :: .int p2 :: .int p1 :: .ref (a 0) :: rest)) := by
  exact wCallVv (As := [.int p1, .int p2, .int p3]) (rest := rest) (mc := 0) (ms := 0) 0 hC (met_X4_clears l D dT a H.size M p1 p2 p3 post hw) (lw_V q1118 q1120 qs61 q89 q1121) ⟨⟨rfl, rfl⟩, hd_X4_clears, hR, hf⟩ rfl rfl rfl hA hS hl rfl hrest hdg (fun  u H1 locs1 hp hS1 => kk  u H1 locs1 hp hS1)
end
/-! LeastFramesModel.adds -/
def w_X4_adds_48 (p1 : Int32) (p2 : Int32) (K11 : MS → Int32 → Int32 → Prop) (post : Int32 → MS → Prop) (M : MS) (x3 : Int32) (x4 : Int32) (y0 : Int64) (y1 : Int32) : Prop :=
  vp_in y1 110 ∧ (∀ M1 : MS, M1 = sM_rows M (vp_updL (M_rows M) y1.toNatClampNeg y0) → (∀ v2 : Int32, v2 = x4 + 1 → (K11 M1 x3 v2)))
def w_X4_adds_140 (p1 : Int32) (p2 : Int32) (K114 : MS → Int32 → Int32 → Int32 → Prop) (post : Int32 → MS → Prop) (M : MS) (x3 : Int32) (x5 : Int32) (y0 : Int32) : Prop :=
  ∀ v1 : Int32, v1 = x5 + (-1) → (K114 M x3 y0 v1)
def w_X4_adds_182b (p1 : Int32) (p2 : Int32) (K182 : MS → Int32 → Int32 → Int32 → Prop) (post : Int32 → MS → Prop) (M : MS) (x3 : Int32) (x4 : Int32) (x5 : Int32) : Prop :=
  ((M_rank M) ≤ x5 → (vp_in (M_rank M) 10 ∧ (∀ M2 : MS, M2 = sM_pivots M (upd (M_pivots M) (M_rank M).toNatClampNeg x4) → (∀ M3 : MS, M3 = sM_rank M2 ((M_rank M2) + 1) → (post (1 : Int32) M3))))) ∧ (¬ (M_rank M) ≤ x5 → (v_X4_clears M (11 * x5) x3 x4 (fun M4 => ∀ v5 : Int32, v5 = x5 + 1 → (K182 M4 x3 x4 v5))))
def w_X4_adds_182 (p1 : Int32) (p2 : Int32) (post : Int32 → MS → Prop) : Nat → MS → Int32 → Int32 → Int32 → Prop
  | 0, _, _, _, _ => False
  | n + 1, M, x3, x4, x5 => w_X4_adds_182b p1 p2 (w_X4_adds_182 p1 p2 post n) post M x3 x4 x5
def w_X4_adds_114b (p1 : Int32) (p2 : Int32) (K114 : MS → Int32 → Int32 → Int32 → Prop) (post : Int32 → MS → Prop) (M : MS) (x3 : Int32) (x4 : Int32) (x5 : Int32) : Prop :=
  (x5 < (0 : Int32) → ((x4 = ((-1) : Int32) → (vp_in (x3 + 10) 110 ∧ (((M_rows M (x3 + 10).toNatClampNeg) = (0 : Int64) → (post (1 : Int32) M)) ∧ (¬ (M_rows M (x3 + 10).toNatClampNeg) = (0 : Int64) → (post (0 : Int32) M))))) ∧ (¬ x4 = ((-1) : Int32) → (v_X4_lowers M x3 (fun M3 => ∃ n, w_X4_adds_182 p1 p2 post n M3 x3 x4 0))))) ∧ (¬ x5 < (0 : Int32) → (vp_in (x3 + x5) 110 ∧ (((M_rows M (x3 + x5).toNatClampNeg) = (0 : Int64) → (w_X4_adds_140 p1 p2 K114 post M x3 x5 x4)) ∧ (¬ (M_rows M (x3 + x5).toNatClampNeg) = (0 : Int64) → (w_X4_adds_140 p1 p2 K114 post M x3 x5 x5)))))
def w_X4_adds_114 (p1 : Int32) (p2 : Int32) (post : Int32 → MS → Prop) : Nat → MS → Int32 → Int32 → Int32 → Prop
  | 0, _, _, _, _ => False
  | n + 1, M, x3, x4, x5 => w_X4_adds_114b p1 p2 (w_X4_adds_114 p1 p2 post n) post M x3 x4 x5
def w_X4_adds_75b (p1 : Int32) (p2 : Int32) (K75 : MS → Int32 → Int32 → Prop) (post : Int32 → MS → Prop) (M : MS) (x3 : Int32) (x4 : Int32) : Prop :=
  ((M_rank M) ≤ x4 → (∃ n, w_X4_adds_114 p1 p2 post n M x3 (-1) 9)) ∧ (¬ (M_rank M) ≤ x4 → (vp_in x4 10 ∧ (v_X4_clears M x3 (11 * x4) (M_pivots M x4.toNatClampNeg) (fun M2 => ∀ v3 : Int32, v3 = x4 + 1 → (K75 M2 x3 v3)))))
def w_X4_adds_75 (p1 : Int32) (p2 : Int32) (post : Int32 → MS → Prop) : Nat → MS → Int32 → Int32 → Prop
  | 0, _, _, _ => False
  | n + 1, M, x3, x4 => w_X4_adds_75b p1 p2 (w_X4_adds_75 p1 p2 post n) post M x3 x4
def w_X4_adds_11b (p1 : Int32) (p2 : Int32) (K11 : MS → Int32 → Int32 → Prop) (post : Int32 → MS → Prop) (M : MS) (x3 : Int32) (x4 : Int32) : Prop :=
  ((10 : Int32) ≤ x4 → (vp_in p2 10 ∧ (vp_in (x3 + 10) 110 ∧ (∀ M2 : MS, M2 = sM_rows M (vp_updL (M_rows M) (x3 + 10).toNatClampNeg ((-(M_loads M p2.toNatClampNeg)).toInt64)) → (∃ n, w_X4_adds_75 p1 p2 post n M2 x3 0))))) ∧ (¬ (10 : Int32) ≤ x4 → ((((p1 >>> (x4 &&& 31)) &&& 1) = (1 : Int32) → (v_X4_brought M x4 p2 (fun r4 => w_X4_adds_48 p1 p2 K11 post M x3 x4 r4.toInt64 (x3 + x4)))) ∧ (¬ ((p1 >>> (x4 &&& 31)) &&& 1) = (1 : Int32) → (w_X4_adds_48 p1 p2 K11 post M x3 x4 0 (x3 + x4)))))
def w_X4_adds_11 (p1 : Int32) (p2 : Int32) (post : Int32 → MS → Prop) : Nat → MS → Int32 → Int32 → Prop
  | 0, _, _, _ => False
  | n + 1, M, x3, x4 => w_X4_adds_11b p1 p2 (w_X4_adds_11 p1 p2 post n) post M x3 x4
def w_X4_adds (p1 : Int32) (p2 : Int32) (post : Int32 → MS → Prop) (M : MS) : Prop :=
  ∀ v1 : Int32, v1 = 11 * (M_rank M) → (∃ n, w_X4_adds_11 p1 p2 post n M v1 0)
abbrev rmX4_adds : Room := { frames := 4, cells := 0, slots := 0, locals := 89 }
set_option maxHeartbeats 4000000 in
set_option maxRecDepth 100000 in
theorem k_X4_adds_48 {p : Program} {l : Launch} {e : Env} {s : State} {m : MethodId} {args : Array Value} {below : List Frame} {meth : Method} {c : Code} {D : va_G} {dT : Nat → ClassId} {a : Nat → Nat} {A : Nat → Prop}  {p1 : Int32} {p2 : Int32} {K11 : MS → Int32 → Int32 → Prop} {post : Int32 → MS → Prop} (hC : wCx RX4 cX4_adds 6 (some .boolean) D dT p s m args meth c) (hA : wAz A s) (hK11 : ∀ (M : MS) (x3 : Int32) (x4 : Int32), K11 M x3 x4 → ∀ {H : Heap} {locs : List Loc} {ls : Array Slot}, StM D dT a A s M H locs → lv_has ls 6 [(0, .ref (a 0)), (1, .int p1), (2, .int p2), (3, .int x3), (4, .int x4)] → W p l e rmX4_adds s m args below meth c H locs 0 0 (MQ below (va_Qi post (wB D (MW dT a) MI A) A) args s 0 0 A) (F0 m 11 ls [])) (M : MS) (x3 : Int32) (x4 : Int32) (y0 : Int64) (y1 : Int32) {H : Heap} {locs : List Loc} {ls : Array Slot} (hS : StM D dT a A s M H locs) (hl : lv_has ls 6 [(0, .ref (a 0)), (1, .int p1), (2, .int p2), (3, .int x3), (4, .int x4)])  (hw : w_X4_adds_48 p1 p2 K11 post M x3 x4 y0 y1) : W p l e rmX4_adds s m args below meth c H locs 0 0 (MQ below (va_Qi post (wB D (MW dT a) MI A) A) args s 0 0 A) (F0 m 48 ls [.long y0, .int y1, .ref (a 6)]) := by
  have hx := hC.1
  have hb := hC.2.1
  have hown := hC.2.2.2.1
  have hts := hC.2.2.2.2.1
  unfold w_X4_adds_48 at hw
  have hi := hw.1
  have hw := hw.2
  refine as_rows hC hS hi dX4_adds_48 (fun H locs hS => ?_)
  have hw := hw (sM_rows M (vp_updL (M_rows M) y1.toNatClampNeg y0)) rfl
  generalize sM_rows M (vp_updL (M_rows M) y1.toNatClampNeg y0) = M1 at hS hw
  obtain ⟨v2, ev2⟩ : ∃ y : Int32, y = x4 + 1 := ⟨_, rfl⟩
  have hw := hw v2 ev2
  refine lv_iinc (v := v2) (lv' := [(4, .int v2), (0, .ref (a 0)), (1, .int p1), (2, .int p2), (3, .int x3)]) hx hb dX4_adds_49 hl (k := 4) rfl (by rw [ev2]; rfl) (by decide) rfl (fun ls hl => ?_)
  refine lv_goto (tgt := 11) hx hb dX4_adds_52 (by decide) ?_
  exact hK11 _ _ _ hw hS (lv_sub hl [1, 2, 3, 4, 0] rfl)
set_option maxHeartbeats 4000000 in
set_option maxRecDepth 100000 in
theorem k_X4_adds_140 {p : Program} {l : Launch} {e : Env} {s : State} {m : MethodId} {args : Array Value} {below : List Frame} {meth : Method} {c : Code} {D : va_G} {dT : Nat → ClassId} {a : Nat → Nat} {A : Nat → Prop}  {p1 : Int32} {p2 : Int32} {K114 : MS → Int32 → Int32 → Int32 → Prop} {post : Int32 → MS → Prop} (hC : wCx RX4 cX4_adds 6 (some .boolean) D dT p s m args meth c) (hA : wAz A s) (hK114 : ∀ (M : MS) (x3 : Int32) (x4 : Int32) (x5 : Int32), K114 M x3 x4 x5 → ∀ {H : Heap} {locs : List Loc} {ls : Array Slot}, StM D dT a A s M H locs → lv_has ls 6 [(0, .ref (a 0)), (3, .int x3), (4, .int x4), (5, .int x5)] → W p l e rmX4_adds s m args below meth c H locs 0 0 (MQ below (va_Qi post (wB D (MW dT a) MI A) A) args s 0 0 A) (F0 m 114 ls [])) (M : MS) (x3 : Int32) (x5 : Int32) (y0 : Int32) {H : Heap} {locs : List Loc} {ls : Array Slot} (hS : StM D dT a A s M H locs) (hl : lv_has ls 6 [(0, .ref (a 0)), (3, .int x3), (5, .int x5)])  (hw : w_X4_adds_140 p1 p2 K114 post M x3 x5 y0) : W p l e rmX4_adds s m args below meth c H locs 0 0 (MQ below (va_Qi post (wB D (MW dT a) MI A) A) args s 0 0 A) (F0 m 140 ls [.int y0]) := by
  have hx := hC.1
  have hb := hC.2.1
  have hown := hC.2.2.2.1
  have hts := hC.2.2.2.2.1
  unfold w_X4_adds_140 at hw
  refine lv_istore (lv' := [(4, .int y0), (0, .ref (a 0)), (3, .int x3), (5, .int x5)]) hx hb dX4_adds_140 hl (by decide) rfl (fun ls hl => ?_)
  obtain ⟨v1, ev1⟩ : ∃ y : Int32, y = x5 + (-1) := ⟨_, rfl⟩
  have hw := hw v1 ev1
  refine lv_iinc (v := v1) (lv' := [(5, .int v1), (4, .int y0), (0, .ref (a 0)), (3, .int x3)]) hx hb dX4_adds_142 hl (k := 3) rfl (by rw [ev1]; rfl) (by decide) rfl (fun ls hl => ?_)
  refine lv_goto (tgt := 114) hx hb dX4_adds_145 (by decide) ?_
  exact hK114 _ _ _ _ hw hS (lv_sub hl [2, 3, 1, 0] rfl)
set_option maxHeartbeats 4000000 in
set_option maxRecDepth 100000 in
theorem k_X4_adds_182b {p : Program} {l : Launch} {e : Env} {s : State} {m : MethodId} {args : Array Value} {below : List Frame} {meth : Method} {c : Code} {D : va_G} {dT : Nat → ClassId} {a : Nat → Nat} {A : Nat → Prop}  {p1 : Int32} {p2 : Int32} {K182 : MS → Int32 → Int32 → Int32 → Prop} {post : Int32 → MS → Prop} (hC : wCx RX4 cX4_adds 6 (some .boolean) D dT p s m args meth c) (hA : wAz A s) (hK182 : ∀ (M : MS) (x3 : Int32) (x4 : Int32) (x5 : Int32), K182 M x3 x4 x5 → ∀ {H : Heap} {locs : List Loc} {ls : Array Slot}, StM D dT a A s M H locs → lv_has ls 6 [(0, .ref (a 0)), (3, .int x3), (4, .int x4), (5, .int x5)] → W p l e rmX4_adds s m args below meth c H locs 0 0 (MQ below (va_Qi post (wB D (MW dT a) MI A) A) args s 0 0 A) (F0 m 182 ls [])) (M : MS) (x3 : Int32) (x4 : Int32) (x5 : Int32) {H : Heap} {locs : List Loc} {ls : Array Slot} (hS : StM D dT a A s M H locs) (hl : lv_has ls 6 [(0, .ref (a 0)), (3, .int x3), (4, .int x4), (5, .int x5)])  (hw : w_X4_adds_182b p1 p2 K182 post M x3 x4 x5) : W p l e rmX4_adds s m args below meth c H locs 0 0 (MQ below (va_Qi post (wB D (MW dT a) MI A) A) args s 0 0 A) (F0 m 182 ls []) := by
  have hx := hC.1
  have hb := hC.2.1
  have hown := hC.2.2.2.1
  have hts := hC.2.2.2.2.1
  unfold w_X4_adds_182b at hw
  refine lv_iload hx hb dX4_adds_182 (lv_at hl 3 rfl) ?_
  refine lv_aload_n hx hb dX4_adds_184 rfl (lv_at hl 0 rfl) ?_
  refine ld_q944 hC hS dX4_adds_185 ?_
  refine lv_icmp_ge (tgt := 209) hx hb dX4_adds_188 (by decide) (fun c1 => ?_) (fun c1 => ?_)
  · have hw := hw.1 c1
    refine lv_aload_n hx hb dX4_adds_209 rfl (lv_at hl 0 rfl) ?_
    refine ld_q943 hC hS dX4_adds_210 ?_
    refine lv_aload_n hx hb dX4_adds_213 rfl (lv_at hl 0 rfl) ?_
    refine ld_q944 hC hS dX4_adds_214 ?_
    refine lv_iload hx hb dX4_adds_217 (lv_at hl 2 rfl) ?_
    have hi := hw.1
    have hw := hw.2
    refine as_pivots hC hS hi dX4_adds_219 (fun H locs hS => ?_)
    have hw := hw (sM_pivots M (upd (M_pivots M) (M_rank M).toNatClampNeg x4)) rfl
    generalize sM_pivots M (upd (M_pivots M) (M_rank M).toNatClampNeg x4) = M2 at hS hw
    refine lv_aload_n hx hb dX4_adds_220 rfl (lv_at hl 0 rfl) ?_
    refine lv_dup hx hb dX4_adds_221 rfl ?_
    refine ld_q944 hC hS dX4_adds_222 ?_
    refine lv_iconst (v := 1) hx hb dX4_adds_225 (by decide) ?_
    refine lv_iadd hx hb dX4_adds_226 ?_
    refine st_q944 hC hS dX4_adds_227 (fun H locs hS => ?_)
    have hw := hw (sM_rank M2 ((M_rank M2) + 1)) rfl
    generalize sM_rank M2 ((M_rank M2) + 1) = M3 at hS hw
    refine lv_iconst (v := 1) hx hb dX4_adds_230 (by decide) ?_
    exact wRetz hC hS (by decide) hw (Nat.le_refl _) (Nat.le_refl _) dX4_adds_231
  · have hw := hw.2 c1
    refine lv_aload_n hx hb dX4_adds_191 rfl (lv_at hl 0 rfl) ?_
    refine lv_bipush (v := 11) hx hb dX4_adds_192 (by decide) ?_
    refine lv_iload hx hb dX4_adds_194 (lv_at hl 3 rfl) ?_
    refine lv_imul hx hb dX4_adds_196 ?_
    refine lv_iload_n hx hb dX4_adds_197 rfl (lv_at hl 1 rfl) ?_
    refine lv_iload hx hb dX4_adds_198 (lv_at hl 2 rfl) ?_
    refine inv_q1118 hC hA hS hl.1 hw ⟨Nat.le_of_ble_eq_true rfl, Nat.le_of_ble_eq_true rfl⟩ (Nat.le_of_ble_eq_true rfl) ⟨Nat.zero_le _, Nat.zero_le _⟩ dX4_adds_200 (fun M4 H locs hw hS => ?_)
    obtain ⟨v5, ev5⟩ : ∃ y : Int32, y = x5 + 1 := ⟨_, rfl⟩
    have hw := hw v5 ev5
    refine lv_iinc (v := v5) (lv' := [(5, .int v5), (0, .ref (a 0)), (3, .int x3), (4, .int x4)]) hx hb dX4_adds_203 hl (k := 3) rfl (by rw [ev5]; rfl) (by decide) rfl (fun ls hl => ?_)
    refine lv_goto (tgt := 182) hx hb dX4_adds_206 (by decide) ?_
    exact hK182 _ _ _ _ hw hS (lv_sub hl [1, 2, 3, 0] rfl)
set_option maxHeartbeats 4000000 in
set_option maxRecDepth 100000 in
theorem k_X4_adds_182 {p : Program} {l : Launch} {e : Env} {s : State} {m : MethodId} {args : Array Value} {below : List Frame} {meth : Method} {c : Code} {D : va_G} {dT : Nat → ClassId} {a : Nat → Nat} {A : Nat → Prop}  {p1 : Int32} {p2 : Int32} {post : Int32 → MS → Prop} (hC : wCx RX4 cX4_adds 6 (some .boolean) D dT p s m args meth c) (hA : wAz A s) : ∀ (M : MS) (x3 : Int32) (x4 : Int32) (x5 : Int32) (n : Nat), ∀ {H : Heap} {locs : List Loc} {ls : Array Slot}, StM D dT a A s M H locs → lv_has ls 6 [(0, .ref (a 0)), (3, .int x3), (4, .int x4), (5, .int x5)] → w_X4_adds_182 p1 p2 post n M x3 x4 x5 → W p l e rmX4_adds s m args below meth c H locs 0 0 (MQ below (va_Qi post (wB D (MW dT a) MI A) A) args s 0 0 A) (F0 m 182 ls []) := by
  intro M x3 x4 x5 n
  induction n generalizing M x3 x4 x5 with
  | zero => intro H locs ls  hS hl hw; exact hw.elim
  | succ n ih =>
    intro H locs ls  hS hl hw
    exact k_X4_adds_182b hC hA (fun M x3 x4 x5 hk {H} {locs} {ls}  hS hl => ih M x3 x4 x5  hS hl hk) M x3 x4 x5  hS hl hw
set_option maxHeartbeats 4000000 in
set_option maxRecDepth 100000 in
theorem k_X4_adds_114b {p : Program} {l : Launch} {e : Env} {s : State} {m : MethodId} {args : Array Value} {below : List Frame} {meth : Method} {c : Code} {D : va_G} {dT : Nat → ClassId} {a : Nat → Nat} {A : Nat → Prop}  {p1 : Int32} {p2 : Int32} {K114 : MS → Int32 → Int32 → Int32 → Prop} {post : Int32 → MS → Prop} (hC : wCx RX4 cX4_adds 6 (some .boolean) D dT p s m args meth c) (hA : wAz A s) (hK114 : ∀ (M : MS) (x3 : Int32) (x4 : Int32) (x5 : Int32), K114 M x3 x4 x5 → ∀ {H : Heap} {locs : List Loc} {ls : Array Slot}, StM D dT a A s M H locs → lv_has ls 6 [(0, .ref (a 0)), (3, .int x3), (4, .int x4), (5, .int x5)] → W p l e rmX4_adds s m args below meth c H locs 0 0 (MQ below (va_Qi post (wB D (MW dT a) MI A) A) args s 0 0 A) (F0 m 114 ls [])) (M : MS) (x3 : Int32) (x4 : Int32) (x5 : Int32) {H : Heap} {locs : List Loc} {ls : Array Slot} (hS : StM D dT a A s M H locs) (hl : lv_has ls 6 [(0, .ref (a 0)), (3, .int x3), (4, .int x4), (5, .int x5)])  (hw : w_X4_adds_114b p1 p2 K114 post M x3 x4 x5) : W p l e rmX4_adds s m args below meth c H locs 0 0 (MQ below (va_Qi post (wB D (MW dT a) MI A) A) args s 0 0 A) (F0 m 114 ls []) := by
  have hx := hC.1
  have hb := hC.2.1
  have hown := hC.2.2.2.1
  have hts := hC.2.2.2.2.1
  unfold w_X4_adds_114b at hw
  refine lv_iload hx hb dX4_adds_114 (lv_at hl 3 rfl) ?_
  refine lv_if_lt (tgt := 148) hx hb dX4_adds_116 (by decide) (fun c1 => ?_) (fun c1 => ?_)
  · have hw := hw.1 c1
    refine lv_iload hx hb dX4_adds_148 (lv_at hl 2 rfl) ?_
    refine lv_iconst (v := (-1)) hx hb dX4_adds_150 (by decide) ?_
    refine lv_icmp_ne (tgt := 174) hx hb dX4_adds_151 (by decide) (fun c2 => ?_) (fun c2 => ?_)
    · have hw := hw.2 c2
      refine lv_aload_n hx hb dX4_adds_174 rfl (lv_at hl 0 rfl) ?_
      refine lv_iload_n hx hb dX4_adds_175 rfl (lv_at hl 1 rfl) ?_
      refine inv_q1122 hC hA hS hl.1 hw ⟨Nat.le_of_ble_eq_true rfl, Nat.le_of_ble_eq_true rfl⟩ (Nat.le_of_ble_eq_true rfl) ⟨Nat.zero_le _, Nat.zero_le _⟩ dX4_adds_176 (fun M3 H locs hw hS => ?_)
      refine lv_iconst (v := 0) hx hb dX4_adds_179 (by decide) ?_
      refine lv_istore (lv' := [(5, .int 0), (0, .ref (a 0)), (3, .int x3), (4, .int x4)]) hx hb dX4_adds_180 hl (by decide) rfl (fun ls hl => ?_)
      obtain ⟨n, hw⟩ := hw
      exact k_X4_adds_182 hC hA _ _ _ _ n hS (lv_sub hl [1, 2, 3, 0] rfl) hw
    · have hw := hw.1 c2
      refine lv_aload_n hx hb dX4_adds_154 rfl (lv_at hl 0 rfl) ?_
      refine ld_q942 hC hS dX4_adds_155 ?_
      refine lv_iload_n hx hb dX4_adds_158 rfl (lv_at hl 1 rfl) ?_
      refine lv_bipush (v := 10) hx hb dX4_adds_159 (by decide) ?_
      refine lv_iadd hx hb dX4_adds_161 ?_
      refine al_rows hC hS hw.1 dX4_adds_162 ?_
      have hw := hw.2
      refine lv_lconst (v := 0) hx hb dX4_adds_163 (by decide) ?_
      refine lc_if_ne (tgt := 172) hx hb dX4_adds_164 dX4_adds_165 (by decide) (fun c4 => ?_) (fun c4 => ?_)
      · have hw := hw.2 c4
        refine lv_iconst (v := 0) hx hb dX4_adds_172 (by decide) ?_
        exact wRetz hC hS (by decide) hw (Nat.le_refl _) (Nat.le_refl _) dX4_adds_173
      · have hw := hw.1 c4
        refine lv_iconst (v := 1) hx hb dX4_adds_168 (by decide) ?_
        refine lv_goto (tgt := 173) hx hb dX4_adds_169 (by decide) ?_
        exact wRetz hC hS (by decide) hw (Nat.le_refl _) (Nat.le_refl _) dX4_adds_173
  · have hw := hw.2 c1
    refine lv_aload_n hx hb dX4_adds_119 rfl (lv_at hl 0 rfl) ?_
    refine ld_q942 hC hS dX4_adds_120 ?_
    refine lv_iload_n hx hb dX4_adds_123 rfl (lv_at hl 1 rfl) ?_
    refine lv_iload hx hb dX4_adds_124 (lv_at hl 3 rfl) ?_
    refine lv_iadd hx hb dX4_adds_126 ?_
    refine al_rows hC hS hw.1 dX4_adds_127 ?_
    have hw := hw.2
    refine lv_lconst (v := 0) hx hb dX4_adds_128 (by decide) ?_
    refine lc_if_eq (tgt := 138) hx hb dX4_adds_129 dX4_adds_130 (by decide) (fun c5 => ?_) (fun c5 => ?_)
    · have hw := hw.1 c5
      refine lv_iload hx hb dX4_adds_138 (lv_at hl 2 rfl) ?_
      exact k_X4_adds_140 hC hA hK114 _ _ _ _ hS (lv_sub hl [0, 1, 3] rfl) hw
    · have hw := hw.2 c5
      refine lv_iload hx hb dX4_adds_133 (lv_at hl 3 rfl) ?_
      refine lv_goto (tgt := 140) hx hb dX4_adds_135 (by decide) ?_
      exact k_X4_adds_140 hC hA hK114 _ _ _ _ hS (lv_sub hl [0, 1, 3] rfl) hw
set_option maxHeartbeats 4000000 in
set_option maxRecDepth 100000 in
theorem k_X4_adds_114 {p : Program} {l : Launch} {e : Env} {s : State} {m : MethodId} {args : Array Value} {below : List Frame} {meth : Method} {c : Code} {D : va_G} {dT : Nat → ClassId} {a : Nat → Nat} {A : Nat → Prop}  {p1 : Int32} {p2 : Int32} {post : Int32 → MS → Prop} (hC : wCx RX4 cX4_adds 6 (some .boolean) D dT p s m args meth c) (hA : wAz A s) : ∀ (M : MS) (x3 : Int32) (x4 : Int32) (x5 : Int32) (n : Nat), ∀ {H : Heap} {locs : List Loc} {ls : Array Slot}, StM D dT a A s M H locs → lv_has ls 6 [(0, .ref (a 0)), (3, .int x3), (4, .int x4), (5, .int x5)] → w_X4_adds_114 p1 p2 post n M x3 x4 x5 → W p l e rmX4_adds s m args below meth c H locs 0 0 (MQ below (va_Qi post (wB D (MW dT a) MI A) A) args s 0 0 A) (F0 m 114 ls []) := by
  intro M x3 x4 x5 n
  induction n generalizing M x3 x4 x5 with
  | zero => intro H locs ls  hS hl hw; exact hw.elim
  | succ n ih =>
    intro H locs ls  hS hl hw
    exact k_X4_adds_114b hC hA (fun M x3 x4 x5 hk {H} {locs} {ls}  hS hl => ih M x3 x4 x5  hS hl hk) M x3 x4 x5  hS hl hw
set_option maxHeartbeats 4000000 in
set_option maxRecDepth 100000 in
theorem k_X4_adds_75b {p : Program} {l : Launch} {e : Env} {s : State} {m : MethodId} {args : Array Value} {below : List Frame} {meth : Method} {c : Code} {D : va_G} {dT : Nat → ClassId} {a : Nat → Nat} {A : Nat → Prop}  {p1 : Int32} {p2 : Int32} {K75 : MS → Int32 → Int32 → Prop} {post : Int32 → MS → Prop} (hC : wCx RX4 cX4_adds 6 (some .boolean) D dT p s m args meth c) (hA : wAz A s) (hK75 : ∀ (M : MS) (x3 : Int32) (x4 : Int32), K75 M x3 x4 → ∀ {H : Heap} {locs : List Loc} {ls : Array Slot}, StM D dT a A s M H locs → lv_has ls 6 [(0, .ref (a 0)), (3, .int x3), (4, .int x4)] → W p l e rmX4_adds s m args below meth c H locs 0 0 (MQ below (va_Qi post (wB D (MW dT a) MI A) A) args s 0 0 A) (F0 m 75 ls [])) (M : MS) (x3 : Int32) (x4 : Int32) {H : Heap} {locs : List Loc} {ls : Array Slot} (hS : StM D dT a A s M H locs) (hl : lv_has ls 6 [(0, .ref (a 0)), (3, .int x3), (4, .int x4)])  (hw : w_X4_adds_75b p1 p2 K75 post M x3 x4) : W p l e rmX4_adds s m args below meth c H locs 0 0 (MQ below (va_Qi post (wB D (MW dT a) MI A) A) args s 0 0 A) (F0 m 75 ls []) := by
  have hx := hC.1
  have hb := hC.2.1
  have hown := hC.2.2.2.1
  have hts := hC.2.2.2.2.1
  unfold w_X4_adds_75b at hw
  refine lv_iload hx hb dX4_adds_75 (lv_at hl 2 rfl) ?_
  refine lv_aload_n hx hb dX4_adds_77 rfl (lv_at hl 0 rfl) ?_
  refine ld_q944 hC hS dX4_adds_78 ?_
  refine lv_icmp_ge (tgt := 107) hx hb dX4_adds_81 (by decide) (fun c1 => ?_) (fun c1 => ?_)
  · have hw := hw.1 c1
    refine lv_iconst (v := (-1)) hx hb dX4_adds_107 (by decide) ?_
    refine lv_istore (lv' := [(4, .int (-1)), (0, .ref (a 0)), (3, .int x3)]) hx hb dX4_adds_108 hl (by decide) rfl (fun ls hl => ?_)
    refine lv_bipush (v := 9) hx hb dX4_adds_110 (by decide) ?_
    refine lv_istore (lv' := [(5, .int 9), (4, .int (-1)), (0, .ref (a 0)), (3, .int x3)]) hx hb dX4_adds_112 hl (by decide) rfl (fun ls hl => ?_)
    obtain ⟨n, hw⟩ := hw
    exact k_X4_adds_114 hC hA _ _ _ _ n hS (lv_sub hl [2, 3, 1, 0] rfl) hw
  · have hw := hw.2 c1
    refine lv_aload_n hx hb dX4_adds_84 rfl (lv_at hl 0 rfl) ?_
    refine lv_iload_n hx hb dX4_adds_85 rfl (lv_at hl 1 rfl) ?_
    refine lv_bipush (v := 11) hx hb dX4_adds_86 (by decide) ?_
    refine lv_iload hx hb dX4_adds_88 (lv_at hl 2 rfl) ?_
    refine lv_imul hx hb dX4_adds_90 ?_
    refine lv_aload_n hx hb dX4_adds_91 rfl (lv_at hl 0 rfl) ?_
    refine ld_q943 hC hS dX4_adds_92 ?_
    refine lv_iload hx hb dX4_adds_95 (lv_at hl 2 rfl) ?_
    refine al_pivots hC hS hw.1 dX4_adds_97 ?_
    have hw := hw.2
    refine inv_q1118 hC hA hS hl.1 hw ⟨Nat.le_of_ble_eq_true rfl, Nat.le_of_ble_eq_true rfl⟩ (Nat.le_of_ble_eq_true rfl) ⟨Nat.zero_le _, Nat.zero_le _⟩ dX4_adds_98 (fun M2 H locs hw hS => ?_)
    obtain ⟨v3, ev3⟩ : ∃ y : Int32, y = x4 + 1 := ⟨_, rfl⟩
    have hw := hw v3 ev3
    refine lv_iinc (v := v3) (lv' := [(4, .int v3), (0, .ref (a 0)), (3, .int x3)]) hx hb dX4_adds_101 hl (k := 2) rfl (by rw [ev3]; rfl) (by decide) rfl (fun ls hl => ?_)
    refine lv_goto (tgt := 75) hx hb dX4_adds_104 (by decide) ?_
    exact hK75 _ _ _ hw hS (lv_sub hl [1, 2, 0] rfl)
set_option maxHeartbeats 4000000 in
set_option maxRecDepth 100000 in
theorem k_X4_adds_75 {p : Program} {l : Launch} {e : Env} {s : State} {m : MethodId} {args : Array Value} {below : List Frame} {meth : Method} {c : Code} {D : va_G} {dT : Nat → ClassId} {a : Nat → Nat} {A : Nat → Prop}  {p1 : Int32} {p2 : Int32} {post : Int32 → MS → Prop} (hC : wCx RX4 cX4_adds 6 (some .boolean) D dT p s m args meth c) (hA : wAz A s) : ∀ (M : MS) (x3 : Int32) (x4 : Int32) (n : Nat), ∀ {H : Heap} {locs : List Loc} {ls : Array Slot}, StM D dT a A s M H locs → lv_has ls 6 [(0, .ref (a 0)), (3, .int x3), (4, .int x4)] → w_X4_adds_75 p1 p2 post n M x3 x4 → W p l e rmX4_adds s m args below meth c H locs 0 0 (MQ below (va_Qi post (wB D (MW dT a) MI A) A) args s 0 0 A) (F0 m 75 ls []) := by
  intro M x3 x4 n
  induction n generalizing M x3 x4 with
  | zero => intro H locs ls  hS hl hw; exact hw.elim
  | succ n ih =>
    intro H locs ls  hS hl hw
    exact k_X4_adds_75b hC hA (fun M x3 x4 hk {H} {locs} {ls}  hS hl => ih M x3 x4  hS hl hk) M x3 x4  hS hl hw
set_option maxHeartbeats 4000000 in
set_option maxRecDepth 100000 in
theorem k_X4_adds_11b {p : Program} {l : Launch} {e : Env} {s : State} {m : MethodId} {args : Array Value} {below : List Frame} {meth : Method} {c : Code} {D : va_G} {dT : Nat → ClassId} {a : Nat → Nat} {A : Nat → Prop}  {p1 : Int32} {p2 : Int32} {K11 : MS → Int32 → Int32 → Prop} {post : Int32 → MS → Prop} (hC : wCx RX4 cX4_adds 6 (some .boolean) D dT p s m args meth c) (hA : wAz A s) (hK11 : ∀ (M : MS) (x3 : Int32) (x4 : Int32), K11 M x3 x4 → ∀ {H : Heap} {locs : List Loc} {ls : Array Slot}, StM D dT a A s M H locs → lv_has ls 6 [(0, .ref (a 0)), (1, .int p1), (2, .int p2), (3, .int x3), (4, .int x4)] → W p l e rmX4_adds s m args below meth c H locs 0 0 (MQ below (va_Qi post (wB D (MW dT a) MI A) A) args s 0 0 A) (F0 m 11 ls [])) (M : MS) (x3 : Int32) (x4 : Int32) {H : Heap} {locs : List Loc} {ls : Array Slot} (hS : StM D dT a A s M H locs) (hl : lv_has ls 6 [(0, .ref (a 0)), (1, .int p1), (2, .int p2), (3, .int x3), (4, .int x4)])  (hw : w_X4_adds_11b p1 p2 K11 post M x3 x4) : W p l e rmX4_adds s m args below meth c H locs 0 0 (MQ below (va_Qi post (wB D (MW dT a) MI A) A) args s 0 0 A) (F0 m 11 ls []) := by
  have hx := hC.1
  have hb := hC.2.1
  have hown := hC.2.2.2.1
  have hts := hC.2.2.2.2.1
  unfold w_X4_adds_11b at hw
  refine lv_iload hx hb dX4_adds_11 (lv_at hl 4 rfl) ?_
  refine lv_bipush (v := 10) hx hb dX4_adds_13 (by decide) ?_
  refine lv_icmp_ge (tgt := 55) hx hb dX4_adds_15 (by decide) (fun c1 => ?_) (fun c1 => ?_)
  · have hw := hw.1 c1
    refine lv_aload_n hx hb dX4_adds_55 rfl (lv_at hl 0 rfl) ?_
    refine ld_q942 hC hS dX4_adds_56 ?_
    refine lv_iload_n hx hb dX4_adds_59 rfl (lv_at hl 3 rfl) ?_
    refine lv_bipush (v := 10) hx hb dX4_adds_60 (by decide) ?_
    refine lv_iadd hx hb dX4_adds_62 ?_
    refine lv_aload_n hx hb dX4_adds_63 rfl (lv_at hl 0 rfl) ?_
    refine ld_q938 hC hS dX4_adds_64 ?_
    refine lv_iload_n hx hb dX4_adds_67 rfl (lv_at hl 2 rfl) ?_
    refine al_loads hC hS hw.1 dX4_adds_68 ?_
    have hw := hw.2
    refine lv_ineg hx hb dX4_adds_69 ?_
    refine lv_i2l hx hb dX4_adds_70 rfl ?_
    have hi := hw.1
    have hw := hw.2
    refine as_rows hC hS hi dX4_adds_71 (fun H locs hS => ?_)
    have hw := hw (sM_rows M (vp_updL (M_rows M) (x3 + 10).toNatClampNeg ((-(M_loads M p2.toNatClampNeg)).toInt64))) rfl
    generalize sM_rows M (vp_updL (M_rows M) (x3 + 10).toNatClampNeg ((-(M_loads M p2.toNatClampNeg)).toInt64)) = M2 at hS hw
    refine lv_iconst (v := 0) hx hb dX4_adds_72 (by decide) ?_
    refine lv_istore (lv' := [(4, .int 0), (0, .ref (a 0)), (1, .int p1), (2, .int p2), (3, .int x3)]) hx hb dX4_adds_73 hl (by decide) rfl (fun ls hl => ?_)
    obtain ⟨n, hw⟩ := hw
    exact k_X4_adds_75 hC hA _ _ _ n hS (lv_sub hl [1, 4, 0] rfl) hw
  · have hw := hw.2 c1
    refine lv_aload_n hx hb dX4_adds_18 rfl (lv_at hl 0 rfl) ?_
    refine ld_q942 hC hS dX4_adds_19 ?_
    refine lv_iload_n hx hb dX4_adds_22 rfl (lv_at hl 3 rfl) ?_
    refine lv_iload hx hb dX4_adds_23 (lv_at hl 4 rfl) ?_
    refine lv_iadd hx hb dX4_adds_25 ?_
    refine lv_iload_n hx hb dX4_adds_26 rfl (lv_at hl 1 rfl) ?_
    refine lv_iload hx hb dX4_adds_27 (lv_at hl 4 rfl) ?_
    refine lv_ishr hx hb dX4_adds_29 ?_
    refine lv_iconst (v := 1) hx hb dX4_adds_30 (by decide) ?_
    refine lv_iand hx hb dX4_adds_31 ?_
    refine lv_iconst (v := 1) hx hb dX4_adds_32 (by decide) ?_
    refine lv_icmp_ne (tgt := 47) hx hb dX4_adds_33 (by decide) (fun c3 => ?_) (fun c3 => ?_)
    · have hw := hw.2 c3
      refine lv_lconst (v := 0) hx hb dX4_adds_47 (by decide) ?_
      exact k_X4_adds_48 hC hA hK11 _ _ _ _ _ hS (lv_sub hl [0, 1, 2, 3, 4] rfl) hw
    · have hw := hw.1 c3
      refine lv_aload_n hx hb dX4_adds_36 rfl (lv_at hl 0 rfl) ?_
      refine lv_iload hx hb dX4_adds_37 (lv_at hl 4 rfl) ?_
      refine lv_iload_n hx hb dX4_adds_39 rfl (lv_at hl 2 rfl) ?_
      refine inv_q1114 hC hA hS hl.1 hw ⟨Nat.le_of_ble_eq_true rfl, Nat.le_of_ble_eq_true rfl⟩ (Nat.le_of_ble_eq_true rfl) ⟨Nat.zero_le _, Nat.zero_le _⟩ dX4_adds_40 (fun r4 H locs hw hS => ?_)
      refine lv_i2l hx hb dX4_adds_43 rfl ?_
      refine lv_goto (tgt := 48) hx hb dX4_adds_44 (by decide) ?_
      exact k_X4_adds_48 hC hA hK11 _ _ _ _ _ hS (lv_sub hl [0, 1, 2, 3, 4] rfl) hw
set_option maxHeartbeats 4000000 in
set_option maxRecDepth 100000 in
theorem k_X4_adds_11 {p : Program} {l : Launch} {e : Env} {s : State} {m : MethodId} {args : Array Value} {below : List Frame} {meth : Method} {c : Code} {D : va_G} {dT : Nat → ClassId} {a : Nat → Nat} {A : Nat → Prop}  {p1 : Int32} {p2 : Int32} {post : Int32 → MS → Prop} (hC : wCx RX4 cX4_adds 6 (some .boolean) D dT p s m args meth c) (hA : wAz A s) : ∀ (M : MS) (x3 : Int32) (x4 : Int32) (n : Nat), ∀ {H : Heap} {locs : List Loc} {ls : Array Slot}, StM D dT a A s M H locs → lv_has ls 6 [(0, .ref (a 0)), (1, .int p1), (2, .int p2), (3, .int x3), (4, .int x4)] → w_X4_adds_11 p1 p2 post n M x3 x4 → W p l e rmX4_adds s m args below meth c H locs 0 0 (MQ below (va_Qi post (wB D (MW dT a) MI A) A) args s 0 0 A) (F0 m 11 ls []) := by
  intro M x3 x4 n
  induction n generalizing M x3 x4 with
  | zero => intro H locs ls  hS hl hw; exact hw.elim
  | succ n ih =>
    intro H locs ls  hS hl hw
    exact k_X4_adds_11b hC hA (fun M x3 x4 hk {H} {locs} {ls}  hS hl => ih M x3 x4  hS hl hk) M x3 x4  hS hl hw
set_option maxHeartbeats 4000000 in
set_option maxRecDepth 100000 in
theorem k_X4_adds_0 {p : Program} {l : Launch} {e : Env} {s : State} {m : MethodId} {args : Array Value} {below : List Frame} {meth : Method} {c : Code} {D : va_G} {dT : Nat → ClassId} {a : Nat → Nat} {A : Nat → Prop}  {p1 : Int32} {p2 : Int32} {post : Int32 → MS → Prop} (hC : wCx RX4 cX4_adds 6 (some .boolean) D dT p s m args meth c) (hA : wAz A s) (M : MS) {H : Heap} {locs : List Loc} {ls : Array Slot} (hS : StM D dT a A s M H locs) (hl : lv_has ls 6 [(0, .ref (a 0)), (1, .int p1), (2, .int p2)])  (hw : w_X4_adds p1 p2 post M) : W p l e rmX4_adds s m args below meth c H locs 0 0 (MQ below (va_Qi post (wB D (MW dT a) MI A) A) args s 0 0 A) (F0 m 0 ls []) := by
  have hx := hC.1
  have hb := hC.2.1
  have hown := hC.2.2.2.1
  have hts := hC.2.2.2.2.1
  unfold w_X4_adds at hw
  refine lv_bipush (v := 11) hx hb dX4_adds_0 (by decide) ?_
  refine lv_aload_n hx hb dX4_adds_2 rfl (lv_at hl 0 rfl) ?_
  refine ld_q944 hC hS dX4_adds_3 ?_
  refine lv_imul hx hb dX4_adds_6 ?_
  refine lv_topi (fun v1 ev1 => ?_)
  have hw := hw v1 ev1
  refine lv_istore_n (lv' := [(3, .int v1), (0, .ref (a 0)), (1, .int p1), (2, .int p2)]) hx hb dX4_adds_7 rfl hl (by decide) rfl (fun ls hl => ?_)
  refine lv_iconst (v := 0) hx hb dX4_adds_8 (by decide) ?_
  refine lv_istore (lv' := [(4, .int 0), (3, .int v1), (0, .ref (a 0)), (1, .int p1), (2, .int p2)]) hx hb dX4_adds_9 hl (by decide) rfl (fun ls hl => ?_)
  obtain ⟨n, hw⟩ := hw
  exact k_X4_adds_11 hC hA _ _ _ n hS (lv_sub hl [2, 3, 4, 1, 0] rfl) hw
abbrev v_X4_adds (M : MS) (p1 : Int32) (p2 : Int32) (post : Int32 → MS → Prop) : Prop := w_X4_adds p1 p2 post M
set_option maxHeartbeats 4000000 in
set_option maxRecDepth 100000 in
theorem met_X4_adds (l : Launch) (D : va_G) (dT : Nat → ClassId) (a : Nat → Nat) (sz : Nat) (M : MS) (p1 : Int32) (p2 : Int32) (post : Int32 → MS → Prop) (hw : v_X4_adds M p1 p2 post) : Met l yX4_adds (ws_ yX4_adds cX4_adds 6 (some .boolean)) rmX4_adds (wPc D dT (MW dT a) MI sz M [.ref (a 0), .int p1, .int p2]) (va_Qi post (wB D (MW dT a) MI (va_A ((MW dT a) M) sz)) (va_A ((MW dT a) M) sz)) 0 0 (va_A ((MW dT a) M) sz) :=
  wEnt (Q := fun A => (va_Qi post (wB D (MW dT a) MI A) A)) (by decide) (Nat.le_of_ble_eq_true rfl) (fun p e s m below meth c A ls hC _ hA hS hl => k_X4_adds_0 hC hA _ hS hl hw) sz
theorem hd_X4_adds : yX4_adds.cls ≠ "java/lang/invoke/MethodHandle" ∧ yX4_adds.cls ≠ "java/lang/invoke/VarHandle" ∧ (parseMethodDescriptor yX4_adds.desc).map (fun d => d.parameters.length) = some 2 := by decide +kernel
section
variable {p : Program} {l : Launch} {e : Env} {R : Room} {s : State} {m : MethodId} {args : Array Value} {below : List Frame} {meth : Method} {c : Code} {H : Heap} {locs : List Loc} {cells slots : Nat} {Q : State → Prop} {cc : ByteArray} {nL : Nat} {ret : Option FieldType} {pc : Nat} {ls : Array Slot} {rest : List Value}
set_option maxHeartbeats 4000000 in
set_option maxRecDepth 100000 in
theorem inv_q1110 {D : va_G} {dT : Nat → ClassId} {a : Nat → Nat} {A : Nat → Prop} {M : MS} {p1 : Int32} {p2 : Int32} {post : Int32 → MS → Prop} (hC : wCx RX4 cc nL ret D dT p s m args meth c) (hA : wAz A s) (hS : StM D dT a A s M H locs) (hl : ls.size = nL) (hw : v_X4_adds M p1 p2 post) (hR : rmX4_adds.frames + 1 ≤ R.frames ∧ 8 + (6 + 11) + rmX4_adds.locals ≤ R.locals) (hrest : (rest.map fun v => v.category).sum ≤ 8) (hf : cells ≤ R.cells ∧ slots ≤ R.slots) (hdg : decode cc pc = .ok (.invokevirtual 134, 3)) (kk : ∀ (r : Int32) (u : MS) (H1 : Heap) (locs1 : List Loc), post r u → StM D dT a A s u H1 locs1 → W p l e R s m args below meth c H1 locs1 cells slots Q (F0 m (pc + 3) ls (.int r :: rest))) : W p l e R s m args below meth c H locs cells slots Q (F0 m pc ls (.int p2 :: .int p1 :: .ref (a 0) :: rest)) := by
  exact wCallVi (As := [.int p1, .int p2]) (rest := rest) (mc := 0) (ms := 0) 0 hC (met_X4_adds l D dT a H.size M p1 p2 post hw) (lw_V q1110 q1112 qs59 q89 q1113) ⟨⟨rfl, rfl⟩, hd_X4_adds, hR, hf⟩ rfl rfl rfl hA hS hl rfl hrest hdg (fun r u H1 locs1 hp hS1 => kk r u H1 locs1 hp hS1)
end
/-! LeastFramesModel.faultOf -/
def w_X4_faultOf_7b (p1 : Int32) (K7 : MS → Int32 → Prop) (post : Int32 → MS → Prop) (M : MS) (x2 : Int32) : Prop :=
  ((10 : Int32) ≤ x2 → (post ((-1) : Int32) M)) ∧ (¬ (10 : Int32) ≤ x2 → (v_X4_isWay M x2 (fun r2 => (r2 = (0 : Int32) → (∀ v4 : Int32, v4 = x2 + 1 → (K7 M v4))) ∧ (¬ r2 = (0 : Int32) → (v_X4_adds M p1 x2 (fun r5 M6 => (r5 = (0 : Int32) → (post x2 M6)) ∧ (¬ r5 = (0 : Int32) → (∀ v8 : Int32, v8 = x2 + 1 → (K7 M6 v8)))))))))
def w_X4_faultOf_7 (p1 : Int32) (post : Int32 → MS → Prop) : Nat → MS → Int32 → Prop
  | 0, _, _ => False
  | n + 1, M, x2 => w_X4_faultOf_7b p1 (w_X4_faultOf_7 p1 post n) post M x2
def w_X4_faultOf (p1 : Int32) (post : Int32 → MS → Prop) (M : MS) : Prop :=
  ∀ M1 : MS, M1 = sM_rank M 0 → (∃ n, w_X4_faultOf_7 p1 post n M1 0)
abbrev rmX4_faultOf : Room := { frames := 5, cells := 0, slots := 0, locals := 114 }
set_option maxHeartbeats 4000000 in
set_option maxRecDepth 100000 in
theorem k_X4_faultOf_7b {p : Program} {l : Launch} {e : Env} {s : State} {m : MethodId} {args : Array Value} {below : List Frame} {meth : Method} {c : Code} {D : va_G} {dT : Nat → ClassId} {a : Nat → Nat} {A : Nat → Prop}  {p1 : Int32} {K7 : MS → Int32 → Prop} {post : Int32 → MS → Prop} (hC : wCx RX4 cX4_faultOf 3 (some .int) D dT p s m args meth c) (hA : wAz A s) (hK7 : ∀ (M : MS) (x2 : Int32), K7 M x2 → ∀ {H : Heap} {locs : List Loc} {ls : Array Slot}, StM D dT a A s M H locs → lv_has ls 3 [(0, .ref (a 0)), (1, .int p1), (2, .int x2)] → W p l e rmX4_faultOf s m args below meth c H locs 0 0 (MQ below (va_Qi post (wB D (MW dT a) MI A) A) args s 0 0 A) (F0 m 7 ls [])) (M : MS) (x2 : Int32) {H : Heap} {locs : List Loc} {ls : Array Slot} (hS : StM D dT a A s M H locs) (hl : lv_has ls 3 [(0, .ref (a 0)), (1, .int p1), (2, .int x2)])  (hw : w_X4_faultOf_7b p1 K7 post M x2) : W p l e rmX4_faultOf s m args below meth c H locs 0 0 (MQ below (va_Qi post (wB D (MW dT a) MI A) A) args s 0 0 A) (F0 m 7 ls []) := by
  have hx := hC.1
  have hb := hC.2.1
  have hown := hC.2.2.2.1
  have hts := hC.2.2.2.2.1
  unfold w_X4_faultOf_7b at hw
  refine lv_iload_n hx hb dX4_faultOf_7 rfl (lv_at hl 2 rfl) ?_
  refine lv_bipush (v := 10) hx hb dX4_faultOf_8 (by decide) ?_
  refine lv_icmp_ge (tgt := 38) hx hb dX4_faultOf_10 (by decide) (fun c1 => ?_) (fun c1 => ?_)
  · have hw := hw.1 c1
    refine lv_iconst (v := (-1)) hx hb dX4_faultOf_38 (by decide) ?_
    exact wReti hC hS hw (Nat.le_refl _) (Nat.le_refl _) dX4_faultOf_39
  · have hw := hw.2 c1
    refine lv_aload_n hx hb dX4_faultOf_13 rfl (lv_at hl 0 rfl) ?_
    refine lv_iload_n hx hb dX4_faultOf_14 rfl (lv_at hl 2 rfl) ?_
    refine inv_q1106 hC hA hS hl.1 hw ⟨Nat.le_of_ble_eq_true rfl, Nat.le_of_ble_eq_true rfl⟩ (Nat.le_of_ble_eq_true rfl) ⟨Nat.zero_le _, Nat.zero_le _⟩ dX4_faultOf_15 (fun r2 H locs hw hS => ?_)
    refine lv_if_eq (tgt := 32) hx hb dX4_faultOf_18 (by decide) (fun c3 => ?_) (fun c3 => ?_)
    · have hw := hw.1 c3
      obtain ⟨v4, ev4⟩ : ∃ y : Int32, y = x2 + 1 := ⟨_, rfl⟩
      have hw := hw v4 ev4
      refine lv_iinc (v := v4) (lv' := [(2, .int v4), (0, .ref (a 0)), (1, .int p1)]) hx hb dX4_faultOf_32 hl (k := 2) rfl (by rw [ev4]; rfl) (by decide) rfl (fun ls hl => ?_)
      refine lv_goto (tgt := 7) hx hb dX4_faultOf_35 (by decide) ?_
      exact hK7 _ _ hw hS (lv_sub hl [1, 2, 0] rfl)
    · have hw := hw.2 c3
      refine lv_aload_n hx hb dX4_faultOf_21 rfl (lv_at hl 0 rfl) ?_
      refine lv_iload_n hx hb dX4_faultOf_22 rfl (lv_at hl 1 rfl) ?_
      refine lv_iload_n hx hb dX4_faultOf_23 rfl (lv_at hl 2 rfl) ?_
      refine inv_q1110 hC hA hS hl.1 hw ⟨Nat.le_of_ble_eq_true rfl, Nat.le_of_ble_eq_true rfl⟩ (Nat.le_of_ble_eq_true rfl) ⟨Nat.zero_le _, Nat.zero_le _⟩ dX4_faultOf_24 (fun r5 M6 H locs hw hS => ?_)
      refine lv_if_ne (tgt := 32) hx hb dX4_faultOf_27 (by decide) (fun c7 => ?_) (fun c7 => ?_)
      · have hw := hw.2 c7
        obtain ⟨v8, ev8⟩ : ∃ y : Int32, y = x2 + 1 := ⟨_, rfl⟩
        have hw := hw v8 ev8
        refine lv_iinc (v := v8) (lv' := [(2, .int v8), (0, .ref (a 0)), (1, .int p1)]) hx hb dX4_faultOf_32 hl (k := 2) rfl (by rw [ev8]; rfl) (by decide) rfl (fun ls hl => ?_)
        refine lv_goto (tgt := 7) hx hb dX4_faultOf_35 (by decide) ?_
        exact hK7 _ _ hw hS (lv_sub hl [1, 2, 0] rfl)
      · have hw := hw.1 c7
        refine lv_iload_n hx hb dX4_faultOf_30 rfl (lv_at hl 2 rfl) ?_
        exact wReti hC hS hw (Nat.le_refl _) (Nat.le_refl _) dX4_faultOf_31
set_option maxHeartbeats 4000000 in
set_option maxRecDepth 100000 in
theorem k_X4_faultOf_7 {p : Program} {l : Launch} {e : Env} {s : State} {m : MethodId} {args : Array Value} {below : List Frame} {meth : Method} {c : Code} {D : va_G} {dT : Nat → ClassId} {a : Nat → Nat} {A : Nat → Prop}  {p1 : Int32} {post : Int32 → MS → Prop} (hC : wCx RX4 cX4_faultOf 3 (some .int) D dT p s m args meth c) (hA : wAz A s) : ∀ (M : MS) (x2 : Int32) (n : Nat), ∀ {H : Heap} {locs : List Loc} {ls : Array Slot}, StM D dT a A s M H locs → lv_has ls 3 [(0, .ref (a 0)), (1, .int p1), (2, .int x2)] → w_X4_faultOf_7 p1 post n M x2 → W p l e rmX4_faultOf s m args below meth c H locs 0 0 (MQ below (va_Qi post (wB D (MW dT a) MI A) A) args s 0 0 A) (F0 m 7 ls []) := by
  intro M x2 n
  induction n generalizing M x2 with
  | zero => intro H locs ls  hS hl hw; exact hw.elim
  | succ n ih =>
    intro H locs ls  hS hl hw
    exact k_X4_faultOf_7b hC hA (fun M x2 hk {H} {locs} {ls}  hS hl => ih M x2  hS hl hk) M x2  hS hl hw
set_option maxHeartbeats 4000000 in
set_option maxRecDepth 100000 in
theorem k_X4_faultOf_0 {p : Program} {l : Launch} {e : Env} {s : State} {m : MethodId} {args : Array Value} {below : List Frame} {meth : Method} {c : Code} {D : va_G} {dT : Nat → ClassId} {a : Nat → Nat} {A : Nat → Prop}  {p1 : Int32} {post : Int32 → MS → Prop} (hC : wCx RX4 cX4_faultOf 3 (some .int) D dT p s m args meth c) (hA : wAz A s) (M : MS) {H : Heap} {locs : List Loc} {ls : Array Slot} (hS : StM D dT a A s M H locs) (hl : lv_has ls 3 [(0, .ref (a 0)), (1, .int p1)])  (hw : w_X4_faultOf p1 post M) : W p l e rmX4_faultOf s m args below meth c H locs 0 0 (MQ below (va_Qi post (wB D (MW dT a) MI A) A) args s 0 0 A) (F0 m 0 ls []) := by
  have hx := hC.1
  have hb := hC.2.1
  have hown := hC.2.2.2.1
  have hts := hC.2.2.2.2.1
  unfold w_X4_faultOf at hw
  refine lv_aload_n hx hb dX4_faultOf_0 rfl (lv_at hl 0 rfl) ?_
  refine lv_iconst (v := 0) hx hb dX4_faultOf_1 (by decide) ?_
  refine st_q944 hC hS dX4_faultOf_2 (fun H locs hS => ?_)
  have hw := hw (sM_rank M 0) rfl
  generalize sM_rank M 0 = M1 at hS hw
  refine lv_iconst (v := 0) hx hb dX4_faultOf_5 (by decide) ?_
  refine lv_istore_n (lv' := [(2, .int 0), (0, .ref (a 0)), (1, .int p1)]) hx hb dX4_faultOf_6 rfl hl (by decide) rfl (fun ls hl => ?_)
  obtain ⟨n, hw⟩ := hw
  exact k_X4_faultOf_7 hC hA _ _ n hS (lv_sub hl [1, 2, 0] rfl) hw
abbrev v_X4_faultOf (M : MS) (p1 : Int32) (post : Int32 → MS → Prop) : Prop := w_X4_faultOf p1 post M
set_option maxHeartbeats 4000000 in
set_option maxRecDepth 100000 in
theorem met_X4_faultOf (l : Launch) (D : va_G) (dT : Nat → ClassId) (a : Nat → Nat) (sz : Nat) (M : MS) (p1 : Int32) (post : Int32 → MS → Prop) (hw : v_X4_faultOf M p1 post) : Met l yX4_faultOf (ws_ yX4_faultOf cX4_faultOf 3 (some .int)) rmX4_faultOf (wPc D dT (MW dT a) MI sz M [.ref (a 0), .int p1]) (va_Qi post (wB D (MW dT a) MI (va_A ((MW dT a) M) sz)) (va_A ((MW dT a) M) sz)) 0 0 (va_A ((MW dT a) M) sz) :=
  wEnt (Q := fun A => (va_Qi post (wB D (MW dT a) MI A) A)) (by decide) (Nat.le_of_ble_eq_true rfl) (fun p e s m below meth c A ls hC _ hA hS hl => k_X4_faultOf_0 hC hA _ hS hl hw) sz
theorem hd_X4_faultOf : yX4_faultOf.cls ≠ "java/lang/invoke/MethodHandle" ∧ yX4_faultOf.cls ≠ "java/lang/invoke/VarHandle" ∧ (parseMethodDescriptor yX4_faultOf.desc).map (fun d => d.parameters.length) = some 1 := by decide +kernel
section
variable {p : Program} {l : Launch} {e : Env} {R : Room} {s : State} {m : MethodId} {args : Array Value} {below : List Frame} {meth : Method} {c : Code} {H : Heap} {locs : List Loc} {cells slots : Nat} {Q : State → Prop} {cc : ByteArray} {nL : Nat} {ret : Option FieldType} {pc : Nat} {ls : Array Slot} {rest : List Value}
set_option maxHeartbeats 4000000 in
set_option maxRecDepth 100000 in
theorem inv_q1102 {D : va_G} {dT : Nat → ClassId} {a : Nat → Nat} {A : Nat → Prop} {M : MS} {p1 : Int32} {post : Int32 → MS → Prop} (hC : wCx RX4 cc nL ret D dT p s m args meth c) (hA : wAz A s) (hS : StM D dT a A s M H locs) (hl : ls.size = nL) (hw : v_X4_faultOf M p1 post) (hR : rmX4_faultOf.frames + 1 ≤ R.frames ∧ 8 + (3 + 11) + rmX4_faultOf.locals ≤ R.locals) (hrest : (rest.map fun v => v.category).sum ≤ 8) (hf : cells ≤ R.cells ∧ slots ≤ R.slots) (hdg : decode cc pc = .ok (.invokevirtual 142, 3)) (kk : ∀ (r : Int32) (u : MS) (H1 : Heap) (locs1 : List Loc), post r u → StM D dT a A s u H1 locs1 → W p l e R s m args below meth c H1 locs1 cells slots Q (F0 m (pc + 3) ls (.int r :: rest))) : W p l e R s m args below meth c H locs cells slots Q (F0 m pc ls (.int p1 :: .ref (a 0) :: rest)) := by
  exact wCallVi (As := [.int p1]) (rest := rest) (mc := 0) (ms := 0) 0 hC (met_X4_faultOf l D dT a H.size M p1 post hw) (lw_V q1102 q1104 qs57 q89 q1105) ⟨⟨rfl, rfl⟩, hd_X4_faultOf, hR, hf⟩ rfl rfl rfl hA hS hl rfl hrest hdg (fun r u H1 locs1 hp hS1 => kk r u H1 locs1 hp hS1)
end
/-! LeastFramesModel.size -/
def w_X4_size_4b (p0 : Int32) (K4 : Int32 → Int32 → Prop) (post : Int32 → Prop) (x1 : Int32) (x2 : Int32) : Prop :=
  ((10 : Int32) ≤ x2 → (post x1)) ∧ (¬ (10 : Int32) ≤ x2 → (∀ v2 : Int32, v2 = x1 + ((p0 >>> (x2 &&& 31)) &&& 1) → (∀ v3 : Int32, v3 = x2 + 1 → (K4 v2 v3))))
def w_X4_size_4 (p0 : Int32) (post : Int32 → Prop) : Nat → Int32 → Int32 → Prop
  | 0, _, _ => False
  | n + 1, x1, x2 => w_X4_size_4b p0 (w_X4_size_4 p0 post n) post x1 x2
def w_X4_size (p0 : Int32) (post : Int32 → Prop) : Prop :=
  ∃ n, w_X4_size_4 p0 post n 0 0
abbrev rmX4_size : Room := { frames := 0, cells := 0, slots := 0, locals := 0 }
set_option maxHeartbeats 4000000 in
set_option maxRecDepth 100000 in
theorem k_X4_size_4b {p : Program} {l : Launch} {e : Env} {s : State} {m : MethodId} {args : Array Value} {below : List Frame} {meth : Method} {c : Code}  {p0 : Int32} {K4 : Int32 → Int32 → Prop} {post : Int32 → Prop} (hC : sCx RX4 cX4_size 3 (some .int) p s m args meth c) (hK4 : ∀ (x1 : Int32) (x2 : Int32), K4 x1 x2 → ∀ {H : Heap} {locs : List Loc} {ls : Array Slot}, va_S (fun _ => False) s.heap H locs → lv_has ls 3 [(0, .int p0), (1, .int x1), (2, .int x2)] → W p l e rmX4_size s m args below meth c H locs 0 0 (MQ below (va_Qi (fun r (_ : Unit) => post r) (fun _ _ => True) (fun _ => False)) args s 0 0 (fun _ => False)) (F0 m 4 ls [])) (x1 : Int32) (x2 : Int32) {H : Heap} {locs : List Loc} {ls : Array Slot} (hS : va_S (fun _ => False) s.heap H locs) (hl : lv_has ls 3 [(0, .int p0), (1, .int x1), (2, .int x2)])  (hw : w_X4_size_4b p0 K4 post x1 x2) : W p l e rmX4_size s m args below meth c H locs 0 0 (MQ below (va_Qi (fun r (_ : Unit) => post r) (fun _ _ => True) (fun _ => False)) args s 0 0 (fun _ => False)) (F0 m 4 ls []) := by
  have hx := hC.1
  have hb := hC.2.1
  have hown := hC.2.2.2.1
  have hts := hC.2.2.2.2.1
  unfold w_X4_size_4b at hw
  refine lv_iload_n hx hb dX4_size_4 rfl (lv_at hl 2 rfl) ?_
  refine lv_bipush (v := 10) hx hb dX4_size_5 (by decide) ?_
  refine lv_icmp_ge (tgt := 24) hx hb dX4_size_7 (by decide) (fun c1 => ?_) (fun c1 => ?_)
  · have hw := hw.1 c1
    refine lv_iload_n hx hb dX4_size_24 rfl (lv_at hl 1 rfl) ?_
    exact sReti hC hS hw dX4_size_25
  · have hw := hw.2 c1
    refine lv_iload_n hx hb dX4_size_10 rfl (lv_at hl 1 rfl) ?_
    refine lv_iload_n hx hb dX4_size_11 rfl (lv_at hl 0 rfl) ?_
    refine lv_iload_n hx hb dX4_size_12 rfl (lv_at hl 2 rfl) ?_
    refine lv_ishr hx hb dX4_size_13 ?_
    refine lv_iconst (v := 1) hx hb dX4_size_14 (by decide) ?_
    refine lv_iand hx hb dX4_size_15 ?_
    refine lv_iadd hx hb dX4_size_16 ?_
    refine lv_topi (fun v2 ev2 => ?_)
    have hw := hw v2 ev2
    refine lv_istore_n (lv' := [(1, .int v2), (0, .int p0), (2, .int x2)]) hx hb dX4_size_17 rfl hl (by decide) rfl (fun ls hl => ?_)
    obtain ⟨v3, ev3⟩ : ∃ y : Int32, y = x2 + 1 := ⟨_, rfl⟩
    have hw := hw v3 ev3
    refine lv_iinc (v := v3) (lv' := [(2, .int v3), (1, .int v2), (0, .int p0)]) hx hb dX4_size_18 hl (k := 2) rfl (by rw [ev3]; rfl) (by decide) rfl (fun ls hl => ?_)
    refine lv_goto (tgt := 4) hx hb dX4_size_21 (by decide) ?_
    exact hK4 _ _ hw hS (lv_sub hl [2, 1, 0] rfl)
set_option maxHeartbeats 4000000 in
set_option maxRecDepth 100000 in
theorem k_X4_size_4 {p : Program} {l : Launch} {e : Env} {s : State} {m : MethodId} {args : Array Value} {below : List Frame} {meth : Method} {c : Code}  {p0 : Int32} {post : Int32 → Prop} (hC : sCx RX4 cX4_size 3 (some .int) p s m args meth c) : ∀ (x1 : Int32) (x2 : Int32) (n : Nat), ∀ {H : Heap} {locs : List Loc} {ls : Array Slot}, va_S (fun _ => False) s.heap H locs → lv_has ls 3 [(0, .int p0), (1, .int x1), (2, .int x2)] → w_X4_size_4 p0 post n x1 x2 → W p l e rmX4_size s m args below meth c H locs 0 0 (MQ below (va_Qi (fun r (_ : Unit) => post r) (fun _ _ => True) (fun _ => False)) args s 0 0 (fun _ => False)) (F0 m 4 ls []) := by
  intro x1 x2 n
  induction n generalizing x1 x2 with
  | zero => intro H locs ls  hS hl hw; exact hw.elim
  | succ n ih =>
    intro H locs ls  hS hl hw
    exact k_X4_size_4b hC (fun x1 x2 hk {H} {locs} {ls}  hS hl => ih x1 x2  hS hl hk) x1 x2  hS hl hw
set_option maxHeartbeats 4000000 in
set_option maxRecDepth 100000 in
theorem k_X4_size_0 {p : Program} {l : Launch} {e : Env} {s : State} {m : MethodId} {args : Array Value} {below : List Frame} {meth : Method} {c : Code}  {p0 : Int32} {post : Int32 → Prop} (hC : sCx RX4 cX4_size 3 (some .int) p s m args meth c) {H : Heap} {locs : List Loc} {ls : Array Slot} (hS : va_S (fun _ => False) s.heap H locs) (hl : lv_has ls 3 [(0, .int p0)])  (hw : w_X4_size p0 post) : W p l e rmX4_size s m args below meth c H locs 0 0 (MQ below (va_Qi (fun r (_ : Unit) => post r) (fun _ _ => True) (fun _ => False)) args s 0 0 (fun _ => False)) (F0 m 0 ls []) := by
  have hx := hC.1
  have hb := hC.2.1
  have hown := hC.2.2.2.1
  have hts := hC.2.2.2.2.1
  unfold w_X4_size at hw
  refine lv_iconst (v := 0) hx hb dX4_size_0 (by decide) ?_
  refine lv_istore_n (lv' := [(1, .int 0), (0, .int p0)]) hx hb dX4_size_1 rfl hl (by decide) rfl (fun ls hl => ?_)
  refine lv_iconst (v := 0) hx hb dX4_size_2 (by decide) ?_
  refine lv_istore_n (lv' := [(2, .int 0), (1, .int 0), (0, .int p0)]) hx hb dX4_size_3 rfl hl (by decide) rfl (fun ls hl => ?_)
  obtain ⟨n, hw⟩ := hw
  exact k_X4_size_4 hC _ _ n hS (lv_sub hl [2, 1, 0] rfl) hw
abbrev v_X4_size (p0 : Int32) (post : Int32 → Prop) : Prop := w_X4_size p0 post
set_option maxHeartbeats 4000000 in
set_option maxRecDepth 100000 in
theorem met_X4_size (l : Launch) (p0 : Int32) (post : Int32 → Prop) (hw : v_X4_size p0 post) : Met l yX4_size (ws_ yX4_size cX4_size 3 (some .int)) rmX4_size (va_Pc [.int p0] (fun _ => True)) (va_Qi (fun r (_ : Unit) => post r) (fun _ _ => True) (fun _ => False)) 0 0 (fun _ => False) :=
  sEnt (by decide) (Nat.le_of_ble_eq_true rfl) (fun p e s m below meth c ls hC hS hl => k_X4_size_0 hC  hS hl hw)
theorem hd_X4_size : yX4_size.cls ≠ "java/lang/invoke/MethodHandle" ∧ yX4_size.cls ≠ "java/lang/invoke/VarHandle" ∧ (parseMethodDescriptor yX4_size.desc).map (fun d => d.parameters.length) = some 1 := by decide +kernel
section
variable {p : Program} {l : Launch} {e : Env} {R : Room} {s : State} {m : MethodId} {args : Array Value} {below : List Frame} {meth : Method} {c : Code} {H : Heap} {locs : List Loc} {cells slots : Nat} {Q : State → Prop} {cc : ByteArray} {nL : Nat} {ret : Option FieldType} {pc : Nat} {ls : Array Slot} {rest : List Value}
set_option maxHeartbeats 4000000 in
set_option maxRecDepth 100000 in
theorem inv_q1129 {σ : Type} {D : va_G} {dT : Nat → ClassId} {Wd : σ → va_W} {I : σ → Prop} {A : Nat → Prop} {x : σ} {p0 : Int32} {post : Int32 → Prop} (hC : wCx RX4 cc nL ret D dT p s m args meth c) (hS : wSt D Wd I A s x H locs) (hl : ls.size = nL) (hw : v_X4_size p0 post) (hR : rmX4_size.frames + 1 ≤ R.frames ∧ 8 + (3 + 11) + rmX4_size.locals ≤ R.locals) (hrest : (rest.map fun v => v.category).sum ≤ 8) (hf : cells ≤ R.cells ∧ slots ≤ R.slots) (hdg : decode cc pc = .ok (.invokestatic 145, 3)) (kk : ∀ (r : Int32) (H1 : Heap) (locs1 : List Loc), post r → wSt D Wd I A s x H1 locs1 → W p l e R s m args below meth c H1 locs1 cells slots Q (F0 m (pc + 3) ls (.int r :: rest))) : W p l e R s m args below meth c H locs cells slots Q (F0 m pc ls (.int p0 :: rest)) :=
  wCallSi (As := [.int p0]) (rest := rest) hC (met_X4_size l p0 post hw) (lw_S q1129 q1130 q89 q1131) ⟨⟨rfl, rfl⟩, hd_X4_size, hR, hf⟩ hS hl rfl hrest hdg kk
set_option maxHeartbeats 4000000 in
set_option maxRecDepth 100000 in
theorem invs_q1129 {p0 : Int32} {post : Int32 → Prop} (hC : sCx RX4 cc nL ret p s m args meth c) (hS : va_S (fun _ => False) s.heap H locs) (hl : ls.size = nL) (hw : v_X4_size p0 post) (hR : rmX4_size.frames + 1 ≤ R.frames ∧ 8 + (3 + 11) + rmX4_size.locals ≤ R.locals) (hrest : (rest.map fun v => v.category).sum ≤ 8) (hf : cells ≤ R.cells ∧ slots ≤ R.slots) (hdg : decode cc pc = .ok (.invokestatic 145, 3)) (kk : ∀ (r : Int32) (H1 : Heap) (locs1 : List Loc), post r → va_S (fun _ => False) s.heap H1 locs1 → W p l e R s m args below meth c H1 locs1 cells slots Q (F0 m (pc + 3) ls (.int r :: rest))) : W p l e R s m args below meth c H locs cells slots Q (F0 m pc ls (.int p0 :: rest)) :=
  sCallSi (As := [.int p0]) (rest := rest) hC (met_X4_size l p0 post hw) (lw_S q1129 q1130 q89 q1131) ⟨⟨rfl, rfl⟩, hd_X4_size, hR, hf⟩ hS hl rfl hrest hdg kk
end
/-! LeastFramesModel.partOf -/
def w_X4_partOf_21 (p0 : Int64) (p2 : Int64) (p4 : Int32) (post : Int64 → Prop) (y0 : Int64) : Prop :=
  (p4 = (0 : Int32) → ((¬ y0 = 0) ∧ (post (p0 / y0)))) ∧ (¬ p4 = (0 : Int32) → ((¬ y0 = 0) ∧ (post (p2 / y0))))
def w_X4_partOf (p0 : Int64) (p2 : Int64) (p4 : Int32) (post : Int64 → Prop) : Prop :=
  v_X4_divisor p0 p2 (fun r1 => ((0 : Int64) ≤ p2 → (w_X4_partOf_21 p0 p2 p4 post r1)) ∧ (¬ (0 : Int64) ≤ p2 → (w_X4_partOf_21 p0 p2 p4 post (-r1))))
abbrev rmX4_partOf : Room := { frames := 1, cells := 0, slots := 0, locals := 29 }
set_option maxHeartbeats 4000000 in
set_option maxRecDepth 100000 in
theorem k_X4_partOf_21 {p : Program} {l : Launch} {e : Env} {s : State} {m : MethodId} {args : Array Value} {below : List Frame} {meth : Method} {c : Code}  {p0 : Int64} {p2 : Int64} {p4 : Int32} {post : Int64 → Prop} (hC : sCx RX4 cX4_partOf 7 (some .long) p s m args meth c) (y0 : Int64) {H : Heap} {locs : List Loc} {ls : Array Slot} (hS : va_S (fun _ => False) s.heap H locs) (hl : lv_has ls 7 [(0, .long p0), (2, .long p2), (4, .int p4)])  (hw : w_X4_partOf_21 p0 p2 p4 post y0) : W p l e rmX4_partOf s m args below meth c H locs 0 0 (MQ below (va_Ql (fun r (_ : Unit) => post r) (fun _ _ => True) (fun _ => False)) args s 0 0 (fun _ => False)) (F0 m 21 ls [.long y0]) := by
  have hx := hC.1
  have hb := hC.2.1
  have hown := hC.2.2.2.1
  have hts := hC.2.2.2.2.1
  unfold w_X4_partOf_21 at hw
  refine lv_lstore (lv' := [(5, .long y0), (0, .long p0), (2, .long p2), (4, .int p4)]) hx hb dX4_partOf_21 hl (by decide) rfl (fun ls hl => ?_)
  refine lv_iload hx hb dX4_partOf_23 (lv_at hl 3 rfl) ?_
  refine lv_if_ne (tgt := 35) hx hb dX4_partOf_25 (by decide) (fun c1 => ?_) (fun c1 => ?_)
  · have hw := hw.2 c1
    refine lv_lload_n hx hb dX4_partOf_35 rfl (lv_at hl 2 rfl) ?_
    refine lv_lload hx hb dX4_partOf_36 (lv_at hl 0 rfl) ?_
    refine lv_ldiv hx hb dX4_partOf_38 hw.1 ?_
    have hw := hw.2
    exact sRetl hC hS hw dX4_partOf_39
  · have hw := hw.1 c1
    refine lv_lload_n hx hb dX4_partOf_28 rfl (lv_at hl 1 rfl) ?_
    refine lv_lload hx hb dX4_partOf_29 (lv_at hl 0 rfl) ?_
    refine lv_ldiv hx hb dX4_partOf_31 hw.1 ?_
    have hw := hw.2
    refine lv_goto (tgt := 39) hx hb dX4_partOf_32 (by decide) ?_
    exact sRetl hC hS hw dX4_partOf_39
set_option maxHeartbeats 4000000 in
set_option maxRecDepth 100000 in
theorem k_X4_partOf_0 {p : Program} {l : Launch} {e : Env} {s : State} {m : MethodId} {args : Array Value} {below : List Frame} {meth : Method} {c : Code}  {p0 : Int64} {p2 : Int64} {p4 : Int32} {post : Int64 → Prop} (hC : sCx RX4 cX4_partOf 7 (some .long) p s m args meth c) {H : Heap} {locs : List Loc} {ls : Array Slot} (hS : va_S (fun _ => False) s.heap H locs) (hl : lv_has ls 7 [(0, .long p0), (2, .long p2), (4, .int p4)])  (hw : w_X4_partOf p0 p2 p4 post) : W p l e rmX4_partOf s m args below meth c H locs 0 0 (MQ below (va_Ql (fun r (_ : Unit) => post r) (fun _ _ => True) (fun _ => False)) args s 0 0 (fun _ => False)) (F0 m 0 ls []) := by
  have hx := hC.1
  have hb := hC.2.1
  have hown := hC.2.2.2.1
  have hts := hC.2.2.2.2.1
  unfold w_X4_partOf at hw
  refine lv_lload_n hx hb dX4_partOf_0 rfl (lv_at hl 0 rfl) ?_
  refine lv_lload_n hx hb dX4_partOf_1 rfl (lv_at hl 1 rfl) ?_
  refine invs_q1126 hC hS hl.1 hw ⟨Nat.le_of_ble_eq_true rfl, Nat.le_of_ble_eq_true rfl⟩ (Nat.le_of_ble_eq_true rfl) ⟨Nat.zero_le _, Nat.zero_le _⟩ dX4_partOf_2 (fun r1 H locs hw hS => ?_)
  refine lv_lstore (lv' := [(5, .long r1), (0, .long p0), (2, .long p2), (4, .int p4)]) hx hb dX4_partOf_5 hl (by decide) rfl (fun ls hl => ?_)
  refine lv_lload_n hx hb dX4_partOf_7 rfl (lv_at hl 2 rfl) ?_
  refine lv_lconst (v := 0) hx hb dX4_partOf_8 (by decide) ?_
  refine lc_if_ge (tgt := 19) hx hb dX4_partOf_9 dX4_partOf_10 (by decide) (fun c2 => ?_) (fun c2 => ?_)
  · have hw := hw.1 c2
    refine lv_lload hx hb dX4_partOf_19 (lv_at hl 0 rfl) ?_
    exact k_X4_partOf_21 hC _ hS (lv_sub hl [1, 2, 3] rfl) hw
  · have hw := hw.2 c2
    refine lv_lload hx hb dX4_partOf_13 (lv_at hl 0 rfl) ?_
    refine lv_lneg hx hb dX4_partOf_15 ?_
    refine lv_goto (tgt := 21) hx hb dX4_partOf_16 (by decide) ?_
    exact k_X4_partOf_21 hC _ hS (lv_sub hl [1, 2, 3] rfl) hw
abbrev v_X4_partOf (p0 : Int64) (p2 : Int64) (p4 : Int32) (post : Int64 → Prop) : Prop := w_X4_partOf p0 p2 p4 post
set_option maxHeartbeats 4000000 in
set_option maxRecDepth 100000 in
theorem met_X4_partOf (l : Launch) (p0 : Int64) (p2 : Int64) (p4 : Int32) (post : Int64 → Prop) (hw : v_X4_partOf p0 p2 p4 post) : Met l yX4_partOf (ws_ yX4_partOf cX4_partOf 7 (some .long)) rmX4_partOf (va_Pc [.long p0, .long p2, .int p4] (fun _ => True)) (va_Ql (fun r (_ : Unit) => post r) (fun _ _ => True) (fun _ => False)) 0 0 (fun _ => False) :=
  sEnt (by decide) (Nat.le_of_ble_eq_true rfl) (fun p e s m below meth c ls hC hS hl => k_X4_partOf_0 hC  hS hl hw)
theorem hd_X4_partOf : yX4_partOf.cls ≠ "java/lang/invoke/MethodHandle" ∧ yX4_partOf.cls ≠ "java/lang/invoke/VarHandle" ∧ (parseMethodDescriptor yX4_partOf.desc).map (fun d => d.parameters.length) = some 3 := by decide +kernel
section
variable {p : Program} {l : Launch} {e : Env} {R : Room} {s : State} {m : MethodId} {args : Array Value} {below : List Frame} {meth : Method} {c : Code} {H : Heap} {locs : List Loc} {cells slots : Nat} {Q : State → Prop} {cc : ByteArray} {nL : Nat} {ret : Option FieldType} {pc : Nat} {ls : Array Slot} {rest : List Value}
set_option maxHeartbeats 4000000 in
set_option maxRecDepth 100000 in
theorem inv_q1136 {σ : Type} {D : va_G} {dT : Nat → ClassId} {Wd : σ → va_W} {I : σ → Prop} {A : Nat → Prop} {x : σ} {p0 : Int64} {p2 : Int64} {p4 : Int32} {post : Int64 → Prop} (hC : wCx RX4 cc nL ret D dT p s m args meth c) (hS : wSt D Wd I A s x H locs) (hl : ls.size = nL) (hw : v_X4_partOf p0 p2 p4 post) (hR : rmX4_partOf.frames + 1 ≤ R.frames ∧ 8 + (7 + 11) + rmX4_partOf.locals ≤ R.locals) (hrest : (rest.map fun v => v.category).sum ≤ 8) (hf : cells ≤ R.cells ∧ slots ≤ R.slots) (hdg : decode cc pc = .ok (.invokestatic 138, 3)) (kk : ∀ (r : Int64) (H1 : Heap) (locs1 : List Loc), post r → wSt D Wd I A s x H1 locs1 → W p l e R s m args below meth c H1 locs1 cells slots Q (F0 m (pc + 3) ls (.long r :: rest))) : W p l e R s m args below meth c H locs cells slots Q (F0 m pc ls (.int p4 :: .long p2 :: .long p0 :: rest)) :=
  wCallSl (As := [.long p0, .long p2, .int p4]) (rest := rest) hC (met_X4_partOf l p0 p2 p4 post hw) (lw_S q1136 q1137 q89 q1138) ⟨⟨rfl, rfl⟩, hd_X4_partOf, hR, hf⟩ hS hl rfl hrest hdg kk
set_option maxHeartbeats 4000000 in
set_option maxRecDepth 100000 in
theorem invs_q1136 {p0 : Int64} {p2 : Int64} {p4 : Int32} {post : Int64 → Prop} (hC : sCx RX4 cc nL ret p s m args meth c) (hS : va_S (fun _ => False) s.heap H locs) (hl : ls.size = nL) (hw : v_X4_partOf p0 p2 p4 post) (hR : rmX4_partOf.frames + 1 ≤ R.frames ∧ 8 + (7 + 11) + rmX4_partOf.locals ≤ R.locals) (hrest : (rest.map fun v => v.category).sum ≤ 8) (hf : cells ≤ R.cells ∧ slots ≤ R.slots) (hdg : decode cc pc = .ok (.invokestatic 138, 3)) (kk : ∀ (r : Int64) (H1 : Heap) (locs1 : List Loc), post r → va_S (fun _ => False) s.heap H1 locs1 → W p l e R s m args below meth c H1 locs1 cells slots Q (F0 m (pc + 3) ls (.long r :: rest))) : W p l e R s m args below meth c H locs cells slots Q (F0 m pc ls (.int p4 :: .long p2 :: .long p0 :: rest)) :=
  sCallSl (As := [.long p0, .long p2, .int p4]) (rest := rest) hC (met_X4_partOf l p0 p2 p4 post hw) (lw_S q1136 q1137 q89 q1138) ⟨⟨rfl, rfl⟩, hd_X4_partOf, hR, hf⟩ hS hl rfl hrest hdg kk
end
/-! LeastFramesModel.volumes -/
def w_X4_volumes_84 (p1 : Int32) (K8 : MS → Int64 → Int64 → Int32 → Prop) (post : MS → Prop) (M : MS) (x2 : Int64) (x4 : Int64) (x6 : Int32) (x7 : Int64) (y0 : Int64) : Prop :=
  vp_in x6 10 ∧ (v_X4_quad M (M_pivots M x6.toNatClampNeg) (fun r1 => ∀ v2 : Int64, v2 = (x2 * y0) + ((x4 * x7) * r1.toInt64) → (∀ v3 : Int64, v3 = x4 * y0 → (v_X4_partOf v2 v3 (0 : Int32) (fun r4 => v_X4_partOf v2 v3 (1 : Int32) (fun r5 => ∀ v6 : Int32, v6 = x6 + 1 → (K8 M r4 r5 v6)))))))
def w_X4_volumes_67 (p1 : Int32) (K8 : MS → Int64 → Int64 → Int32 → Prop) (post : MS → Prop) (M : MS) (x2 : Int64) (x4 : Int64) (x6 : Int32) (x9 : Int64) (y0 : Int64) : Prop :=
  ((0 : Int64) ≤ x9 → (w_X4_volumes_84 p1 K8 post M x2 x4 x6 y0 x9)) ∧ (¬ (0 : Int64) ≤ x9 → (w_X4_volumes_84 p1 K8 post M x2 x4 x6 y0 (-x9)))
def w_X4_volumes_8b (p1 : Int32) (K8 : MS → Int64 → Int64 → Int32 → Prop) (post : MS → Prop) (M : MS) (x2 : Int64) (x4 : Int64) (x6 : Int32) : Prop :=
  ((M_rank M) ≤ x6 → (vp_in p1 1024 ∧ (∀ M2 : MS, M2 = sM_aboves M (vp_updL (M_aboves M) p1.toNatClampNeg x2) → (vp_in p1 1024 ∧ (∀ M3 : MS, M3 = sM_belows M2 (vp_updL (M_belows M2) p1.toNatClampNeg x4) → (post M3)))))) ∧ (¬ (M_rank M) ≤ x6 → (vp_in ((11 * x6) + 10) 110 ∧ (∀ v4 : Int64, v4 = M_rows M ((11 * x6) + 10).toNatClampNeg → (vp_in x6 10 ∧ (vp_in ((11 * x6) + (M_pivots M x6.toNatClampNeg)) 110 ∧ (∀ v5 : Int64, v5 = M_rows M ((11 * x6) + (M_pivots M x6.toNatClampNeg)).toNatClampNeg → (((0 : Int64) ≤ v4 → (w_X4_volumes_67 p1 K8 post M x2 x4 x6 v5 v4)) ∧ (¬ (0 : Int64) ≤ v4 → (w_X4_volumes_67 p1 K8 post M x2 x4 x6 v5 (-v4))))))))))
def w_X4_volumes_8 (p1 : Int32) (post : MS → Prop) : Nat → MS → Int64 → Int64 → Int32 → Prop
  | 0, _, _, _, _ => False
  | n + 1, M, x2, x4, x6 => w_X4_volumes_8b p1 (w_X4_volumes_8 p1 post n) post M x2 x4 x6
def w_X4_volumes (p1 : Int32) (post : MS → Prop) (M : MS) : Prop :=
  ∃ n, w_X4_volumes_8 p1 post n M 0 1 0
abbrev rmX4_volumes : Room := { frames := 4, cells := 0, slots := 0, locals := 87 }
set_option maxHeartbeats 4000000 in
set_option maxRecDepth 100000 in
theorem k_X4_volumes_84 {p : Program} {l : Launch} {e : Env} {s : State} {m : MethodId} {args : Array Value} {below : List Frame} {meth : Method} {c : Code} {D : va_G} {dT : Nat → ClassId} {a : Nat → Nat} {A : Nat → Prop}  {p1 : Int32} {K8 : MS → Int64 → Int64 → Int32 → Prop} {post : MS → Prop} (hC : wCx RX4 cX4_volumes 15 (none) D dT p s m args meth c) (hA : wAz A s) (hK8 : ∀ (M : MS) (x2 : Int64) (x4 : Int64) (x6 : Int32), K8 M x2 x4 x6 → ∀ {H : Heap} {locs : List Loc} {ls : Array Slot}, StM D dT a A s M H locs → lv_has ls 15 [(0, .ref (a 0)), (1, .int p1), (2, .long x2), (4, .long x4), (6, .int x6)] → W p l e rmX4_volumes s m args below meth c H locs 0 0 (MQ below (va_Qv post (wB D (MW dT a) MI A) A) args s 0 0 A) (F0 m 8 ls [])) (M : MS) (x2 : Int64) (x4 : Int64) (x6 : Int32) (x7 : Int64) (y0 : Int64) {H : Heap} {locs : List Loc} {ls : Array Slot} (hS : StM D dT a A s M H locs) (hl : lv_has ls 15 [(0, .ref (a 0)), (1, .int p1), (2, .long x2), (4, .long x4), (6, .int x6), (7, .long x7)])  (hw : w_X4_volumes_84 p1 K8 post M x2 x4 x6 x7 y0) : W p l e rmX4_volumes s m args below meth c H locs 0 0 (MQ below (va_Qv post (wB D (MW dT a) MI A) A) args s 0 0 A) (F0 m 84 ls [.long y0]) := by
  have hx := hC.1
  have hb := hC.2.1
  have hown := hC.2.2.2.1
  have hts := hC.2.2.2.2.1
  unfold w_X4_volumes_84 at hw
  refine lv_lstore (lv' := [(9, .long y0), (0, .ref (a 0)), (1, .int p1), (2, .long x2), (4, .long x4), (6, .int x6), (7, .long x7)]) hx hb dX4_volumes_84 hl (by decide) rfl (fun ls hl => ?_)
  refine lv_lload_n hx hb dX4_volumes_86 rfl (lv_at hl 3 rfl) ?_
  refine lv_lload hx hb dX4_volumes_87 (lv_at hl 0 rfl) ?_
  refine lv_lmul hx hb dX4_volumes_89 ?_
  refine lv_lload hx hb dX4_volumes_90 (lv_at hl 4 rfl) ?_
  refine lv_lload hx hb dX4_volumes_92 (lv_at hl 6 rfl) ?_
  refine lv_lmul hx hb dX4_volumes_94 ?_
  refine lv_aload_n hx hb dX4_volumes_95 rfl (lv_at hl 1 rfl) ?_
  refine lv_aload_n hx hb dX4_volumes_96 rfl (lv_at hl 1 rfl) ?_
  refine ld_q943 hC hS dX4_volumes_97 ?_
  refine lv_iload hx hb dX4_volumes_100 (lv_at hl 5 rfl) ?_
  refine al_pivots hC hS hw.1 dX4_volumes_102 ?_
  have hw := hw.2
  refine inv_q1078 hC hA hS hl.1 hw ⟨Nat.le_of_ble_eq_true rfl, Nat.le_of_ble_eq_true rfl⟩ (Nat.le_of_ble_eq_true rfl) ⟨Nat.zero_le _, Nat.zero_le _⟩ dX4_volumes_103 (fun r1 H locs hw hS => ?_)
  refine lv_i2l hx hb dX4_volumes_106 rfl ?_
  refine lv_lmul hx hb dX4_volumes_107 ?_
  refine lv_ladd hx hb dX4_volumes_108 ?_
  refine lv_topl (fun v2 ev2 => ?_)
  have hw := hw v2 ev2
  refine lv_lstore (lv' := [(11, .long v2), (9, .long y0), (0, .ref (a 0)), (1, .int p1), (2, .long x2), (4, .long x4), (6, .int x6), (7, .long x7)]) hx hb dX4_volumes_109 hl (by decide) rfl (fun ls hl => ?_)
  refine lv_lload hx hb dX4_volumes_111 (lv_at hl 5 rfl) ?_
  refine lv_lload hx hb dX4_volumes_113 (lv_at hl 1 rfl) ?_
  refine lv_lmul hx hb dX4_volumes_115 ?_
  refine lv_topl (fun v3 ev3 => ?_)
  have hw := hw v3 ev3
  refine lv_lstore (lv' := [(13, .long v3), (11, .long v2), (9, .long y0), (0, .ref (a 0)), (1, .int p1), (2, .long x2), (4, .long x4), (6, .int x6), (7, .long x7)]) hx hb dX4_volumes_116 hl (by decide) rfl (fun ls hl => ?_)
  refine lv_lload hx hb dX4_volumes_118 (lv_at hl 1 rfl) ?_
  refine lv_lload hx hb dX4_volumes_120 (lv_at hl 0 rfl) ?_
  refine lv_iconst (v := 0) hx hb dX4_volumes_122 (by decide) ?_
  refine inv_q1136 hC hS hl.1 hw ⟨Nat.le_of_ble_eq_true rfl, Nat.le_of_ble_eq_true rfl⟩ (Nat.le_of_ble_eq_true rfl) ⟨Nat.zero_le _, Nat.zero_le _⟩ dX4_volumes_123 (fun r4 H locs hw hS => ?_)
  refine lv_lstore_n (lv' := [(2, .long r4), (13, .long v3), (11, .long v2), (9, .long y0), (0, .ref (a 0)), (1, .int p1), (4, .long x4), (6, .int x6), (7, .long x7)]) hx hb dX4_volumes_126 rfl hl (by decide) rfl (fun ls hl => ?_)
  refine lv_lload hx hb dX4_volumes_127 (lv_at hl 2 rfl) ?_
  refine lv_lload hx hb dX4_volumes_129 (lv_at hl 1 rfl) ?_
  refine lv_iconst (v := 1) hx hb dX4_volumes_131 (by decide) ?_
  refine inv_q1136 hC hS hl.1 hw ⟨Nat.le_of_ble_eq_true rfl, Nat.le_of_ble_eq_true rfl⟩ (Nat.le_of_ble_eq_true rfl) ⟨Nat.zero_le _, Nat.zero_le _⟩ dX4_volumes_132 (fun r5 H locs hw hS => ?_)
  refine lv_lstore (lv' := [(4, .long r5), (2, .long r4), (13, .long v3), (11, .long v2), (9, .long y0), (0, .ref (a 0)), (1, .int p1), (6, .int x6), (7, .long x7)]) hx hb dX4_volumes_135 hl (by decide) rfl (fun ls hl => ?_)
  obtain ⟨v6, ev6⟩ : ∃ y : Int32, y = x6 + 1 := ⟨_, rfl⟩
  have hw := hw v6 ev6
  refine lv_iinc (v := v6) (lv' := [(6, .int v6), (4, .long r5), (2, .long r4), (13, .long v3), (11, .long v2), (9, .long y0), (0, .ref (a 0)), (1, .int p1), (7, .long x7)]) hx hb dX4_volumes_137 hl (k := 7) rfl (by rw [ev6]; rfl) (by decide) rfl (fun ls hl => ?_)
  refine lv_goto (tgt := 8) hx hb dX4_volumes_140 (by decide) ?_
  exact hK8 _ _ _ _ hw hS (lv_sub hl [6, 7, 2, 1, 0] rfl)
set_option maxHeartbeats 4000000 in
set_option maxRecDepth 100000 in
theorem k_X4_volumes_67 {p : Program} {l : Launch} {e : Env} {s : State} {m : MethodId} {args : Array Value} {below : List Frame} {meth : Method} {c : Code} {D : va_G} {dT : Nat → ClassId} {a : Nat → Nat} {A : Nat → Prop}  {p1 : Int32} {K8 : MS → Int64 → Int64 → Int32 → Prop} {post : MS → Prop} (hC : wCx RX4 cX4_volumes 15 (none) D dT p s m args meth c) (hA : wAz A s) (hK8 : ∀ (M : MS) (x2 : Int64) (x4 : Int64) (x6 : Int32), K8 M x2 x4 x6 → ∀ {H : Heap} {locs : List Loc} {ls : Array Slot}, StM D dT a A s M H locs → lv_has ls 15 [(0, .ref (a 0)), (1, .int p1), (2, .long x2), (4, .long x4), (6, .int x6)] → W p l e rmX4_volumes s m args below meth c H locs 0 0 (MQ below (va_Qv post (wB D (MW dT a) MI A) A) args s 0 0 A) (F0 m 8 ls [])) (M : MS) (x2 : Int64) (x4 : Int64) (x6 : Int32) (x9 : Int64) (y0 : Int64) {H : Heap} {locs : List Loc} {ls : Array Slot} (hS : StM D dT a A s M H locs) (hl : lv_has ls 15 [(0, .ref (a 0)), (1, .int p1), (2, .long x2), (4, .long x4), (6, .int x6), (9, .long x9)])  (hw : w_X4_volumes_67 p1 K8 post M x2 x4 x6 x9 y0) : W p l e rmX4_volumes s m args below meth c H locs 0 0 (MQ below (va_Qv post (wB D (MW dT a) MI A) A) args s 0 0 A) (F0 m 67 ls [.long y0]) := by
  have hx := hC.1
  have hb := hC.2.1
  have hown := hC.2.2.2.1
  have hts := hC.2.2.2.2.1
  unfold w_X4_volumes_67 at hw
  refine lv_lstore (lv' := [(7, .long y0), (0, .ref (a 0)), (1, .int p1), (2, .long x2), (4, .long x4), (6, .int x6), (9, .long x9)]) hx hb dX4_volumes_67 hl (by decide) rfl (fun ls hl => ?_)
  refine lv_lload hx hb dX4_volumes_69 (lv_at hl 6 rfl) ?_
  refine lv_lconst (v := 0) hx hb dX4_volumes_71 (by decide) ?_
  refine lc_if_ge (tgt := 82) hx hb dX4_volumes_72 dX4_volumes_73 (by decide) (fun c1 => ?_) (fun c1 => ?_)
  · have hw := hw.1 c1
    refine lv_lload hx hb dX4_volumes_82 (lv_at hl 6 rfl) ?_
    exact k_X4_volumes_84 hC hA hK8 _ _ _ _ _ _ hS (lv_sub hl [1, 2, 3, 4, 5, 0] rfl) hw
  · have hw := hw.2 c1
    refine lv_lload hx hb dX4_volumes_76 (lv_at hl 6 rfl) ?_
    refine lv_lneg hx hb dX4_volumes_78 ?_
    refine lv_goto (tgt := 84) hx hb dX4_volumes_79 (by decide) ?_
    exact k_X4_volumes_84 hC hA hK8 _ _ _ _ _ _ hS (lv_sub hl [1, 2, 3, 4, 5, 0] rfl) hw
set_option maxHeartbeats 4000000 in
set_option maxRecDepth 100000 in
theorem k_X4_volumes_8b {p : Program} {l : Launch} {e : Env} {s : State} {m : MethodId} {args : Array Value} {below : List Frame} {meth : Method} {c : Code} {D : va_G} {dT : Nat → ClassId} {a : Nat → Nat} {A : Nat → Prop}  {p1 : Int32} {K8 : MS → Int64 → Int64 → Int32 → Prop} {post : MS → Prop} (hC : wCx RX4 cX4_volumes 15 (none) D dT p s m args meth c) (hA : wAz A s) (hK8 : ∀ (M : MS) (x2 : Int64) (x4 : Int64) (x6 : Int32), K8 M x2 x4 x6 → ∀ {H : Heap} {locs : List Loc} {ls : Array Slot}, StM D dT a A s M H locs → lv_has ls 15 [(0, .ref (a 0)), (1, .int p1), (2, .long x2), (4, .long x4), (6, .int x6)] → W p l e rmX4_volumes s m args below meth c H locs 0 0 (MQ below (va_Qv post (wB D (MW dT a) MI A) A) args s 0 0 A) (F0 m 8 ls [])) (M : MS) (x2 : Int64) (x4 : Int64) (x6 : Int32) {H : Heap} {locs : List Loc} {ls : Array Slot} (hS : StM D dT a A s M H locs) (hl : lv_has ls 15 [(0, .ref (a 0)), (1, .int p1), (2, .long x2), (4, .long x4), (6, .int x6)])  (hw : w_X4_volumes_8b p1 K8 post M x2 x4 x6) : W p l e rmX4_volumes s m args below meth c H locs 0 0 (MQ below (va_Qv post (wB D (MW dT a) MI A) A) args s 0 0 A) (F0 m 8 ls []) := by
  have hx := hC.1
  have hb := hC.2.1
  have hown := hC.2.2.2.1
  have hts := hC.2.2.2.2.1
  unfold w_X4_volumes_8b at hw
  refine lv_iload hx hb dX4_volumes_8 (lv_at hl 4 rfl) ?_
  refine lv_aload_n hx hb dX4_volumes_10 rfl (lv_at hl 0 rfl) ?_
  refine ld_q944 hC hS dX4_volumes_11 ?_
  refine lv_icmp_ge (tgt := 143) hx hb dX4_volumes_14 (by decide) (fun c1 => ?_) (fun c1 => ?_)
  · have hw := hw.1 c1
    refine lv_aload_n hx hb dX4_volumes_143 rfl (lv_at hl 0 rfl) ?_
    refine ld_q946 hC hS dX4_volumes_144 ?_
    refine lv_iload_n hx hb dX4_volumes_147 rfl (lv_at hl 1 rfl) ?_
    refine lv_lload_n hx hb dX4_volumes_148 rfl (lv_at hl 2 rfl) ?_
    have hi := hw.1
    have hw := hw.2
    refine as_aboves hC hS hi dX4_volumes_149 (fun H locs hS => ?_)
    have hw := hw (sM_aboves M (vp_updL (M_aboves M) p1.toNatClampNeg x2)) rfl
    generalize sM_aboves M (vp_updL (M_aboves M) p1.toNatClampNeg x2) = M2 at hS hw
    refine lv_aload_n hx hb dX4_volumes_150 rfl (lv_at hl 0 rfl) ?_
    refine ld_q947 hC hS dX4_volumes_151 ?_
    refine lv_iload_n hx hb dX4_volumes_154 rfl (lv_at hl 1 rfl) ?_
    refine lv_lload hx hb dX4_volumes_155 (lv_at hl 3 rfl) ?_
    have hi := hw.1
    have hw := hw.2
    refine as_belows hC hS hi dX4_volumes_157 (fun H locs hS => ?_)
    have hw := hw (sM_belows M2 (vp_updL (M_belows M2) p1.toNatClampNeg x4)) rfl
    generalize sM_belows M2 (vp_updL (M_belows M2) p1.toNatClampNeg x4) = M3 at hS hw
    exact wRetv hC hS hw (Nat.le_refl _) (Nat.le_refl _) dX4_volumes_158
  · have hw := hw.2 c1
    refine lv_aload_n hx hb dX4_volumes_17 rfl (lv_at hl 0 rfl) ?_
    refine ld_q942 hC hS dX4_volumes_18 ?_
    refine lv_bipush (v := 11) hx hb dX4_volumes_21 (by decide) ?_
    refine lv_iload hx hb dX4_volumes_23 (lv_at hl 4 rfl) ?_
    refine lv_imul hx hb dX4_volumes_25 ?_
    refine lv_bipush (v := 10) hx hb dX4_volumes_26 (by decide) ?_
    refine lv_iadd hx hb dX4_volumes_28 ?_
    refine al_rows hC hS hw.1 dX4_volumes_29 ?_
    have hw := hw.2
    refine lv_topl (fun v4 ev4 => ?_)
    have hw := hw v4 ev4
    refine lv_lstore (lv' := [(7, .long v4), (0, .ref (a 0)), (1, .int p1), (2, .long x2), (4, .long x4), (6, .int x6)]) hx hb dX4_volumes_30 hl (by decide) rfl (fun ls hl => ?_)
    refine lv_aload_n hx hb dX4_volumes_32 rfl (lv_at hl 1 rfl) ?_
    refine ld_q942 hC hS dX4_volumes_33 ?_
    refine lv_bipush (v := 11) hx hb dX4_volumes_36 (by decide) ?_
    refine lv_iload hx hb dX4_volumes_38 (lv_at hl 5 rfl) ?_
    refine lv_imul hx hb dX4_volumes_40 ?_
    refine lv_aload_n hx hb dX4_volumes_41 rfl (lv_at hl 1 rfl) ?_
    refine ld_q943 hC hS dX4_volumes_42 ?_
    refine lv_iload hx hb dX4_volumes_45 (lv_at hl 5 rfl) ?_
    refine al_pivots hC hS hw.1 dX4_volumes_47 ?_
    have hw := hw.2
    refine lv_iadd hx hb dX4_volumes_48 ?_
    refine al_rows hC hS hw.1 dX4_volumes_49 ?_
    have hw := hw.2
    refine lv_topl (fun v5 ev5 => ?_)
    have hw := hw v5 ev5
    refine lv_lstore (lv' := [(9, .long v5), (7, .long v4), (0, .ref (a 0)), (1, .int p1), (2, .long x2), (4, .long x4), (6, .int x6)]) hx hb dX4_volumes_50 hl (by decide) rfl (fun ls hl => ?_)
    refine lv_lload hx hb dX4_volumes_52 (lv_at hl 1 rfl) ?_
    refine lv_lconst (v := 0) hx hb dX4_volumes_54 (by decide) ?_
    refine lc_if_ge (tgt := 65) hx hb dX4_volumes_55 dX4_volumes_56 (by decide) (fun c6 => ?_) (fun c6 => ?_)
    · have hw := hw.1 c6
      refine lv_lload hx hb dX4_volumes_65 (lv_at hl 1 rfl) ?_
      exact k_X4_volumes_67 hC hA hK8 _ _ _ _ _ _ hS (lv_sub hl [2, 3, 4, 5, 6, 0] rfl) hw
    · have hw := hw.2 c6
      refine lv_lload hx hb dX4_volumes_59 (lv_at hl 1 rfl) ?_
      refine lv_lneg hx hb dX4_volumes_61 ?_
      refine lv_goto (tgt := 67) hx hb dX4_volumes_62 (by decide) ?_
      exact k_X4_volumes_67 hC hA hK8 _ _ _ _ _ _ hS (lv_sub hl [2, 3, 4, 5, 6, 0] rfl) hw
set_option maxHeartbeats 4000000 in
set_option maxRecDepth 100000 in
theorem k_X4_volumes_8 {p : Program} {l : Launch} {e : Env} {s : State} {m : MethodId} {args : Array Value} {below : List Frame} {meth : Method} {c : Code} {D : va_G} {dT : Nat → ClassId} {a : Nat → Nat} {A : Nat → Prop}  {p1 : Int32} {post : MS → Prop} (hC : wCx RX4 cX4_volumes 15 (none) D dT p s m args meth c) (hA : wAz A s) : ∀ (M : MS) (x2 : Int64) (x4 : Int64) (x6 : Int32) (n : Nat), ∀ {H : Heap} {locs : List Loc} {ls : Array Slot}, StM D dT a A s M H locs → lv_has ls 15 [(0, .ref (a 0)), (1, .int p1), (2, .long x2), (4, .long x4), (6, .int x6)] → w_X4_volumes_8 p1 post n M x2 x4 x6 → W p l e rmX4_volumes s m args below meth c H locs 0 0 (MQ below (va_Qv post (wB D (MW dT a) MI A) A) args s 0 0 A) (F0 m 8 ls []) := by
  intro M x2 x4 x6 n
  induction n generalizing M x2 x4 x6 with
  | zero => intro H locs ls  hS hl hw; exact hw.elim
  | succ n ih =>
    intro H locs ls  hS hl hw
    exact k_X4_volumes_8b hC hA (fun M x2 x4 x6 hk {H} {locs} {ls}  hS hl => ih M x2 x4 x6  hS hl hk) M x2 x4 x6  hS hl hw
set_option maxHeartbeats 4000000 in
set_option maxRecDepth 100000 in
theorem k_X4_volumes_0 {p : Program} {l : Launch} {e : Env} {s : State} {m : MethodId} {args : Array Value} {below : List Frame} {meth : Method} {c : Code} {D : va_G} {dT : Nat → ClassId} {a : Nat → Nat} {A : Nat → Prop}  {p1 : Int32} {post : MS → Prop} (hC : wCx RX4 cX4_volumes 15 (none) D dT p s m args meth c) (hA : wAz A s) (M : MS) {H : Heap} {locs : List Loc} {ls : Array Slot} (hS : StM D dT a A s M H locs) (hl : lv_has ls 15 [(0, .ref (a 0)), (1, .int p1)])  (hw : w_X4_volumes p1 post M) : W p l e rmX4_volumes s m args below meth c H locs 0 0 (MQ below (va_Qv post (wB D (MW dT a) MI A) A) args s 0 0 A) (F0 m 0 ls []) := by
  have hx := hC.1
  have hb := hC.2.1
  have hown := hC.2.2.2.1
  have hts := hC.2.2.2.2.1
  unfold w_X4_volumes at hw
  refine lv_lconst (v := 0) hx hb dX4_volumes_0 (by decide) ?_
  refine lv_lstore_n (lv' := [(2, .long 0), (0, .ref (a 0)), (1, .int p1)]) hx hb dX4_volumes_1 rfl hl (by decide) rfl (fun ls hl => ?_)
  refine lv_lconst (v := 1) hx hb dX4_volumes_2 (by decide) ?_
  refine lv_lstore (lv' := [(4, .long 1), (2, .long 0), (0, .ref (a 0)), (1, .int p1)]) hx hb dX4_volumes_3 hl (by decide) rfl (fun ls hl => ?_)
  refine lv_iconst (v := 0) hx hb dX4_volumes_5 (by decide) ?_
  refine lv_istore (lv' := [(6, .int 0), (4, .long 1), (2, .long 0), (0, .ref (a 0)), (1, .int p1)]) hx hb dX4_volumes_6 hl (by decide) rfl (fun ls hl => ?_)
  obtain ⟨n, hw⟩ := hw
  exact k_X4_volumes_8 hC hA _ _ _ _ n hS (lv_sub hl [3, 4, 2, 1, 0] rfl) hw
abbrev v_X4_volumes (M : MS) (p1 : Int32) (post : MS → Prop) : Prop := w_X4_volumes p1 post M
set_option maxHeartbeats 4000000 in
set_option maxRecDepth 100000 in
theorem met_X4_volumes (l : Launch) (D : va_G) (dT : Nat → ClassId) (a : Nat → Nat) (sz : Nat) (M : MS) (p1 : Int32) (post : MS → Prop) (hw : v_X4_volumes M p1 post) : Met l yX4_volumes (ws_ yX4_volumes cX4_volumes 15 (none)) rmX4_volumes (wPc D dT (MW dT a) MI sz M [.ref (a 0), .int p1]) (va_Qv post (wB D (MW dT a) MI (va_A ((MW dT a) M) sz)) (va_A ((MW dT a) M) sz)) 0 0 (va_A ((MW dT a) M) sz) :=
  wEnt (Q := fun A => (va_Qv post (wB D (MW dT a) MI A) A)) (by decide) (Nat.le_of_ble_eq_true rfl) (fun p e s m below meth c A ls hC _ hA hS hl => k_X4_volumes_0 hC hA _ hS hl hw) sz
theorem hd_X4_volumes : yX4_volumes.cls ≠ "java/lang/invoke/MethodHandle" ∧ yX4_volumes.cls ≠ "java/lang/invoke/VarHandle" ∧ (parseMethodDescriptor yX4_volumes.desc).map (fun d => d.parameters.length) = some 1 := by decide +kernel
section
variable {p : Program} {l : Launch} {e : Env} {R : Room} {s : State} {m : MethodId} {args : Array Value} {below : List Frame} {meth : Method} {c : Code} {H : Heap} {locs : List Loc} {cells slots : Nat} {Q : State → Prop} {cc : ByteArray} {nL : Nat} {ret : Option FieldType} {pc : Nat} {ls : Array Slot} {rest : List Value}
set_option maxHeartbeats 4000000 in
set_option maxRecDepth 100000 in
theorem inv_q1132 {D : va_G} {dT : Nat → ClassId} {a : Nat → Nat} {A : Nat → Prop} {M : MS} {p1 : Int32} {post : MS → Prop} (hC : wCx RX4 cc nL ret D dT p s m args meth c) (hA : wAz A s) (hS : StM D dT a A s M H locs) (hl : ls.size = nL) (hw : v_X4_volumes M p1 post) (hR : rmX4_volumes.frames + 1 ≤ R.frames ∧ 8 + (15 + 11) + rmX4_volumes.locals ≤ R.locals) (hrest : (rest.map fun v => v.category).sum ≤ 8) (hf : cells ≤ R.cells ∧ slots ≤ R.slots) (hdg : decode cc pc = .ok (.invokevirtual 148, 3)) (kk : ∀ (u : MS) (H1 : Heap) (locs1 : List Loc), post u → StM D dT a A s u H1 locs1 → W p l e R s m args below meth c H1 locs1 cells slots Q (F0 m (pc + 3) ls rest)) : W p l e R s m args below meth c H locs cells slots Q (F0 m pc ls (.int p1 :: .ref (a 0) :: rest)) := by
  exact wCallVv (As := [.int p1]) (rest := rest) (mc := 0) (ms := 0) 0 hC (met_X4_volumes l D dT a H.size M p1 post hw) (lw_V q1132 q1134 qs63 q89 q1135) ⟨⟨rfl, rfl⟩, hd_X4_volumes, hR, hf⟩ rfl rfl rfl hA hS hl rfl hrest hdg (fun  u H1 locs1 hp hS1 => kk  u H1 locs1 hp hS1)
end
