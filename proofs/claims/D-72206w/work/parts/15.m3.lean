/-! LeastFramesModel.dearest -/
def w_X4_dearest (post : Int32 → MS → Prop) (M : MS) : Prop :=
  v_X4_dearestNow M (fun r1 M2 => post r1 M2)
abbrev rmX4_dearest : Room := { frames := 11, cells := 0, slots := 0, locals := 253 }
set_option maxHeartbeats 4000000 in
set_option maxRecDepth 100000 in
theorem k_X4_dearest_0 {p : Program} {l : Launch} {e : Env} {s : State} {m : MethodId} {args : Array Value} {below : List Frame} {meth : Method} {c : Code} {D : va_G} {dT : Nat → ClassId} {a : Nat → Nat} {A : Nat → Prop}  {post : Int32 → MS → Prop} (hC : wCx RX4 cX4_dearest 1 (some .int) D dT p s m args meth c) (hA : wAz A s) (M : MS) {H : Heap} {locs : List Loc} {ls : Array Slot} (hS : StM D dT a A s M H locs) (hl : lv_has ls 1 [(0, .ref (a 0))])  (hw : w_X4_dearest post M) : W p l e rmX4_dearest s m args below meth c H locs 0 0 (MQ below (va_Qi post (wB D (MW dT a) MI A) A) args s 0 0 A) (F0 m 0 ls []) := by
  have hx := hC.1
  have hb := hC.2.1
  have hown := hC.2.2.2.1
  have hts := hC.2.2.2.2.1
  unfold w_X4_dearest at hw
  refine lv_aload_n hx hb dX4_dearest_0 rfl (lv_at hl 0 rfl) ?_
  refine inv_q1195 hC hA hS hl.1 hw ⟨Nat.le_of_ble_eq_true rfl, Nat.le_of_ble_eq_true rfl⟩ (Nat.le_of_ble_eq_true rfl) ⟨Nat.zero_le _, Nat.zero_le _⟩ dX4_dearest_1 (fun r1 M2 H locs hw hS => ?_)
  exact wReti hC hS hw (Nat.le_refl _) (Nat.le_refl _) dX4_dearest_4
abbrev v_X4_dearest (M : MS) (post : Int32 → MS → Prop) : Prop := w_X4_dearest post M
set_option maxHeartbeats 4000000 in
set_option maxRecDepth 100000 in
theorem met_X4_dearest (l : Launch) (D : va_G) (dT : Nat → ClassId) (a : Nat → Nat) (sz : Nat) (M : MS) (post : Int32 → MS → Prop) (hw : v_X4_dearest M post) : Met l yX4_dearest (ws_ yX4_dearest cX4_dearest 1 (some .int)) rmX4_dearest (wPc D dT (MW dT a) MI sz M [.ref (a 0)]) (va_Qi post (wB D (MW dT a) MI (va_A ((MW dT a) M) sz)) (va_A ((MW dT a) M) sz)) 0 0 (va_A ((MW dT a) M) sz) :=
  wEnt (Q := fun A => (va_Qi post (wB D (MW dT a) MI A) A)) (by decide) (Nat.le_of_ble_eq_true rfl) (fun p e s m below meth c A ls hC _ hA hS hl => k_X4_dearest_0 hC hA _ hS hl hw) sz
theorem hd_X4_dearest : yX4_dearest.cls ≠ "java/lang/invoke/MethodHandle" ∧ yX4_dearest.cls ≠ "java/lang/invoke/VarHandle" ∧ (parseMethodDescriptor yX4_dearest.desc).map (fun d => d.parameters.length) = some 0 := by decide +kernel
/-! LeastFramesModel.gainOf -/
def w_X4_gainOf (p1 : Int32) (p2 : Int32) (post : Int64 → MS → Prop) (M : MS) : Prop :=
  v_X4_bestOf M (M_bars M) (fun r1 M2 => (r1 = ((-1) : Int32) → (v_X4_no ((-3) : Int32) (fun r7 => post r7 M2))) ∧ (¬ r1 = ((-1) : Int32) → (v_X4_bestOf M2 ((M_bars M2) ||| (1 <<< (p1 &&& 31))) (fun r4 M5 => vp_in r1 1024 ∧ (vp_in r4 1024 ∧ (vp_in r4 1024 ∧ (vp_in r1 1024 ∧ (vp_in r1 1024 ∧ (vp_in r4 1024 ∧ (v_X4_partOf (((M_aboves M5 r1.toNatClampNeg) * (M_belows M5 r4.toNatClampNeg)) - ((M_aboves M5 r4.toNatClampNeg) * (M_belows M5 r1.toNatClampNeg))) ((M_belows M5 r1.toNatClampNeg) * (M_belows M5 r4.toNatClampNeg)) p2 (fun r6 => post r6 M5)))))))))))
abbrev rmX4_gainOf : Room := { frames := 8, cells := 0, slots := 0, locals := 181 }
set_option maxHeartbeats 4000000 in
set_option maxRecDepth 100000 in
theorem k_X4_gainOf_0 {p : Program} {l : Launch} {e : Env} {s : State} {m : MethodId} {args : Array Value} {below : List Frame} {meth : Method} {c : Code} {D : va_G} {dT : Nat → ClassId} {a : Nat → Nat} {A : Nat → Prop}  {p1 : Int32} {p2 : Int32} {post : Int64 → MS → Prop} (hC : wCx RX4 cX4_gainOf 5 (some .long) D dT p s m args meth c) (hA : wAz A s) (M : MS) {H : Heap} {locs : List Loc} {ls : Array Slot} (hS : StM D dT a A s M H locs) (hl : lv_has ls 5 [(0, .ref (a 0)), (1, .int p1), (2, .int p2)])  (hw : w_X4_gainOf p1 p2 post M) : W p l e rmX4_gainOf s m args below meth c H locs 0 0 (MQ below (va_Ql post (wB D (MW dT a) MI A) A) args s 0 0 A) (F0 m 0 ls []) := by
  have hx := hC.1
  have hb := hC.2.1
  have hown := hC.2.2.2.1
  have hts := hC.2.2.2.2.1
  unfold w_X4_gainOf at hw
  refine lv_aload_n hx hb dX4_gainOf_0 rfl (lv_at hl 0 rfl) ?_
  refine lv_aload_n hx hb dX4_gainOf_1 rfl (lv_at hl 0 rfl) ?_
  refine ld_q941 hC hS dX4_gainOf_2 ?_
  refine inv_q1094 hC hA hS hl.1 hw ⟨Nat.le_of_ble_eq_true rfl, Nat.le_of_ble_eq_true rfl⟩ (Nat.le_of_ble_eq_true rfl) ⟨Nat.zero_le _, Nat.zero_le _⟩ dX4_gainOf_5 (fun r1 M2 H locs hw hS => ?_)
  refine lv_istore_n (lv' := [(3, .int r1), (0, .ref (a 0)), (1, .int p1), (2, .int p2)]) hx hb dX4_gainOf_8 rfl hl (by decide) rfl (fun ls hl => ?_)
  refine lv_iload_n hx hb dX4_gainOf_9 rfl (lv_at hl 0 rfl) ?_
  refine lv_iconst (v := (-1)) hx hb dX4_gainOf_10 (by decide) ?_
  refine lv_icmp_ne (tgt := 20) hx hb dX4_gainOf_11 (by decide) (fun c3 => ?_) (fun c3 => ?_)
  · have hw := hw.2 c3
    refine lv_aload_n hx hb dX4_gainOf_20 rfl (lv_at hl 1 rfl) ?_
    refine lv_aload_n hx hb dX4_gainOf_21 rfl (lv_at hl 1 rfl) ?_
    refine ld_q941 hC hS dX4_gainOf_22 ?_
    refine lv_iconst (v := 1) hx hb dX4_gainOf_25 (by decide) ?_
    refine lv_iload_n hx hb dX4_gainOf_26 rfl (lv_at hl 2 rfl) ?_
    refine lv_ishl hx hb dX4_gainOf_27 ?_
    refine lv_ior hx hb dX4_gainOf_28 ?_
    refine inv_q1094 hC hA hS hl.1 hw ⟨Nat.le_of_ble_eq_true rfl, Nat.le_of_ble_eq_true rfl⟩ (Nat.le_of_ble_eq_true rfl) ⟨Nat.zero_le _, Nat.zero_le _⟩ dX4_gainOf_29 (fun r4 M5 H locs hw hS => ?_)
    refine lv_istore (lv' := [(4, .int r4), (3, .int r1), (0, .ref (a 0)), (1, .int p1), (2, .int p2)]) hx hb dX4_gainOf_32 hl (by decide) rfl (fun ls hl => ?_)
    refine lv_aload_n hx hb dX4_gainOf_34 rfl (lv_at hl 2 rfl) ?_
    refine ld_q946 hC hS dX4_gainOf_35 ?_
    refine lv_iload_n hx hb dX4_gainOf_38 rfl (lv_at hl 1 rfl) ?_
    refine al_aboves hC hS hw.1 dX4_gainOf_39 ?_
    have hw := hw.2
    refine lv_aload_n hx hb dX4_gainOf_40 rfl (lv_at hl 2 rfl) ?_
    refine ld_q947 hC hS dX4_gainOf_41 ?_
    refine lv_iload hx hb dX4_gainOf_44 (lv_at hl 0 rfl) ?_
    refine al_belows hC hS hw.1 dX4_gainOf_46 ?_
    have hw := hw.2
    refine lv_lmul hx hb dX4_gainOf_47 ?_
    refine lv_aload_n hx hb dX4_gainOf_48 rfl (lv_at hl 2 rfl) ?_
    refine ld_q946 hC hS dX4_gainOf_49 ?_
    refine lv_iload hx hb dX4_gainOf_52 (lv_at hl 0 rfl) ?_
    refine al_aboves hC hS hw.1 dX4_gainOf_54 ?_
    have hw := hw.2
    refine lv_aload_n hx hb dX4_gainOf_55 rfl (lv_at hl 2 rfl) ?_
    refine ld_q947 hC hS dX4_gainOf_56 ?_
    refine lv_iload_n hx hb dX4_gainOf_59 rfl (lv_at hl 1 rfl) ?_
    refine al_belows hC hS hw.1 dX4_gainOf_60 ?_
    have hw := hw.2
    refine lv_lmul hx hb dX4_gainOf_61 ?_
    refine lv_lsub hx hb dX4_gainOf_62 ?_
    refine lv_aload_n hx hb dX4_gainOf_63 rfl (lv_at hl 2 rfl) ?_
    refine ld_q947 hC hS dX4_gainOf_64 ?_
    refine lv_iload_n hx hb dX4_gainOf_67 rfl (lv_at hl 1 rfl) ?_
    refine al_belows hC hS hw.1 dX4_gainOf_68 ?_
    have hw := hw.2
    refine lv_aload_n hx hb dX4_gainOf_69 rfl (lv_at hl 2 rfl) ?_
    refine ld_q947 hC hS dX4_gainOf_70 ?_
    refine lv_iload hx hb dX4_gainOf_73 (lv_at hl 0 rfl) ?_
    refine al_belows hC hS hw.1 dX4_gainOf_75 ?_
    have hw := hw.2
    refine lv_lmul hx hb dX4_gainOf_76 ?_
    refine lv_iload_n hx hb dX4_gainOf_77 rfl (lv_at hl 4 rfl) ?_
    refine inv_q1136 hC hS hl.1 hw ⟨Nat.le_of_ble_eq_true rfl, Nat.le_of_ble_eq_true rfl⟩ (Nat.le_of_ble_eq_true rfl) ⟨Nat.zero_le _, Nat.zero_le _⟩ dX4_gainOf_78 (fun r6 H locs hw hS => ?_)
    exact wRetl hC hS hw (Nat.le_refl _) (Nat.le_refl _) dX4_gainOf_81
  · have hw := hw.1 c3
    refine lv_bipush (v := (-3)) hx hb dX4_gainOf_14 (by decide) ?_
    refine inv_q1143 hC hS hl.1 hw ⟨Nat.le_of_ble_eq_true rfl, Nat.le_of_ble_eq_true rfl⟩ (Nat.le_of_ble_eq_true rfl) ⟨Nat.zero_le _, Nat.zero_le _⟩ dX4_gainOf_16 (fun r7 H locs hw hS => ?_)
    exact wRetl hC hS hw (Nat.le_refl _) (Nat.le_refl _) dX4_gainOf_19
abbrev v_X4_gainOf (M : MS) (p1 : Int32) (p2 : Int32) (post : Int64 → MS → Prop) : Prop := w_X4_gainOf p1 p2 post M
set_option maxHeartbeats 4000000 in
set_option maxRecDepth 100000 in
theorem met_X4_gainOf (l : Launch) (D : va_G) (dT : Nat → ClassId) (a : Nat → Nat) (sz : Nat) (M : MS) (p1 : Int32) (p2 : Int32) (post : Int64 → MS → Prop) (hw : v_X4_gainOf M p1 p2 post) : Met l yX4_gainOf (ws_ yX4_gainOf cX4_gainOf 5 (some .long)) rmX4_gainOf (wPc D dT (MW dT a) MI sz M [.ref (a 0), .int p1, .int p2]) (va_Ql post (wB D (MW dT a) MI (va_A ((MW dT a) M) sz)) (va_A ((MW dT a) M) sz)) 0 0 (va_A ((MW dT a) M) sz) :=
  wEnt (Q := fun A => (va_Ql post (wB D (MW dT a) MI A) A)) (by decide) (Nat.le_of_ble_eq_true rfl) (fun p e s m below meth c A ls hC _ hA hS hl => k_X4_gainOf_0 hC hA _ hS hl hw) sz
theorem hd_X4_gainOf : yX4_gainOf.cls ≠ "java/lang/invoke/MethodHandle" ∧ yX4_gainOf.cls ≠ "java/lang/invoke/VarHandle" ∧ (parseMethodDescriptor yX4_gainOf.desc).map (fun d => d.parameters.length) = some 2 := by decide +kernel
section
variable {p : Program} {l : Launch} {e : Env} {R : Room} {s : State} {m : MethodId} {args : Array Value} {below : List Frame} {meth : Method} {c : Code} {H : Heap} {locs : List Loc} {cells slots : Nat} {Q : State → Prop} {cc : ByteArray} {nL : Nat} {ret : Option FieldType} {pc : Nat} {ls : Array Slot} {rest : List Value}
set_option maxHeartbeats 4000000 in
set_option maxRecDepth 100000 in
theorem inv_q1203 {D : va_G} {dT : Nat → ClassId} {a : Nat → Nat} {A : Nat → Prop} {M : MS} {p1 : Int32} {p2 : Int32} {post : Int64 → MS → Prop} (hC : wCx RX4 cc nL ret D dT p s m args meth c) (hA : wAz A s) (hS : StM D dT a A s M H locs) (hl : ls.size = nL) (hw : v_X4_gainOf M p1 p2 post) (hR : rmX4_gainOf.frames + 1 ≤ R.frames ∧ 8 + (5 + 11) + rmX4_gainOf.locals ≤ R.locals) (hrest : (rest.map fun v => v.category).sum ≤ 8) (hf : cells ≤ R.cells ∧ slots ≤ R.slots) (hdg : decode cc pc = .ok (.invokevirtual 186, 3)) (kk : ∀ (r : Int64) (u : MS) (H1 : Heap) (locs1 : List Loc), post r u → StM D dT a A s u H1 locs1 → W p l e R s m args below meth c H1 locs1 cells slots Q (F0 m (pc + 3) ls (.long r :: rest))) : W p l e R s m args below meth c H locs cells slots Q (F0 m pc ls (.int p2 :: .int p1 :: .ref (a 0) :: rest)) := by
  exact wCallVl (As := [.int p1, .int p2]) (rest := rest) (mc := 0) (ms := 0) 0 hC (met_X4_gainOf l D dT a H.size M p1 p2 post hw) (lw_V q1203 q1205 qs71 q89 q1206) ⟨⟨rfl, rfl⟩, hd_X4_gainOf, hR, hf⟩ rfl rfl rfl hA hS hl rfl hrest hdg (fun r u H1 locs1 hp hS1 => kk r u H1 locs1 hp hS1)
end
/-! LeastFramesModel.gain -/
def w_X4_gain (p1 : Int32) (p2 : Int32) (post : Int64 → MS → Prop) (M : MS) : Prop :=
  v_X4_isPair M p1 (fun r1 => (r1 = (0 : Int32) → (v_X4_no ((-2) : Int32) (fun r3 => post r3 M))) ∧ (¬ r1 = (0 : Int32) → (v_X4_isBar M p1 (fun r4 => (r4 = (0 : Int32) → (v_X4_in p2 (0 : Int32) (1 : Int32) (fun r7 => (r7 = (0 : Int32) → (v_X4_no ((-2) : Int32) (fun r9 => post r9 M))) ∧ (¬ r7 = (0 : Int32) → (v_X4_gainOf M p1 p2 (fun r10 M11 => post r10 M11)))))) ∧ (¬ r4 = (0 : Int32) → (v_X4_no ((-2) : Int32) (fun r6 => post r6 M)))))))
abbrev rmX4_gain : Room := { frames := 9, cells := 0, slots := 0, locals := 205 }
set_option maxHeartbeats 4000000 in
set_option maxRecDepth 100000 in
theorem k_X4_gain_0 {p : Program} {l : Launch} {e : Env} {s : State} {m : MethodId} {args : Array Value} {below : List Frame} {meth : Method} {c : Code} {D : va_G} {dT : Nat → ClassId} {a : Nat → Nat} {A : Nat → Prop}  {p1 : Int32} {p2 : Int32} {post : Int64 → MS → Prop} (hC : wCx RX4 cX4_gain 3 (some .long) D dT p s m args meth c) (hA : wAz A s) (M : MS) {H : Heap} {locs : List Loc} {ls : Array Slot} (hS : StM D dT a A s M H locs) (hl : lv_has ls 3 [(0, .ref (a 0)), (1, .int p1), (2, .int p2)])  (hw : w_X4_gain p1 p2 post M) : W p l e rmX4_gain s m args below meth c H locs 0 0 (MQ below (va_Ql post (wB D (MW dT a) MI A) A) args s 0 0 A) (F0 m 0 ls []) := by
  have hx := hC.1
  have hb := hC.2.1
  have hown := hC.2.2.2.1
  have hts := hC.2.2.2.2.1
  unfold w_X4_gain at hw
  refine lv_aload_n hx hb dX4_gain_0 rfl (lv_at hl 0 rfl) ?_
  refine lv_iload_n hx hb dX4_gain_1 rfl (lv_at hl 1 rfl) ?_
  refine inv_q1035 hC hA hS hl.1 hw ⟨Nat.le_of_ble_eq_true rfl, Nat.le_of_ble_eq_true rfl⟩ (Nat.le_of_ble_eq_true rfl) ⟨Nat.zero_le _, Nat.zero_le _⟩ dX4_gain_2 (fun r1 H locs hw hS => ?_)
  refine lv_if_eq (tgt := 34) hx hb dX4_gain_5 (by decide) (fun c2 => ?_) (fun c2 => ?_)
  · have hw := hw.1 c2
    refine lv_bipush (v := (-2)) hx hb dX4_gain_34 (by decide) ?_
    refine inv_q1143 hC hS hl.1 hw ⟨Nat.le_of_ble_eq_true rfl, Nat.le_of_ble_eq_true rfl⟩ (Nat.le_of_ble_eq_true rfl) ⟨Nat.zero_le _, Nat.zero_le _⟩ dX4_gain_36 (fun r3 H locs hw hS => ?_)
    exact wRetl hC hS hw (Nat.le_refl _) (Nat.le_refl _) dX4_gain_39
  · have hw := hw.2 c2
    refine lv_aload_n hx hb dX4_gain_8 rfl (lv_at hl 0 rfl) ?_
    refine lv_iload_n hx hb dX4_gain_9 rfl (lv_at hl 1 rfl) ?_
    refine inv_q1171 hC hA hS hl.1 hw ⟨Nat.le_of_ble_eq_true rfl, Nat.le_of_ble_eq_true rfl⟩ (Nat.le_of_ble_eq_true rfl) ⟨Nat.zero_le _, Nat.zero_le _⟩ dX4_gain_10 (fun r4 H locs hw hS => ?_)
    refine lv_if_ne (tgt := 34) hx hb dX4_gain_13 (by decide) (fun c5 => ?_) (fun c5 => ?_)
    · have hw := hw.2 c5
      refine lv_bipush (v := (-2)) hx hb dX4_gain_34 (by decide) ?_
      refine inv_q1143 hC hS hl.1 hw ⟨Nat.le_of_ble_eq_true rfl, Nat.le_of_ble_eq_true rfl⟩ (Nat.le_of_ble_eq_true rfl) ⟨Nat.zero_le _, Nat.zero_le _⟩ dX4_gain_36 (fun r6 H locs hw hS => ?_)
      exact wRetl hC hS hw (Nat.le_refl _) (Nat.le_refl _) dX4_gain_39
    · have hw := hw.1 c5
      refine lv_iload_n hx hb dX4_gain_16 rfl (lv_at hl 2 rfl) ?_
      refine lv_iconst (v := 0) hx hb dX4_gain_17 (by decide) ?_
      refine lv_iconst (v := 1) hx hb dX4_gain_18 (by decide) ?_
      refine inv_q1007 hC hS hl.1 hw ⟨Nat.le_of_ble_eq_true rfl, Nat.le_of_ble_eq_true rfl⟩ (Nat.le_of_ble_eq_true rfl) ⟨Nat.zero_le _, Nat.zero_le _⟩ dX4_gain_19 (fun r7 H locs hw hS => ?_)
      refine lv_if_eq (tgt := 34) hx hb dX4_gain_22 (by decide) (fun c8 => ?_) (fun c8 => ?_)
      · have hw := hw.1 c8
        refine lv_bipush (v := (-2)) hx hb dX4_gain_34 (by decide) ?_
        refine inv_q1143 hC hS hl.1 hw ⟨Nat.le_of_ble_eq_true rfl, Nat.le_of_ble_eq_true rfl⟩ (Nat.le_of_ble_eq_true rfl) ⟨Nat.zero_le _, Nat.zero_le _⟩ dX4_gain_36 (fun r9 H locs hw hS => ?_)
        exact wRetl hC hS hw (Nat.le_refl _) (Nat.le_refl _) dX4_gain_39
      · have hw := hw.2 c8
        refine lv_aload_n hx hb dX4_gain_25 rfl (lv_at hl 0 rfl) ?_
        refine lv_iload_n hx hb dX4_gain_26 rfl (lv_at hl 1 rfl) ?_
        refine lv_iload_n hx hb dX4_gain_27 rfl (lv_at hl 2 rfl) ?_
        refine inv_q1203 hC hA hS hl.1 hw ⟨Nat.le_of_ble_eq_true rfl, Nat.le_of_ble_eq_true rfl⟩ (Nat.le_of_ble_eq_true rfl) ⟨Nat.zero_le _, Nat.zero_le _⟩ dX4_gain_28 (fun r10 M11 H locs hw hS => ?_)
        refine lv_goto (tgt := 39) hx hb dX4_gain_31 (by decide) ?_
        exact wRetl hC hS hw (Nat.le_refl _) (Nat.le_refl _) dX4_gain_39
abbrev v_X4_gain (M : MS) (p1 : Int32) (p2 : Int32) (post : Int64 → MS → Prop) : Prop := w_X4_gain p1 p2 post M
set_option maxHeartbeats 4000000 in
set_option maxRecDepth 100000 in
theorem met_X4_gain (l : Launch) (D : va_G) (dT : Nat → ClassId) (a : Nat → Nat) (sz : Nat) (M : MS) (p1 : Int32) (p2 : Int32) (post : Int64 → MS → Prop) (hw : v_X4_gain M p1 p2 post) : Met l yX4_gain (ws_ yX4_gain cX4_gain 3 (some .long)) rmX4_gain (wPc D dT (MW dT a) MI sz M [.ref (a 0), .int p1, .int p2]) (va_Ql post (wB D (MW dT a) MI (va_A ((MW dT a) M) sz)) (va_A ((MW dT a) M) sz)) 0 0 (va_A ((MW dT a) M) sz) :=
  wEnt (Q := fun A => (va_Ql post (wB D (MW dT a) MI A) A)) (by decide) (Nat.le_of_ble_eq_true rfl) (fun p e s m below meth c A ls hC _ hA hS hl => k_X4_gain_0 hC hA _ hS hl hw) sz
theorem hd_X4_gain : yX4_gain.cls ≠ "java/lang/invoke/MethodHandle" ∧ yX4_gain.cls ≠ "java/lang/invoke/VarHandle" ∧ (parseMethodDescriptor yX4_gain.desc).map (fun d => d.parameters.length) = some 2 := by decide +kernel
/-! LeastFramesModel.growing -/
def w_X4_growing_79 (K13 : MS → Int32 → Int32 → Int32 → Prop) (post : Int32 → MS → Prop) (M : MS) (x2 : Int32) (x3 : Int32) (y0 : Int32) : Prop :=
  ∀ v1 : Int32, v1 = x3 + 1 → (K13 M y0 x2 v1)
def w_X4_growing_62 (K13 : MS → Int32 → Int32 → Int32 → Prop) (post : Int32 → MS → Prop) (M : MS) (x1 : Int32) (x3 : Int32) (x4 : Int32) (y0 : Int32) : Prop :=
  v_X4_isLess M x4 x1 (fun r1 => (r1 = (0 : Int32) → (w_X4_growing_79 K13 post M y0 x3 x1)) ∧ (¬ r1 = (0 : Int32) → (w_X4_growing_79 K13 post M y0 x3 x4)))
def w_X4_growing_45 (K13 : MS → Int32 → Int32 → Int32 → Prop) (post : Int32 → MS → Prop) (M : MS) (x1 : Int32) (x2 : Int32) (x3 : Int32) (y0 : Int32) : Prop :=
  v_X4_isLess M y0 x1 (fun r1 => (r1 = (0 : Int32) → (w_X4_growing_62 K13 post M x1 x3 y0 x2)) ∧ (¬ r1 = (0 : Int32) → (w_X4_growing_62 K13 post M x1 x3 y0 x3)))
def w_X4_growing_13b (K13 : MS → Int32 → Int32 → Int32 → Prop) (post : Int32 → MS → Prop) (M : MS) (x1 : Int32) (x2 : Int32) (x3 : Int32) : Prop :=
  v_X4_pairs M (fun r1 => (r1 ≤ x3 → (post x2 M)) ∧ (¬ r1 ≤ x3 → (v_X4_isBar M x3 (fun r3 => (r3 = (0 : Int32) → (v_X4_bestOf M ((M_bars M) ||| (1 <<< (x3 &&& 31))) (fun r5 M6 => w_X4_growing_45 K13 post M6 x1 x2 x3 r5))) ∧ (¬ r3 = (0 : Int32) → (w_X4_growing_45 K13 post M x1 x2 x3 x1))))))
def w_X4_growing_13 (post : Int32 → MS → Prop) : Nat → MS → Int32 → Int32 → Int32 → Prop
  | 0, _, _, _, _ => False
  | n + 1, M, x1, x2, x3 => w_X4_growing_13b  (w_X4_growing_13 post n) post M x1 x2 x3
def w_X4_growing (post : Int32 → MS → Prop) (M : MS) : Prop :=
  v_X4_bestOf M (M_bars M) (fun r1 M2 => ∃ n, w_X4_growing_13 post n M2 r1 (-1) 0)
abbrev rmX4_growing : Room := { frames := 8, cells := 0, slots := 0, locals := 181 }
set_option maxHeartbeats 4000000 in
set_option maxRecDepth 100000 in
theorem k_X4_growing_79 {p : Program} {l : Launch} {e : Env} {s : State} {m : MethodId} {args : Array Value} {below : List Frame} {meth : Method} {c : Code} {D : va_G} {dT : Nat → ClassId} {a : Nat → Nat} {A : Nat → Prop}  {K13 : MS → Int32 → Int32 → Int32 → Prop} {post : Int32 → MS → Prop} (hC : wCx RX4 cX4_growing 5 (some .int) D dT p s m args meth c) (hA : wAz A s) (hK13 : ∀ (M : MS) (x1 : Int32) (x2 : Int32) (x3 : Int32), K13 M x1 x2 x3 → ∀ {H : Heap} {locs : List Loc} {ls : Array Slot}, StM D dT a A s M H locs → lv_has ls 5 [(0, .ref (a 0)), (1, .int x1), (2, .int x2), (3, .int x3)] → W p l e rmX4_growing s m args below meth c H locs 0 0 (MQ below (va_Qi post (wB D (MW dT a) MI A) A) args s 0 0 A) (F0 m 13 ls [])) (M : MS) (x2 : Int32) (x3 : Int32) (y0 : Int32) {H : Heap} {locs : List Loc} {ls : Array Slot} (hS : StM D dT a A s M H locs) (hl : lv_has ls 5 [(0, .ref (a 0)), (2, .int x2), (3, .int x3)])  (hw : w_X4_growing_79 K13 post M x2 x3 y0) : W p l e rmX4_growing s m args below meth c H locs 0 0 (MQ below (va_Qi post (wB D (MW dT a) MI A) A) args s 0 0 A) (F0 m 79 ls [.int y0]) := by
  have hx := hC.1
  have hb := hC.2.1
  have hown := hC.2.2.2.1
  have hts := hC.2.2.2.2.1
  unfold w_X4_growing_79 at hw
  refine lv_istore_n (lv' := [(1, .int y0), (0, .ref (a 0)), (2, .int x2), (3, .int x3)]) hx hb dX4_growing_79 rfl hl (by decide) rfl (fun ls hl => ?_)
  obtain ⟨v1, ev1⟩ : ∃ y : Int32, y = x3 + 1 := ⟨_, rfl⟩
  have hw := hw v1 ev1
  refine lv_iinc (v := v1) (lv' := [(3, .int v1), (1, .int y0), (0, .ref (a 0)), (2, .int x2)]) hx hb dX4_growing_80 hl (k := 3) rfl (by rw [ev1]; rfl) (by decide) rfl (fun ls hl => ?_)
  refine lv_goto (tgt := 13) hx hb dX4_growing_83 (by decide) ?_
  exact hK13 _ _ _ _ hw hS (lv_sub hl [2, 1, 3, 0] rfl)
set_option maxHeartbeats 4000000 in
set_option maxRecDepth 100000 in
theorem k_X4_growing_62 {p : Program} {l : Launch} {e : Env} {s : State} {m : MethodId} {args : Array Value} {below : List Frame} {meth : Method} {c : Code} {D : va_G} {dT : Nat → ClassId} {a : Nat → Nat} {A : Nat → Prop}  {K13 : MS → Int32 → Int32 → Int32 → Prop} {post : Int32 → MS → Prop} (hC : wCx RX4 cX4_growing 5 (some .int) D dT p s m args meth c) (hA : wAz A s) (hK13 : ∀ (M : MS) (x1 : Int32) (x2 : Int32) (x3 : Int32), K13 M x1 x2 x3 → ∀ {H : Heap} {locs : List Loc} {ls : Array Slot}, StM D dT a A s M H locs → lv_has ls 5 [(0, .ref (a 0)), (1, .int x1), (2, .int x2), (3, .int x3)] → W p l e rmX4_growing s m args below meth c H locs 0 0 (MQ below (va_Qi post (wB D (MW dT a) MI A) A) args s 0 0 A) (F0 m 13 ls [])) (M : MS) (x1 : Int32) (x3 : Int32) (x4 : Int32) (y0 : Int32) {H : Heap} {locs : List Loc} {ls : Array Slot} (hS : StM D dT a A s M H locs) (hl : lv_has ls 5 [(0, .ref (a 0)), (1, .int x1), (3, .int x3), (4, .int x4)])  (hw : w_X4_growing_62 K13 post M x1 x3 x4 y0) : W p l e rmX4_growing s m args below meth c H locs 0 0 (MQ below (va_Qi post (wB D (MW dT a) MI A) A) args s 0 0 A) (F0 m 62 ls [.int y0]) := by
  have hx := hC.1
  have hb := hC.2.1
  have hown := hC.2.2.2.1
  have hts := hC.2.2.2.2.1
  unfold w_X4_growing_62 at hw
  refine lv_istore_n (lv' := [(2, .int y0), (0, .ref (a 0)), (1, .int x1), (3, .int x3), (4, .int x4)]) hx hb dX4_growing_62 rfl hl (by decide) rfl (fun ls hl => ?_)
  refine lv_aload_n hx hb dX4_growing_63 rfl (lv_at hl 1 rfl) ?_
  refine lv_iload hx hb dX4_growing_64 (lv_at hl 4 rfl) ?_
  refine lv_iload_n hx hb dX4_growing_66 rfl (lv_at hl 2 rfl) ?_
  refine inv_q1139 hC hA hS hl.1 hw ⟨Nat.le_of_ble_eq_true rfl, Nat.le_of_ble_eq_true rfl⟩ (Nat.le_of_ble_eq_true rfl) ⟨Nat.zero_le _, Nat.zero_le _⟩ dX4_growing_67 (fun r1 H locs hw hS => ?_)
  refine lv_if_eq (tgt := 78) hx hb dX4_growing_70 (by decide) (fun c2 => ?_) (fun c2 => ?_)
  · have hw := hw.1 c2
    refine lv_iload_n hx hb dX4_growing_78 rfl (lv_at hl 2 rfl) ?_
    exact k_X4_growing_79 hC hA hK13 _ _ _ _ hS (lv_sub hl [1, 0, 3] rfl) hw
  · have hw := hw.2 c2
    refine lv_iload hx hb dX4_growing_73 (lv_at hl 4 rfl) ?_
    refine lv_goto (tgt := 79) hx hb dX4_growing_75 (by decide) ?_
    exact k_X4_growing_79 hC hA hK13 _ _ _ _ hS (lv_sub hl [1, 0, 3] rfl) hw
set_option maxHeartbeats 4000000 in
set_option maxRecDepth 100000 in
theorem k_X4_growing_45 {p : Program} {l : Launch} {e : Env} {s : State} {m : MethodId} {args : Array Value} {below : List Frame} {meth : Method} {c : Code} {D : va_G} {dT : Nat → ClassId} {a : Nat → Nat} {A : Nat → Prop}  {K13 : MS → Int32 → Int32 → Int32 → Prop} {post : Int32 → MS → Prop} (hC : wCx RX4 cX4_growing 5 (some .int) D dT p s m args meth c) (hA : wAz A s) (hK13 : ∀ (M : MS) (x1 : Int32) (x2 : Int32) (x3 : Int32), K13 M x1 x2 x3 → ∀ {H : Heap} {locs : List Loc} {ls : Array Slot}, StM D dT a A s M H locs → lv_has ls 5 [(0, .ref (a 0)), (1, .int x1), (2, .int x2), (3, .int x3)] → W p l e rmX4_growing s m args below meth c H locs 0 0 (MQ below (va_Qi post (wB D (MW dT a) MI A) A) args s 0 0 A) (F0 m 13 ls [])) (M : MS) (x1 : Int32) (x2 : Int32) (x3 : Int32) (y0 : Int32) {H : Heap} {locs : List Loc} {ls : Array Slot} (hS : StM D dT a A s M H locs) (hl : lv_has ls 5 [(0, .ref (a 0)), (1, .int x1), (2, .int x2), (3, .int x3)])  (hw : w_X4_growing_45 K13 post M x1 x2 x3 y0) : W p l e rmX4_growing s m args below meth c H locs 0 0 (MQ below (va_Qi post (wB D (MW dT a) MI A) A) args s 0 0 A) (F0 m 45 ls [.int y0]) := by
  have hx := hC.1
  have hb := hC.2.1
  have hown := hC.2.2.2.1
  have hts := hC.2.2.2.2.1
  unfold w_X4_growing_45 at hw
  refine lv_istore (lv' := [(4, .int y0), (0, .ref (a 0)), (1, .int x1), (2, .int x2), (3, .int x3)]) hx hb dX4_growing_45 hl (by decide) rfl (fun ls hl => ?_)
  refine lv_aload_n hx hb dX4_growing_47 rfl (lv_at hl 1 rfl) ?_
  refine lv_iload hx hb dX4_growing_48 (lv_at hl 0 rfl) ?_
  refine lv_iload_n hx hb dX4_growing_50 rfl (lv_at hl 2 rfl) ?_
  refine inv_q1139 hC hA hS hl.1 hw ⟨Nat.le_of_ble_eq_true rfl, Nat.le_of_ble_eq_true rfl⟩ (Nat.le_of_ble_eq_true rfl) ⟨Nat.zero_le _, Nat.zero_le _⟩ dX4_growing_51 (fun r1 H locs hw hS => ?_)
  refine lv_if_eq (tgt := 61) hx hb dX4_growing_54 (by decide) (fun c2 => ?_) (fun c2 => ?_)
  · have hw := hw.1 c2
    refine lv_iload_n hx hb dX4_growing_61 rfl (lv_at hl 3 rfl) ?_
    exact k_X4_growing_62 hC hA hK13 _ _ _ _ _ hS (lv_sub hl [1, 2, 4, 0] rfl) hw
  · have hw := hw.2 c2
    refine lv_iload_n hx hb dX4_growing_57 rfl (lv_at hl 4 rfl) ?_
    refine lv_goto (tgt := 62) hx hb dX4_growing_58 (by decide) ?_
    exact k_X4_growing_62 hC hA hK13 _ _ _ _ _ hS (lv_sub hl [1, 2, 4, 0] rfl) hw
set_option maxHeartbeats 4000000 in
set_option maxRecDepth 100000 in
theorem k_X4_growing_13b {p : Program} {l : Launch} {e : Env} {s : State} {m : MethodId} {args : Array Value} {below : List Frame} {meth : Method} {c : Code} {D : va_G} {dT : Nat → ClassId} {a : Nat → Nat} {A : Nat → Prop}  {K13 : MS → Int32 → Int32 → Int32 → Prop} {post : Int32 → MS → Prop} (hC : wCx RX4 cX4_growing 5 (some .int) D dT p s m args meth c) (hA : wAz A s) (hK13 : ∀ (M : MS) (x1 : Int32) (x2 : Int32) (x3 : Int32), K13 M x1 x2 x3 → ∀ {H : Heap} {locs : List Loc} {ls : Array Slot}, StM D dT a A s M H locs → lv_has ls 5 [(0, .ref (a 0)), (1, .int x1), (2, .int x2), (3, .int x3)] → W p l e rmX4_growing s m args below meth c H locs 0 0 (MQ below (va_Qi post (wB D (MW dT a) MI A) A) args s 0 0 A) (F0 m 13 ls [])) (M : MS) (x1 : Int32) (x2 : Int32) (x3 : Int32) {H : Heap} {locs : List Loc} {ls : Array Slot} (hS : StM D dT a A s M H locs) (hl : lv_has ls 5 [(0, .ref (a 0)), (1, .int x1), (2, .int x2), (3, .int x3)])  (hw : w_X4_growing_13b K13 post M x1 x2 x3) : W p l e rmX4_growing s m args below meth c H locs 0 0 (MQ below (va_Qi post (wB D (MW dT a) MI A) A) args s 0 0 A) (F0 m 13 ls []) := by
  have hx := hC.1
  have hb := hC.2.1
  have hown := hC.2.2.2.1
  have hts := hC.2.2.2.2.1
  unfold w_X4_growing_13b at hw
  refine lv_iload_n hx hb dX4_growing_13 rfl (lv_at hl 3 rfl) ?_
  refine lv_aload_n hx hb dX4_growing_14 rfl (lv_at hl 0 rfl) ?_
  refine inv_q1014 hC hA hS hl.1 hw ⟨Nat.le_of_ble_eq_true rfl, Nat.le_of_ble_eq_true rfl⟩ (Nat.le_of_ble_eq_true rfl) ⟨Nat.zero_le _, Nat.zero_le _⟩ dX4_growing_15 (fun r1 H locs hw hS => ?_)
  refine lv_icmp_ge (tgt := 86) hx hb dX4_growing_18 (by decide) (fun c2 => ?_) (fun c2 => ?_)
  · have hw := hw.1 c2
    refine lv_iload_n hx hb dX4_growing_86 rfl (lv_at hl 2 rfl) ?_
    exact wReti hC hS hw (Nat.le_refl _) (Nat.le_refl _) dX4_growing_87
  · have hw := hw.2 c2
    refine lv_aload_n hx hb dX4_growing_21 rfl (lv_at hl 0 rfl) ?_
    refine lv_iload_n hx hb dX4_growing_22 rfl (lv_at hl 3 rfl) ?_
    refine inv_q1171 hC hA hS hl.1 hw ⟨Nat.le_of_ble_eq_true rfl, Nat.le_of_ble_eq_true rfl⟩ (Nat.le_of_ble_eq_true rfl) ⟨Nat.zero_le _, Nat.zero_le _⟩ dX4_growing_23 (fun r3 H locs hw hS => ?_)
    refine lv_if_eq (tgt := 33) hx hb dX4_growing_26 (by decide) (fun c4 => ?_) (fun c4 => ?_)
    · have hw := hw.1 c4
      refine lv_aload_n hx hb dX4_growing_33 rfl (lv_at hl 0 rfl) ?_
      refine lv_aload_n hx hb dX4_growing_34 rfl (lv_at hl 0 rfl) ?_
      refine ld_q941 hC hS dX4_growing_35 ?_
      refine lv_iconst (v := 1) hx hb dX4_growing_38 (by decide) ?_
      refine lv_iload_n hx hb dX4_growing_39 rfl (lv_at hl 3 rfl) ?_
      refine lv_ishl hx hb dX4_growing_40 ?_
      refine lv_ior hx hb dX4_growing_41 ?_
      refine inv_q1094 hC hA hS hl.1 hw ⟨Nat.le_of_ble_eq_true rfl, Nat.le_of_ble_eq_true rfl⟩ (Nat.le_of_ble_eq_true rfl) ⟨Nat.zero_le _, Nat.zero_le _⟩ dX4_growing_42 (fun r5 M6 H locs hw hS => ?_)
      exact k_X4_growing_45 hC hA hK13 _ _ _ _ _ hS (lv_sub hl [0, 1, 2, 3] rfl) hw
    · have hw := hw.2 c4
      refine lv_iload_n hx hb dX4_growing_29 rfl (lv_at hl 1 rfl) ?_
      refine lv_goto (tgt := 45) hx hb dX4_growing_30 (by decide) ?_
      exact k_X4_growing_45 hC hA hK13 _ _ _ _ _ hS (lv_sub hl [0, 1, 2, 3] rfl) hw
set_option maxHeartbeats 4000000 in
set_option maxRecDepth 100000 in
theorem k_X4_growing_13 {p : Program} {l : Launch} {e : Env} {s : State} {m : MethodId} {args : Array Value} {below : List Frame} {meth : Method} {c : Code} {D : va_G} {dT : Nat → ClassId} {a : Nat → Nat} {A : Nat → Prop}  {post : Int32 → MS → Prop} (hC : wCx RX4 cX4_growing 5 (some .int) D dT p s m args meth c) (hA : wAz A s) : ∀ (M : MS) (x1 : Int32) (x2 : Int32) (x3 : Int32) (n : Nat), ∀ {H : Heap} {locs : List Loc} {ls : Array Slot}, StM D dT a A s M H locs → lv_has ls 5 [(0, .ref (a 0)), (1, .int x1), (2, .int x2), (3, .int x3)] → w_X4_growing_13 post n M x1 x2 x3 → W p l e rmX4_growing s m args below meth c H locs 0 0 (MQ below (va_Qi post (wB D (MW dT a) MI A) A) args s 0 0 A) (F0 m 13 ls []) := by
  intro M x1 x2 x3 n
  induction n generalizing M x1 x2 x3 with
  | zero => intro H locs ls  hS hl hw; exact hw.elim
  | succ n ih =>
    intro H locs ls  hS hl hw
    exact k_X4_growing_13b hC hA (fun M x1 x2 x3 hk {H} {locs} {ls}  hS hl => ih M x1 x2 x3  hS hl hk) M x1 x2 x3  hS hl hw
set_option maxHeartbeats 4000000 in
set_option maxRecDepth 100000 in
theorem k_X4_growing_0 {p : Program} {l : Launch} {e : Env} {s : State} {m : MethodId} {args : Array Value} {below : List Frame} {meth : Method} {c : Code} {D : va_G} {dT : Nat → ClassId} {a : Nat → Nat} {A : Nat → Prop}  {post : Int32 → MS → Prop} (hC : wCx RX4 cX4_growing 5 (some .int) D dT p s m args meth c) (hA : wAz A s) (M : MS) {H : Heap} {locs : List Loc} {ls : Array Slot} (hS : StM D dT a A s M H locs) (hl : lv_has ls 5 [(0, .ref (a 0))])  (hw : w_X4_growing post M) : W p l e rmX4_growing s m args below meth c H locs 0 0 (MQ below (va_Qi post (wB D (MW dT a) MI A) A) args s 0 0 A) (F0 m 0 ls []) := by
  have hx := hC.1
  have hb := hC.2.1
  have hown := hC.2.2.2.1
  have hts := hC.2.2.2.2.1
  unfold w_X4_growing at hw
  refine lv_aload_n hx hb dX4_growing_0 rfl (lv_at hl 0 rfl) ?_
  refine lv_aload_n hx hb dX4_growing_1 rfl (lv_at hl 0 rfl) ?_
  refine ld_q941 hC hS dX4_growing_2 ?_
  refine inv_q1094 hC hA hS hl.1 hw ⟨Nat.le_of_ble_eq_true rfl, Nat.le_of_ble_eq_true rfl⟩ (Nat.le_of_ble_eq_true rfl) ⟨Nat.zero_le _, Nat.zero_le _⟩ dX4_growing_5 (fun r1 M2 H locs hw hS => ?_)
  refine lv_istore_n (lv' := [(1, .int r1), (0, .ref (a 0))]) hx hb dX4_growing_8 rfl hl (by decide) rfl (fun ls hl => ?_)
  refine lv_iconst (v := (-1)) hx hb dX4_growing_9 (by decide) ?_
  refine lv_istore_n (lv' := [(2, .int (-1)), (1, .int r1), (0, .ref (a 0))]) hx hb dX4_growing_10 rfl hl (by decide) rfl (fun ls hl => ?_)
  refine lv_iconst (v := 0) hx hb dX4_growing_11 (by decide) ?_
  refine lv_istore_n (lv' := [(3, .int 0), (2, .int (-1)), (1, .int r1), (0, .ref (a 0))]) hx hb dX4_growing_12 rfl hl (by decide) rfl (fun ls hl => ?_)
  obtain ⟨n, hw⟩ := hw
  exact k_X4_growing_13 hC hA _ _ _ _ n hS (lv_sub hl [3, 2, 1, 0] rfl) hw
abbrev v_X4_growing (M : MS) (post : Int32 → MS → Prop) : Prop := w_X4_growing post M
set_option maxHeartbeats 4000000 in
set_option maxRecDepth 100000 in
theorem met_X4_growing (l : Launch) (D : va_G) (dT : Nat → ClassId) (a : Nat → Nat) (sz : Nat) (M : MS) (post : Int32 → MS → Prop) (hw : v_X4_growing M post) : Met l yX4_growing (ws_ yX4_growing cX4_growing 5 (some .int)) rmX4_growing (wPc D dT (MW dT a) MI sz M [.ref (a 0)]) (va_Qi post (wB D (MW dT a) MI (va_A ((MW dT a) M) sz)) (va_A ((MW dT a) M) sz)) 0 0 (va_A ((MW dT a) M) sz) :=
  wEnt (Q := fun A => (va_Qi post (wB D (MW dT a) MI A) A)) (by decide) (Nat.le_of_ble_eq_true rfl) (fun p e s m below meth c A ls hC _ hA hS hl => k_X4_growing_0 hC hA _ hS hl hw) sz
theorem hd_X4_growing : yX4_growing.cls ≠ "java/lang/invoke/MethodHandle" ∧ yX4_growing.cls ≠ "java/lang/invoke/VarHandle" ∧ (parseMethodDescriptor yX4_growing.desc).map (fun d => d.parameters.length) = some 0 := by decide +kernel
section
variable {p : Program} {l : Launch} {e : Env} {R : Room} {s : State} {m : MethodId} {args : Array Value} {below : List Frame} {meth : Method} {c : Code} {H : Heap} {locs : List Loc} {cells slots : Nat} {Q : State → Prop} {cc : ByteArray} {nL : Nat} {ret : Option FieldType} {pc : Nat} {ls : Array Slot} {rest : List Value}
set_option maxHeartbeats 4000000 in
set_option maxRecDepth 100000 in
theorem inv_q1211 {D : va_G} {dT : Nat → ClassId} {a : Nat → Nat} {A : Nat → Prop} {M : MS} {post : Int32 → MS → Prop} (hC : wCx RX4 cc nL ret D dT p s m args meth c) (hA : wAz A s) (hS : StM D dT a A s M H locs) (hl : ls.size = nL) (hw : v_X4_growing M post) (hR : rmX4_growing.frames + 1 ≤ R.frames ∧ 8 + (5 + 11) + rmX4_growing.locals ≤ R.locals) (hrest : (rest.map fun v => v.category).sum ≤ 8) (hf : cells ≤ R.cells ∧ slots ≤ R.slots) (hdg : decode cc pc = .ok (.invokevirtual 189, 3)) (kk : ∀ (r : Int32) (u : MS) (H1 : Heap) (locs1 : List Loc), post r u → StM D dT a A s u H1 locs1 → W p l e R s m args below meth c H1 locs1 cells slots Q (F0 m (pc + 3) ls (.int r :: rest))) : W p l e R s m args below meth c H locs cells slots Q (F0 m pc ls (.ref (a 0) :: rest)) := by
  exact wCallVi (As := []) (rest := rest) (mc := 0) (ms := 0) 0 hC (met_X4_growing l D dT a H.size M post hw) (lw_V q1211 q1213 qs72 q89 q1214) ⟨⟨rfl, rfl⟩, hd_X4_growing, hR, hf⟩ rfl rfl rfl hA hS hl rfl hrest hdg (fun r u H1 locs1 hp hS1 => kk r u H1 locs1 hp hS1)
end
/-! LeastFramesModel.grow -/
def w_X4_grow_22b (K22 : MS → Int32 → Int32 → Prop) (post : Int32 → MS → Prop) (M : MS) (x1 : Int32) (x2 : Int32) : Prop :=
  (x2 = ((-1) : Int32) → (post x1 M)) ∧ (¬ x2 = ((-1) : Int32) → (∀ M2 : MS, M2 = sM_bars M ((M_bars M) ||| (1 <<< (x2 &&& 31))) → (∀ v3 : Int32, v3 = x1 + 1 → (v_X4_growing M2 (fun r4 M5 => K22 M5 v3 r4)))))
def w_X4_grow_22 (post : Int32 → MS → Prop) : Nat → MS → Int32 → Int32 → Prop
  | 0, _, _, _ => False
  | n + 1, M, x1, x2 => w_X4_grow_22b  (w_X4_grow_22 post n) post M x1 x2
def w_X4_grow (post : Int32 → MS → Prop) (M : MS) : Prop :=
  v_X4_bestOf M (M_bars M) (fun r1 M2 => (r1 = ((-1) : Int32) → (post ((-3) : Int32) M2)) ∧ (¬ r1 = ((-1) : Int32) → (v_X4_growing M2 (fun r4 M5 => ∃ n, w_X4_grow_22 post n M5 0 r4))))
abbrev rmX4_grow : Room := { frames := 9, cells := 0, slots := 0, locals := 205 }
set_option maxHeartbeats 4000000 in
set_option maxRecDepth 100000 in
theorem k_X4_grow_22b {p : Program} {l : Launch} {e : Env} {s : State} {m : MethodId} {args : Array Value} {below : List Frame} {meth : Method} {c : Code} {D : va_G} {dT : Nat → ClassId} {a : Nat → Nat} {A : Nat → Prop}  {K22 : MS → Int32 → Int32 → Prop} {post : Int32 → MS → Prop} (hC : wCx RX4 cX4_grow 3 (some .int) D dT p s m args meth c) (hA : wAz A s) (hK22 : ∀ (M : MS) (x1 : Int32) (x2 : Int32), K22 M x1 x2 → ∀ {H : Heap} {locs : List Loc} {ls : Array Slot}, StM D dT a A s M H locs → lv_has ls 3 [(0, .ref (a 0)), (1, .int x1), (2, .int x2)] → W p l e rmX4_grow s m args below meth c H locs 0 0 (MQ below (va_Qi post (wB D (MW dT a) MI A) A) args s 0 0 A) (F0 m 22 ls [])) (M : MS) (x1 : Int32) (x2 : Int32) {H : Heap} {locs : List Loc} {ls : Array Slot} (hS : StM D dT a A s M H locs) (hl : lv_has ls 3 [(0, .ref (a 0)), (1, .int x1), (2, .int x2)])  (hw : w_X4_grow_22b K22 post M x1 x2) : W p l e rmX4_grow s m args below meth c H locs 0 0 (MQ below (va_Qi post (wB D (MW dT a) MI A) A) args s 0 0 A) (F0 m 22 ls []) := by
  have hx := hC.1
  have hb := hC.2.1
  have hown := hC.2.2.2.1
  have hts := hC.2.2.2.2.1
  unfold w_X4_grow_22b at hw
  refine lv_iload_n hx hb dX4_grow_22 rfl (lv_at hl 2 rfl) ?_
  refine lv_iconst (v := (-1)) hx hb dX4_grow_23 (by decide) ?_
  refine lv_icmp_eq (tgt := 50) hx hb dX4_grow_24 (by decide) (fun c1 => ?_) (fun c1 => ?_)
  · have hw := hw.1 c1
    refine lv_iload_n hx hb dX4_grow_50 rfl (lv_at hl 1 rfl) ?_
    exact wReti hC hS hw (Nat.le_refl _) (Nat.le_refl _) dX4_grow_51
  · have hw := hw.2 c1
    refine lv_aload_n hx hb dX4_grow_27 rfl (lv_at hl 0 rfl) ?_
    refine lv_dup hx hb dX4_grow_28 rfl ?_
    refine ld_q941 hC hS dX4_grow_29 ?_
    refine lv_iconst (v := 1) hx hb dX4_grow_32 (by decide) ?_
    refine lv_iload_n hx hb dX4_grow_33 rfl (lv_at hl 2 rfl) ?_
    refine lv_ishl hx hb dX4_grow_34 ?_
    refine lv_ior hx hb dX4_grow_35 ?_
    refine st_q941 hC hS dX4_grow_36 (fun H locs hS => ?_)
    have hw := hw (sM_bars M ((M_bars M) ||| (1 <<< (x2 &&& 31)))) rfl
    generalize sM_bars M ((M_bars M) ||| (1 <<< (x2 &&& 31))) = M2 at hS hw
    obtain ⟨v3, ev3⟩ : ∃ y : Int32, y = x1 + 1 := ⟨_, rfl⟩
    have hw := hw v3 ev3
    refine lv_iinc (v := v3) (lv' := [(1, .int v3), (0, .ref (a 0)), (2, .int x2)]) hx hb dX4_grow_39 hl (k := 1) rfl (by rw [ev3]; rfl) (by decide) rfl (fun ls hl => ?_)
    refine lv_aload_n hx hb dX4_grow_42 rfl (lv_at hl 1 rfl) ?_
    refine inv_q1211 hC hA hS hl.1 hw ⟨Nat.le_of_ble_eq_true rfl, Nat.le_of_ble_eq_true rfl⟩ (Nat.le_of_ble_eq_true rfl) ⟨Nat.zero_le _, Nat.zero_le _⟩ dX4_grow_43 (fun r4 M5 H locs hw hS => ?_)
    refine lv_istore_n (lv' := [(2, .int r4), (1, .int v3), (0, .ref (a 0))]) hx hb dX4_grow_46 rfl hl (by decide) rfl (fun ls hl => ?_)
    refine lv_goto (tgt := 22) hx hb dX4_grow_47 (by decide) ?_
    exact hK22 _ _ _ hw hS (lv_sub hl [2, 1, 0] rfl)
set_option maxHeartbeats 4000000 in
set_option maxRecDepth 100000 in
theorem k_X4_grow_22 {p : Program} {l : Launch} {e : Env} {s : State} {m : MethodId} {args : Array Value} {below : List Frame} {meth : Method} {c : Code} {D : va_G} {dT : Nat → ClassId} {a : Nat → Nat} {A : Nat → Prop}  {post : Int32 → MS → Prop} (hC : wCx RX4 cX4_grow 3 (some .int) D dT p s m args meth c) (hA : wAz A s) : ∀ (M : MS) (x1 : Int32) (x2 : Int32) (n : Nat), ∀ {H : Heap} {locs : List Loc} {ls : Array Slot}, StM D dT a A s M H locs → lv_has ls 3 [(0, .ref (a 0)), (1, .int x1), (2, .int x2)] → w_X4_grow_22 post n M x1 x2 → W p l e rmX4_grow s m args below meth c H locs 0 0 (MQ below (va_Qi post (wB D (MW dT a) MI A) A) args s 0 0 A) (F0 m 22 ls []) := by
  intro M x1 x2 n
  induction n generalizing M x1 x2 with
  | zero => intro H locs ls  hS hl hw; exact hw.elim
  | succ n ih =>
    intro H locs ls  hS hl hw
    exact k_X4_grow_22b hC hA (fun M x1 x2 hk {H} {locs} {ls}  hS hl => ih M x1 x2  hS hl hk) M x1 x2  hS hl hw
set_option maxHeartbeats 4000000 in
set_option maxRecDepth 100000 in
theorem k_X4_grow_0 {p : Program} {l : Launch} {e : Env} {s : State} {m : MethodId} {args : Array Value} {below : List Frame} {meth : Method} {c : Code} {D : va_G} {dT : Nat → ClassId} {a : Nat → Nat} {A : Nat → Prop}  {post : Int32 → MS → Prop} (hC : wCx RX4 cX4_grow 3 (some .int) D dT p s m args meth c) (hA : wAz A s) (M : MS) {H : Heap} {locs : List Loc} {ls : Array Slot} (hS : StM D dT a A s M H locs) (hl : lv_has ls 3 [(0, .ref (a 0))])  (hw : w_X4_grow post M) : W p l e rmX4_grow s m args below meth c H locs 0 0 (MQ below (va_Qi post (wB D (MW dT a) MI A) A) args s 0 0 A) (F0 m 0 ls []) := by
  have hx := hC.1
  have hb := hC.2.1
  have hown := hC.2.2.2.1
  have hts := hC.2.2.2.2.1
  unfold w_X4_grow at hw
  refine lv_aload_n hx hb dX4_grow_0 rfl (lv_at hl 0 rfl) ?_
  refine lv_aload_n hx hb dX4_grow_1 rfl (lv_at hl 0 rfl) ?_
  refine ld_q941 hC hS dX4_grow_2 ?_
  refine inv_q1094 hC hA hS hl.1 hw ⟨Nat.le_of_ble_eq_true rfl, Nat.le_of_ble_eq_true rfl⟩ (Nat.le_of_ble_eq_true rfl) ⟨Nat.zero_le _, Nat.zero_le _⟩ dX4_grow_5 (fun r1 M2 H locs hw hS => ?_)
  refine lv_iconst (v := (-1)) hx hb dX4_grow_8 (by decide) ?_
  refine lv_icmp_ne (tgt := 15) hx hb dX4_grow_9 (by decide) (fun c3 => ?_) (fun c3 => ?_)
  · have hw := hw.2 c3
    refine lv_iconst (v := 0) hx hb dX4_grow_15 (by decide) ?_
    refine lv_istore_n (lv' := [(1, .int 0), (0, .ref (a 0))]) hx hb dX4_grow_16 rfl hl (by decide) rfl (fun ls hl => ?_)
    refine lv_aload_n hx hb dX4_grow_17 rfl (lv_at hl 1 rfl) ?_
    refine inv_q1211 hC hA hS hl.1 hw ⟨Nat.le_of_ble_eq_true rfl, Nat.le_of_ble_eq_true rfl⟩ (Nat.le_of_ble_eq_true rfl) ⟨Nat.zero_le _, Nat.zero_le _⟩ dX4_grow_18 (fun r4 M5 H locs hw hS => ?_)
    refine lv_istore_n (lv' := [(2, .int r4), (1, .int 0), (0, .ref (a 0))]) hx hb dX4_grow_21 rfl hl (by decide) rfl (fun ls hl => ?_)
    obtain ⟨n, hw⟩ := hw
    exact k_X4_grow_22 hC hA _ _ _ n hS (lv_sub hl [2, 1, 0] rfl) hw
  · have hw := hw.1 c3
    refine lv_bipush (v := (-3)) hx hb dX4_grow_12 (by decide) ?_
    exact wReti hC hS hw (Nat.le_refl _) (Nat.le_refl _) dX4_grow_14
abbrev v_X4_grow (M : MS) (post : Int32 → MS → Prop) : Prop := w_X4_grow post M
set_option maxHeartbeats 4000000 in
set_option maxRecDepth 100000 in
theorem met_X4_grow (l : Launch) (D : va_G) (dT : Nat → ClassId) (a : Nat → Nat) (sz : Nat) (M : MS) (post : Int32 → MS → Prop) (hw : v_X4_grow M post) : Met l yX4_grow (ws_ yX4_grow cX4_grow 3 (some .int)) rmX4_grow (wPc D dT (MW dT a) MI sz M [.ref (a 0)]) (va_Qi post (wB D (MW dT a) MI (va_A ((MW dT a) M) sz)) (va_A ((MW dT a) M) sz)) 0 0 (va_A ((MW dT a) M) sz) :=
  wEnt (Q := fun A => (va_Qi post (wB D (MW dT a) MI A) A)) (by decide) (Nat.le_of_ble_eq_true rfl) (fun p e s m below meth c A ls hC _ hA hS hl => k_X4_grow_0 hC hA _ hS hl hw) sz
theorem hd_X4_grow : yX4_grow.cls ≠ "java/lang/invoke/MethodHandle" ∧ yX4_grow.cls ≠ "java/lang/invoke/VarHandle" ∧ (parseMethodDescriptor yX4_grow.desc).map (fun d => d.parameters.length) = some 0 := by decide +kernel
/-! LeastFramesModel.prune -/
def w_X4_prune (post : Int32 → MS → Prop) (M : MS) : Prop :=
  v_X4_bestOf M (M_bars M) (fun r1 M2 => (r1 = ((-1) : Int32) → (post ((-3) : Int32) M2)) ∧ (¬ r1 = ((-1) : Int32) → (v_X4_size (M_bars M2) (fun r4 => ∀ M5 : MS, M5 = sM_bars M2 r1 → (v_X4_size r1 (fun r6 => post (r4 - r6) M5))))))
abbrev rmX4_prune : Room := { frames := 8, cells := 0, slots := 0, locals := 181 }
set_option maxHeartbeats 4000000 in
set_option maxRecDepth 100000 in
theorem k_X4_prune_0 {p : Program} {l : Launch} {e : Env} {s : State} {m : MethodId} {args : Array Value} {below : List Frame} {meth : Method} {c : Code} {D : va_G} {dT : Nat → ClassId} {a : Nat → Nat} {A : Nat → Prop}  {post : Int32 → MS → Prop} (hC : wCx RX4 cX4_prune 3 (some .int) D dT p s m args meth c) (hA : wAz A s) (M : MS) {H : Heap} {locs : List Loc} {ls : Array Slot} (hS : StM D dT a A s M H locs) (hl : lv_has ls 3 [(0, .ref (a 0))])  (hw : w_X4_prune post M) : W p l e rmX4_prune s m args below meth c H locs 0 0 (MQ below (va_Qi post (wB D (MW dT a) MI A) A) args s 0 0 A) (F0 m 0 ls []) := by
  have hx := hC.1
  have hb := hC.2.1
  have hown := hC.2.2.2.1
  have hts := hC.2.2.2.2.1
  unfold w_X4_prune at hw
  refine lv_aload_n hx hb dX4_prune_0 rfl (lv_at hl 0 rfl) ?_
  refine lv_aload_n hx hb dX4_prune_1 rfl (lv_at hl 0 rfl) ?_
  refine ld_q941 hC hS dX4_prune_2 ?_
  refine inv_q1094 hC hA hS hl.1 hw ⟨Nat.le_of_ble_eq_true rfl, Nat.le_of_ble_eq_true rfl⟩ (Nat.le_of_ble_eq_true rfl) ⟨Nat.zero_le _, Nat.zero_le _⟩ dX4_prune_5 (fun r1 M2 H locs hw hS => ?_)
  refine lv_istore_n (lv' := [(1, .int r1), (0, .ref (a 0))]) hx hb dX4_prune_8 rfl hl (by decide) rfl (fun ls hl => ?_)
  refine lv_iload_n hx hb dX4_prune_9 rfl (lv_at hl 0 rfl) ?_
  refine lv_iconst (v := (-1)) hx hb dX4_prune_10 (by decide) ?_
  refine lv_icmp_ne (tgt := 17) hx hb dX4_prune_11 (by decide) (fun c3 => ?_) (fun c3 => ?_)
  · have hw := hw.2 c3
    refine lv_aload_n hx hb dX4_prune_17 rfl (lv_at hl 1 rfl) ?_
    refine ld_q941 hC hS dX4_prune_18 ?_
    refine inv_q1129 hC hS hl.1 hw ⟨Nat.le_of_ble_eq_true rfl, Nat.le_of_ble_eq_true rfl⟩ (Nat.le_of_ble_eq_true rfl) ⟨Nat.zero_le _, Nat.zero_le _⟩ dX4_prune_21 (fun r4 H locs hw hS => ?_)
    refine lv_istore_n (lv' := [(2, .int r4), (1, .int r1), (0, .ref (a 0))]) hx hb dX4_prune_24 rfl hl (by decide) rfl (fun ls hl => ?_)
    refine lv_aload_n hx hb dX4_prune_25 rfl (lv_at hl 2 rfl) ?_
    refine lv_iload_n hx hb dX4_prune_26 rfl (lv_at hl 1 rfl) ?_
    refine st_q941 hC hS dX4_prune_27 (fun H locs hS => ?_)
    have hw := hw (sM_bars M2 r1) rfl
    generalize sM_bars M2 r1 = M5 at hS hw
    refine lv_iload_n hx hb dX4_prune_30 rfl (lv_at hl 0 rfl) ?_
    refine lv_iload_n hx hb dX4_prune_31 rfl (lv_at hl 1 rfl) ?_
    refine inv_q1129 hC hS hl.1 hw ⟨Nat.le_of_ble_eq_true rfl, Nat.le_of_ble_eq_true rfl⟩ (Nat.le_of_ble_eq_true rfl) ⟨Nat.zero_le _, Nat.zero_le _⟩ dX4_prune_32 (fun r6 H locs hw hS => ?_)
    refine lv_isub hx hb dX4_prune_35 ?_
    exact wReti hC hS hw (Nat.le_refl _) (Nat.le_refl _) dX4_prune_36
  · have hw := hw.1 c3
    refine lv_bipush (v := (-3)) hx hb dX4_prune_14 (by decide) ?_
    exact wReti hC hS hw (Nat.le_refl _) (Nat.le_refl _) dX4_prune_16
abbrev v_X4_prune (M : MS) (post : Int32 → MS → Prop) : Prop := w_X4_prune post M
set_option maxHeartbeats 4000000 in
set_option maxRecDepth 100000 in
theorem met_X4_prune (l : Launch) (D : va_G) (dT : Nat → ClassId) (a : Nat → Nat) (sz : Nat) (M : MS) (post : Int32 → MS → Prop) (hw : v_X4_prune M post) : Met l yX4_prune (ws_ yX4_prune cX4_prune 3 (some .int)) rmX4_prune (wPc D dT (MW dT a) MI sz M [.ref (a 0)]) (va_Qi post (wB D (MW dT a) MI (va_A ((MW dT a) M) sz)) (va_A ((MW dT a) M) sz)) 0 0 (va_A ((MW dT a) M) sz) :=
  wEnt (Q := fun A => (va_Qi post (wB D (MW dT a) MI A) A)) (by decide) (Nat.le_of_ble_eq_true rfl) (fun p e s m below meth c A ls hC _ hA hS hl => k_X4_prune_0 hC hA _ hS hl hw) sz
theorem hd_X4_prune : yX4_prune.cls ≠ "java/lang/invoke/MethodHandle" ∧ yX4_prune.cls ≠ "java/lang/invoke/VarHandle" ∧ (parseMethodDescriptor yX4_prune.desc).map (fun d => d.parameters.length) = some 0 := by decide +kernel
/-! LeastFramesModel.wouldBe -/
def w_X4_wouldBe (p1 : Int32) (p2 : Int32) (p3 : Int32) (post : Int64 → MS → Prop) (M : MS) : Prop :=
  vp_in p1 10 ∧ (∀ v1 : Int32, v1 = M_loads M p1.toNatClampNeg → (vp_in p1 10 ∧ (∀ M2 : MS, M2 = sM_loads M (upd (M_loads M) p1.toNatClampNeg p2) → (∀ M3 : MS, M3 = sM_isKnown M2 0 → (v_X4_volumeOf M3 (M_bars M3) p3 (fun r4 M5 => vp_in p1 10 ∧ (∀ M6 : MS, M6 = sM_loads M5 (upd (M_loads M5) p1.toNatClampNeg v1) → (∀ M7 : MS, M7 = sM_isKnown M6 0 → (post r4 M7)))))))))
abbrev rmX4_wouldBe : Room := { frames := 9, cells := 0, slots := 0, locals := 204 }
set_option maxHeartbeats 4000000 in
set_option maxRecDepth 100000 in
theorem k_X4_wouldBe_0 {p : Program} {l : Launch} {e : Env} {s : State} {m : MethodId} {args : Array Value} {below : List Frame} {meth : Method} {c : Code} {D : va_G} {dT : Nat → ClassId} {a : Nat → Nat} {A : Nat → Prop}  {p1 : Int32} {p2 : Int32} {p3 : Int32} {post : Int64 → MS → Prop} (hC : wCx RX4 cX4_wouldBe 7 (some .long) D dT p s m args meth c) (hA : wAz A s) (M : MS) {H : Heap} {locs : List Loc} {ls : Array Slot} (hS : StM D dT a A s M H locs) (hl : lv_has ls 7 [(0, .ref (a 0)), (1, .int p1), (2, .int p2), (3, .int p3)])  (hw : w_X4_wouldBe p1 p2 p3 post M) : W p l e rmX4_wouldBe s m args below meth c H locs 0 0 (MQ below (va_Ql post (wB D (MW dT a) MI A) A) args s 0 0 A) (F0 m 0 ls []) := by
  have hx := hC.1
  have hb := hC.2.1
  have hown := hC.2.2.2.1
  have hts := hC.2.2.2.2.1
  unfold w_X4_wouldBe at hw
  refine lv_aload_n hx hb dX4_wouldBe_0 rfl (lv_at hl 0 rfl) ?_
  refine ld_q938 hC hS dX4_wouldBe_1 ?_
  refine lv_iload_n hx hb dX4_wouldBe_4 rfl (lv_at hl 1 rfl) ?_
  refine al_loads hC hS hw.1 dX4_wouldBe_5 ?_
  have hw := hw.2
  refine lv_topi (fun v1 ev1 => ?_)
  have hw := hw v1 ev1
  refine lv_istore (lv' := [(4, .int v1), (0, .ref (a 0)), (1, .int p1), (2, .int p2), (3, .int p3)]) hx hb dX4_wouldBe_6 hl (by decide) rfl (fun ls hl => ?_)
  refine lv_aload_n hx hb dX4_wouldBe_8 rfl (lv_at hl 1 rfl) ?_
  refine ld_q938 hC hS dX4_wouldBe_9 ?_
  refine lv_iload_n hx hb dX4_wouldBe_12 rfl (lv_at hl 2 rfl) ?_
  refine lv_iload_n hx hb dX4_wouldBe_13 rfl (lv_at hl 3 rfl) ?_
  have hi := hw.1
  have hw := hw.2
  refine as_loads hC hS hi dX4_wouldBe_14 (fun H locs hS => ?_)
  have hw := hw (sM_loads M (upd (M_loads M) p1.toNatClampNeg p2)) rfl
  generalize sM_loads M (upd (M_loads M) p1.toNatClampNeg p2) = M2 at hS hw
  refine lv_aload_n hx hb dX4_wouldBe_15 rfl (lv_at hl 1 rfl) ?_
  refine lv_iconst (v := 0) hx hb dX4_wouldBe_16 (by decide) ?_
  refine st_q948 hC hS (by decide) dX4_wouldBe_17 (fun H locs hS => ?_)
  have hw := hw (sM_isKnown M2 0) rfl
  generalize sM_isKnown M2 0 = M3 at hS hw
  refine lv_aload_n hx hb dX4_wouldBe_20 rfl (lv_at hl 1 rfl) ?_
  refine lv_aload_n hx hb dX4_wouldBe_21 rfl (lv_at hl 1 rfl) ?_
  refine ld_q941 hC hS dX4_wouldBe_22 ?_
  refine lv_iload_n hx hb dX4_wouldBe_25 rfl (lv_at hl 4 rfl) ?_
  refine inv_q1090 hC hA hS hl.1 hw ⟨Nat.le_of_ble_eq_true rfl, Nat.le_of_ble_eq_true rfl⟩ (Nat.le_of_ble_eq_true rfl) ⟨Nat.zero_le _, Nat.zero_le _⟩ dX4_wouldBe_26 (fun r4 M5 H locs hw hS => ?_)
  refine lv_lstore (lv' := [(5, .long r4), (4, .int v1), (0, .ref (a 0)), (1, .int p1), (2, .int p2), (3, .int p3)]) hx hb dX4_wouldBe_29 hl (by decide) rfl (fun ls hl => ?_)
  refine lv_aload_n hx hb dX4_wouldBe_31 rfl (lv_at hl 2 rfl) ?_
  refine ld_q938 hC hS dX4_wouldBe_32 ?_
  refine lv_iload_n hx hb dX4_wouldBe_35 rfl (lv_at hl 3 rfl) ?_
  refine lv_iload hx hb dX4_wouldBe_36 (lv_at hl 1 rfl) ?_
  have hi := hw.1
  have hw := hw.2
  refine as_loads hC hS hi dX4_wouldBe_38 (fun H locs hS => ?_)
  have hw := hw (sM_loads M5 (upd (M_loads M5) p1.toNatClampNeg v1)) rfl
  generalize sM_loads M5 (upd (M_loads M5) p1.toNatClampNeg v1) = M6 at hS hw
  refine lv_aload_n hx hb dX4_wouldBe_39 rfl (lv_at hl 2 rfl) ?_
  refine lv_iconst (v := 0) hx hb dX4_wouldBe_40 (by decide) ?_
  refine st_q948 hC hS (by decide) dX4_wouldBe_41 (fun H locs hS => ?_)
  have hw := hw (sM_isKnown M6 0) rfl
  generalize sM_isKnown M6 0 = M7 at hS hw
  refine lv_lload hx hb dX4_wouldBe_44 (lv_at hl 0 rfl) ?_
  exact wRetl hC hS hw (Nat.le_refl _) (Nat.le_refl _) dX4_wouldBe_46
abbrev v_X4_wouldBe (M : MS) (p1 : Int32) (p2 : Int32) (p3 : Int32) (post : Int64 → MS → Prop) : Prop := w_X4_wouldBe p1 p2 p3 post M
set_option maxHeartbeats 4000000 in
set_option maxRecDepth 100000 in
theorem met_X4_wouldBe (l : Launch) (D : va_G) (dT : Nat → ClassId) (a : Nat → Nat) (sz : Nat) (M : MS) (p1 : Int32) (p2 : Int32) (p3 : Int32) (post : Int64 → MS → Prop) (hw : v_X4_wouldBe M p1 p2 p3 post) : Met l yX4_wouldBe (ws_ yX4_wouldBe cX4_wouldBe 7 (some .long)) rmX4_wouldBe (wPc D dT (MW dT a) MI sz M [.ref (a 0), .int p1, .int p2, .int p3]) (va_Ql post (wB D (MW dT a) MI (va_A ((MW dT a) M) sz)) (va_A ((MW dT a) M) sz)) 0 0 (va_A ((MW dT a) M) sz) :=
  wEnt (Q := fun A => (va_Ql post (wB D (MW dT a) MI A) A)) (by decide) (Nat.le_of_ble_eq_true rfl) (fun p e s m below meth c A ls hC _ hA hS hl => k_X4_wouldBe_0 hC hA _ hS hl hw) sz
theorem hd_X4_wouldBe : yX4_wouldBe.cls ≠ "java/lang/invoke/MethodHandle" ∧ yX4_wouldBe.cls ≠ "java/lang/invoke/VarHandle" ∧ (parseMethodDescriptor yX4_wouldBe.desc).map (fun d => d.parameters.length) = some 3 := by decide +kernel
section
variable {p : Program} {l : Launch} {e : Env} {R : Room} {s : State} {m : MethodId} {args : Array Value} {below : List Frame} {meth : Method} {c : Code} {H : Heap} {locs : List Loc} {cells slots : Nat} {Q : State → Prop} {cc : ByteArray} {nL : Nat} {ret : Option FieldType} {pc : Nat} {ls : Array Slot} {rest : List Value}
set_option maxHeartbeats 4000000 in
set_option maxRecDepth 100000 in
theorem inv_q1223 {D : va_G} {dT : Nat → ClassId} {a : Nat → Nat} {A : Nat → Prop} {M : MS} {p1 : Int32} {p2 : Int32} {p3 : Int32} {post : Int64 → MS → Prop} (hC : wCx RX4 cc nL ret D dT p s m args meth c) (hA : wAz A s) (hS : StM D dT a A s M H locs) (hl : ls.size = nL) (hw : v_X4_wouldBe M p1 p2 p3 post) (hR : rmX4_wouldBe.frames + 1 ≤ R.frames ∧ 8 + (7 + 11) + rmX4_wouldBe.locals ≤ R.locals) (hrest : (rest.map fun v => v.category).sum ≤ 8) (hf : cells ≤ R.cells ∧ slots ≤ R.slots) (hdg : decode cc pc = .ok (.invokevirtual 192, 3)) (kk : ∀ (r : Int64) (u : MS) (H1 : Heap) (locs1 : List Loc), post r u → StM D dT a A s u H1 locs1 → W p l e R s m args below meth c H1 locs1 cells slots Q (F0 m (pc + 3) ls (.long r :: rest))) : W p l e R s m args below meth c H locs cells slots Q (F0 m pc ls (.int p3 :: .int p2 :: .int p1 :: .ref (a 0) :: rest)) := by
  exact wCallVl (As := [.int p1, .int p2, .int p3]) (rest := rest) (mc := 0) (ms := 0) 0 hC (met_X4_wouldBe l D dT a H.size M p1 p2 p3 post hw) (lw_V q1223 q1225 qs73 q89 q1226) ⟨⟨rfl, rfl⟩, hd_X4_wouldBe, hR, hf⟩ rfl rfl rfl hA hS hl rfl hrest hdg (fun r u H1 locs1 hp hS1 => kk r u H1 locs1 hp hS1)
end
/-! LeastFramesModel.would -/
def w_X4_would (p1 : Int32) (p2 : Int32) (p3 : Int32) (p4 : Int32) (post : Int64 → MS → Prop) (M : MS) : Prop :=
  v_X4_isPoint M p1 (fun r1 => (r1 = (0 : Int32) → (v_X4_no ((-2) : Int32) (fun r3 => post r3 M))) ∧ (¬ r1 = (0 : Int32) → (v_X4_in p2 (0 : Int32) (1 : Int32) (fun r4 => (r4 = (0 : Int32) → (v_X4_no ((-2) : Int32) (fun r6 => post r6 M))) ∧ (¬ r4 = (0 : Int32) → (v_X4_in p3 ((-9) : Int32) (9 : Int32) (fun r7 => (r7 = (0 : Int32) → (v_X4_no ((-2) : Int32) (fun r9 => post r9 M))) ∧ (¬ r7 = (0 : Int32) → (v_X4_in p4 (0 : Int32) (1 : Int32) (fun r10 => (r10 = (0 : Int32) → (v_X4_no ((-2) : Int32) (fun r12 => post r12 M))) ∧ (¬ r10 = (0 : Int32) → (v_X4_wouldBe M ((2 * p1) + p2) p3 p4 (fun r13 M14 => post r13 M14)))))))))))))
abbrev rmX4_would : Room := { frames := 10, cells := 0, slots := 0, locals := 230 }
set_option maxHeartbeats 4000000 in
set_option maxRecDepth 100000 in
theorem k_X4_would_0 {p : Program} {l : Launch} {e : Env} {s : State} {m : MethodId} {args : Array Value} {below : List Frame} {meth : Method} {c : Code} {D : va_G} {dT : Nat → ClassId} {a : Nat → Nat} {A : Nat → Prop}  {p1 : Int32} {p2 : Int32} {p3 : Int32} {p4 : Int32} {post : Int64 → MS → Prop} (hC : wCx RX4 cX4_would 5 (some .long) D dT p s m args meth c) (hA : wAz A s) (M : MS) {H : Heap} {locs : List Loc} {ls : Array Slot} (hS : StM D dT a A s M H locs) (hl : lv_has ls 5 [(0, .ref (a 0)), (1, .int p1), (2, .int p2), (3, .int p3), (4, .int p4)])  (hw : w_X4_would p1 p2 p3 p4 post M) : W p l e rmX4_would s m args below meth c H locs 0 0 (MQ below (va_Ql post (wB D (MW dT a) MI A) A) args s 0 0 A) (F0 m 0 ls []) := by
  have hx := hC.1
  have hb := hC.2.1
  have hown := hC.2.2.2.1
  have hts := hC.2.2.2.2.1
  unfold w_X4_would at hw
  refine lv_aload_n hx hb dX4_would_0 rfl (lv_at hl 0 rfl) ?_
  refine lv_iload_n hx hb dX4_would_1 rfl (lv_at hl 1 rfl) ?_
  refine inv_q1022 hC hA hS hl.1 hw ⟨Nat.le_of_ble_eq_true rfl, Nat.le_of_ble_eq_true rfl⟩ (Nat.le_of_ble_eq_true rfl) ⟨Nat.zero_le _, Nat.zero_le _⟩ dX4_would_2 (fun r1 H locs hw hS => ?_)
  refine lv_if_eq (tgt := 53) hx hb dX4_would_5 (by decide) (fun c2 => ?_) (fun c2 => ?_)
  · have hw := hw.1 c2
    refine lv_bipush (v := (-2)) hx hb dX4_would_53 (by decide) ?_
    refine inv_q1143 hC hS hl.1 hw ⟨Nat.le_of_ble_eq_true rfl, Nat.le_of_ble_eq_true rfl⟩ (Nat.le_of_ble_eq_true rfl) ⟨Nat.zero_le _, Nat.zero_le _⟩ dX4_would_55 (fun r3 H locs hw hS => ?_)
    exact wRetl hC hS hw (Nat.le_refl _) (Nat.le_refl _) dX4_would_58
  · have hw := hw.2 c2
    refine lv_iload_n hx hb dX4_would_8 rfl (lv_at hl 2 rfl) ?_
    refine lv_iconst (v := 0) hx hb dX4_would_9 (by decide) ?_
    refine lv_iconst (v := 1) hx hb dX4_would_10 (by decide) ?_
    refine inv_q1007 hC hS hl.1 hw ⟨Nat.le_of_ble_eq_true rfl, Nat.le_of_ble_eq_true rfl⟩ (Nat.le_of_ble_eq_true rfl) ⟨Nat.zero_le _, Nat.zero_le _⟩ dX4_would_11 (fun r4 H locs hw hS => ?_)
    refine lv_if_eq (tgt := 53) hx hb dX4_would_14 (by decide) (fun c5 => ?_) (fun c5 => ?_)
    · have hw := hw.1 c5
      refine lv_bipush (v := (-2)) hx hb dX4_would_53 (by decide) ?_
      refine inv_q1143 hC hS hl.1 hw ⟨Nat.le_of_ble_eq_true rfl, Nat.le_of_ble_eq_true rfl⟩ (Nat.le_of_ble_eq_true rfl) ⟨Nat.zero_le _, Nat.zero_le _⟩ dX4_would_55 (fun r6 H locs hw hS => ?_)
      exact wRetl hC hS hw (Nat.le_refl _) (Nat.le_refl _) dX4_would_58
    · have hw := hw.2 c5
      refine lv_iload_n hx hb dX4_would_17 rfl (lv_at hl 3 rfl) ?_
      refine lv_bipush (v := (-9)) hx hb dX4_would_18 (by decide) ?_
      refine lv_bipush (v := 9) hx hb dX4_would_20 (by decide) ?_
      refine inv_q1007 hC hS hl.1 hw ⟨Nat.le_of_ble_eq_true rfl, Nat.le_of_ble_eq_true rfl⟩ (Nat.le_of_ble_eq_true rfl) ⟨Nat.zero_le _, Nat.zero_le _⟩ dX4_would_22 (fun r7 H locs hw hS => ?_)
      refine lv_if_eq (tgt := 53) hx hb dX4_would_25 (by decide) (fun c8 => ?_) (fun c8 => ?_)
      · have hw := hw.1 c8
        refine lv_bipush (v := (-2)) hx hb dX4_would_53 (by decide) ?_
        refine inv_q1143 hC hS hl.1 hw ⟨Nat.le_of_ble_eq_true rfl, Nat.le_of_ble_eq_true rfl⟩ (Nat.le_of_ble_eq_true rfl) ⟨Nat.zero_le _, Nat.zero_le _⟩ dX4_would_55 (fun r9 H locs hw hS => ?_)
        exact wRetl hC hS hw (Nat.le_refl _) (Nat.le_refl _) dX4_would_58
      · have hw := hw.2 c8
        refine lv_iload hx hb dX4_would_28 (lv_at hl 4 rfl) ?_
        refine lv_iconst (v := 0) hx hb dX4_would_30 (by decide) ?_
        refine lv_iconst (v := 1) hx hb dX4_would_31 (by decide) ?_
        refine inv_q1007 hC hS hl.1 hw ⟨Nat.le_of_ble_eq_true rfl, Nat.le_of_ble_eq_true rfl⟩ (Nat.le_of_ble_eq_true rfl) ⟨Nat.zero_le _, Nat.zero_le _⟩ dX4_would_32 (fun r10 H locs hw hS => ?_)
        refine lv_if_eq (tgt := 53) hx hb dX4_would_35 (by decide) (fun c11 => ?_) (fun c11 => ?_)
        · have hw := hw.1 c11
          refine lv_bipush (v := (-2)) hx hb dX4_would_53 (by decide) ?_
          refine inv_q1143 hC hS hl.1 hw ⟨Nat.le_of_ble_eq_true rfl, Nat.le_of_ble_eq_true rfl⟩ (Nat.le_of_ble_eq_true rfl) ⟨Nat.zero_le _, Nat.zero_le _⟩ dX4_would_55 (fun r12 H locs hw hS => ?_)
          exact wRetl hC hS hw (Nat.le_refl _) (Nat.le_refl _) dX4_would_58
        · have hw := hw.2 c11
          refine lv_aload_n hx hb dX4_would_38 rfl (lv_at hl 0 rfl) ?_
          refine lv_iconst (v := 2) hx hb dX4_would_39 (by decide) ?_
          refine lv_iload_n hx hb dX4_would_40 rfl (lv_at hl 1 rfl) ?_
          refine lv_imul hx hb dX4_would_41 ?_
          refine lv_iload_n hx hb dX4_would_42 rfl (lv_at hl 2 rfl) ?_
          refine lv_iadd hx hb dX4_would_43 ?_
          refine lv_iload_n hx hb dX4_would_44 rfl (lv_at hl 3 rfl) ?_
          refine lv_iload hx hb dX4_would_45 (lv_at hl 4 rfl) ?_
          refine inv_q1223 hC hA hS hl.1 hw ⟨Nat.le_of_ble_eq_true rfl, Nat.le_of_ble_eq_true rfl⟩ (Nat.le_of_ble_eq_true rfl) ⟨Nat.zero_le _, Nat.zero_le _⟩ dX4_would_47 (fun r13 M14 H locs hw hS => ?_)
          refine lv_goto (tgt := 58) hx hb dX4_would_50 (by decide) ?_
          exact wRetl hC hS hw (Nat.le_refl _) (Nat.le_refl _) dX4_would_58
abbrev v_X4_would (M : MS) (p1 : Int32) (p2 : Int32) (p3 : Int32) (p4 : Int32) (post : Int64 → MS → Prop) : Prop := w_X4_would p1 p2 p3 p4 post M
set_option maxHeartbeats 4000000 in
set_option maxRecDepth 100000 in
theorem met_X4_would (l : Launch) (D : va_G) (dT : Nat → ClassId) (a : Nat → Nat) (sz : Nat) (M : MS) (p1 : Int32) (p2 : Int32) (p3 : Int32) (p4 : Int32) (post : Int64 → MS → Prop) (hw : v_X4_would M p1 p2 p3 p4 post) : Met l yX4_would (ws_ yX4_would cX4_would 5 (some .long)) rmX4_would (wPc D dT (MW dT a) MI sz M [.ref (a 0), .int p1, .int p2, .int p3, .int p4]) (va_Ql post (wB D (MW dT a) MI (va_A ((MW dT a) M) sz)) (va_A ((MW dT a) M) sz)) 0 0 (va_A ((MW dT a) M) sz) :=
  wEnt (Q := fun A => (va_Ql post (wB D (MW dT a) MI A) A)) (by decide) (Nat.le_of_ble_eq_true rfl) (fun p e s m below meth c A ls hC _ hA hS hl => k_X4_would_0 hC hA _ hS hl hw) sz
theorem hd_X4_would : yX4_would.cls ≠ "java/lang/invoke/MethodHandle" ∧ yX4_would.cls ≠ "java/lang/invoke/VarHandle" ∧ (parseMethodDescriptor yX4_would.desc).map (fun d => d.parameters.length) = some 4 := by decide +kernel
/-! LeastFramesModel.shift -/
def w_X4_shift (p1 : Int32) (p2 : Int32) (p3 : Int32) (post : Int32 → MS → Prop) (M : MS) : Prop :=
  v_X4_isPoint M p1 (fun r1 => (r1 = (0 : Int32) → (post ((-2147483648) : Int32) M)) ∧ (¬ r1 = (0 : Int32) → (v_X4_in p2 (0 : Int32) (1 : Int32) (fun r3 => (r3 = (0 : Int32) → (post ((-2147483648) : Int32) M)) ∧ (¬ r3 = (0 : Int32) → (v_X4_in p3 ((-999) : Int32) (999 : Int32) (fun r5 => (r5 = (0 : Int32) → (post ((-2147483648) : Int32) M)) ∧ (¬ r5 = (0 : Int32) → (vp_in ((2 * p1) + p2) 10 ∧ (∀ v7 : Int32, v7 = M_shifts M ((2 * p1) + p2).toNatClampNeg → (vp_in ((2 * p1) + p2) 10 ∧ (∀ M8 : MS, M8 = sM_shifts M (upd (M_shifts M) ((2 * p1) + p2).toNatClampNeg p3) → (post v7 M8)))))))))))))
abbrev rmX4_shift : Room := { frames := 2, cells := 0, slots := 0, locals := 43 }
set_option maxHeartbeats 4000000 in
set_option maxRecDepth 100000 in
theorem k_X4_shift_0 {p : Program} {l : Launch} {e : Env} {s : State} {m : MethodId} {args : Array Value} {below : List Frame} {meth : Method} {c : Code} {D : va_G} {dT : Nat → ClassId} {a : Nat → Nat} {A : Nat → Prop}  {p1 : Int32} {p2 : Int32} {p3 : Int32} {post : Int32 → MS → Prop} (hC : wCx RX4 cX4_shift 5 (some .int) D dT p s m args meth c) (hA : wAz A s) (M : MS) {H : Heap} {locs : List Loc} {ls : Array Slot} (hS : StM D dT a A s M H locs) (hl : lv_has ls 5 [(0, .ref (a 0)), (1, .int p1), (2, .int p2), (3, .int p3)])  (hw : w_X4_shift p1 p2 p3 post M) : W p l e rmX4_shift s m args below meth c H locs 0 0 (MQ below (va_Qi post (wB D (MW dT a) MI A) A) args s 0 0 A) (F0 m 0 ls []) := by
  have hx := hC.1
  have hb := hC.2.1
  have hown := hC.2.2.2.1
  have hts := hC.2.2.2.2.1
  unfold w_X4_shift at hw
  refine lv_aload_n hx hb dX4_shift_0 rfl (lv_at hl 0 rfl) ?_
  refine lv_iload_n hx hb dX4_shift_1 rfl (lv_at hl 1 rfl) ?_
  refine inv_q1022 hC hA hS hl.1 hw ⟨Nat.le_of_ble_eq_true rfl, Nat.le_of_ble_eq_true rfl⟩ (Nat.le_of_ble_eq_true rfl) ⟨Nat.zero_le _, Nat.zero_le _⟩ dX4_shift_2 (fun r1 H locs hw hS => ?_)
  refine lv_if_eq (tgt := 30) hx hb dX4_shift_5 (by decide) (fun c2 => ?_) (fun c2 => ?_)
  · have hw := hw.1 c2
    refine lv_ldc (v := (-2147483648)) hx hb hown (hts _ q1030) dX4_shift_30 ?_
    exact wReti hC hS hw (Nat.le_refl _) (Nat.le_refl _) dX4_shift_32
  · have hw := hw.2 c2
    refine lv_iload_n hx hb dX4_shift_8 rfl (lv_at hl 2 rfl) ?_
    refine lv_iconst (v := 0) hx hb dX4_shift_9 (by decide) ?_
    refine lv_iconst (v := 1) hx hb dX4_shift_10 (by decide) ?_
    refine inv_q1007 hC hS hl.1 hw ⟨Nat.le_of_ble_eq_true rfl, Nat.le_of_ble_eq_true rfl⟩ (Nat.le_of_ble_eq_true rfl) ⟨Nat.zero_le _, Nat.zero_le _⟩ dX4_shift_11 (fun r3 H locs hw hS => ?_)
    refine lv_if_eq (tgt := 30) hx hb dX4_shift_14 (by decide) (fun c4 => ?_) (fun c4 => ?_)
    · have hw := hw.1 c4
      refine lv_ldc (v := (-2147483648)) hx hb hown (hts _ q1030) dX4_shift_30 ?_
      exact wReti hC hS hw (Nat.le_refl _) (Nat.le_refl _) dX4_shift_32
    · have hw := hw.2 c4
      refine lv_iload_n hx hb dX4_shift_17 rfl (lv_at hl 3 rfl) ?_
      refine lv_sipush (v := (-999)) hx hb dX4_shift_18 (by decide) ?_
      refine lv_sipush (v := 999) hx hb dX4_shift_21 (by decide) ?_
      refine inv_q1007 hC hS hl.1 hw ⟨Nat.le_of_ble_eq_true rfl, Nat.le_of_ble_eq_true rfl⟩ (Nat.le_of_ble_eq_true rfl) ⟨Nat.zero_le _, Nat.zero_le _⟩ dX4_shift_24 (fun r5 H locs hw hS => ?_)
      refine lv_if_ne (tgt := 33) hx hb dX4_shift_27 (by decide) (fun c6 => ?_) (fun c6 => ?_)
      · have hw := hw.2 c6
        refine lv_aload_n hx hb dX4_shift_33 rfl (lv_at hl 0 rfl) ?_
        refine ld_q939 hC hS dX4_shift_34 ?_
        refine lv_iconst (v := 2) hx hb dX4_shift_37 (by decide) ?_
        refine lv_iload_n hx hb dX4_shift_38 rfl (lv_at hl 1 rfl) ?_
        refine lv_imul hx hb dX4_shift_39 ?_
        refine lv_iload_n hx hb dX4_shift_40 rfl (lv_at hl 2 rfl) ?_
        refine lv_iadd hx hb dX4_shift_41 ?_
        refine al_shifts hC hS hw.1 dX4_shift_42 ?_
        have hw := hw.2
        refine lv_topi (fun v7 ev7 => ?_)
        have hw := hw v7 ev7
        refine lv_istore (lv' := [(4, .int v7), (0, .ref (a 0)), (1, .int p1), (2, .int p2), (3, .int p3)]) hx hb dX4_shift_43 hl (by decide) rfl (fun ls hl => ?_)
        refine lv_aload_n hx hb dX4_shift_45 rfl (lv_at hl 1 rfl) ?_
        refine ld_q939 hC hS dX4_shift_46 ?_
        refine lv_iconst (v := 2) hx hb dX4_shift_49 (by decide) ?_
        refine lv_iload_n hx hb dX4_shift_50 rfl (lv_at hl 2 rfl) ?_
        refine lv_imul hx hb dX4_shift_51 ?_
        refine lv_iload_n hx hb dX4_shift_52 rfl (lv_at hl 3 rfl) ?_
        refine lv_iadd hx hb dX4_shift_53 ?_
        refine lv_iload_n hx hb dX4_shift_54 rfl (lv_at hl 4 rfl) ?_
        have hi := hw.1
        have hw := hw.2
        refine as_shifts hC hS hi dX4_shift_55 (fun H locs hS => ?_)
        have hw := hw (sM_shifts M (upd (M_shifts M) ((2 * p1) + p2).toNatClampNeg p3)) rfl
        generalize sM_shifts M (upd (M_shifts M) ((2 * p1) + p2).toNatClampNeg p3) = M8 at hS hw
        refine lv_iload hx hb dX4_shift_56 (lv_at hl 0 rfl) ?_
        exact wReti hC hS hw (Nat.le_refl _) (Nat.le_refl _) dX4_shift_58
      · have hw := hw.1 c6
        refine lv_ldc (v := (-2147483648)) hx hb hown (hts _ q1030) dX4_shift_30 ?_
        exact wReti hC hS hw (Nat.le_refl _) (Nat.le_refl _) dX4_shift_32
abbrev v_X4_shift (M : MS) (p1 : Int32) (p2 : Int32) (p3 : Int32) (post : Int32 → MS → Prop) : Prop := w_X4_shift p1 p2 p3 post M
set_option maxHeartbeats 4000000 in
set_option maxRecDepth 100000 in
theorem met_X4_shift (l : Launch) (D : va_G) (dT : Nat → ClassId) (a : Nat → Nat) (sz : Nat) (M : MS) (p1 : Int32) (p2 : Int32) (p3 : Int32) (post : Int32 → MS → Prop) (hw : v_X4_shift M p1 p2 p3 post) : Met l yX4_shift (ws_ yX4_shift cX4_shift 5 (some .int)) rmX4_shift (wPc D dT (MW dT a) MI sz M [.ref (a 0), .int p1, .int p2, .int p3]) (va_Qi post (wB D (MW dT a) MI (va_A ((MW dT a) M) sz)) (va_A ((MW dT a) M) sz)) 0 0 (va_A ((MW dT a) M) sz) :=
  wEnt (Q := fun A => (va_Qi post (wB D (MW dT a) MI A) A)) (by decide) (Nat.le_of_ble_eq_true rfl) (fun p e s m below meth c A ls hC _ hA hS hl => k_X4_shift_0 hC hA _ hS hl hw) sz
theorem hd_X4_shift : yX4_shift.cls ≠ "java/lang/invoke/MethodHandle" ∧ yX4_shift.cls ≠ "java/lang/invoke/VarHandle" ∧ (parseMethodDescriptor yX4_shift.desc).map (fun d => d.parameters.length) = some 3 := by decide +kernel
/-! LeastFramesModel.shiftAt -/
def w_X4_shiftAt (M : MS) (p1 : Int32) (post : Int32 → Prop) : Prop :=
  v_X4_isWay M p1 (fun r1 => (r1 = (0 : Int32) → (post (0 : Int32))) ∧ (¬ r1 = (0 : Int32) → (vp_in p1 10 ∧ (post (M_shifts M p1.toNatClampNeg)))))
abbrev rmX4_shiftAt : Room := { frames := 1, cells := 0, slots := 0, locals := 21 }
set_option maxHeartbeats 4000000 in
set_option maxRecDepth 100000 in
theorem k_X4_shiftAt_0 {p : Program} {l : Launch} {e : Env} {s : State} {m : MethodId} {args : Array Value} {below : List Frame} {meth : Method} {c : Code} {D : va_G} {dT : Nat → ClassId} {a : Nat → Nat} {A : Nat → Prop}  {M : MS} {p1 : Int32} {post : Int32 → Prop} (hC : wCx RX4 cX4_shiftAt 2 (some .int) D dT p s m args meth c) (hA : wAz A s) {H : Heap} {locs : List Loc} {ls : Array Slot} (hS : StM D dT a A s M H locs) (hl : lv_has ls 2 [(0, .ref (a 0)), (1, .int p1)])  (hw : w_X4_shiftAt M p1 post) : W p l e rmX4_shiftAt s m args below meth c H locs 0 0 (MQ below (va_Qi (fun r M9 => M9 = M ∧ post r) (wB D (MW dT a) MI A) A) args s 0 0 A) (F0 m 0 ls []) := by
  have hx := hC.1
  have hb := hC.2.1
  have hown := hC.2.2.2.1
  have hts := hC.2.2.2.2.1
  unfold w_X4_shiftAt at hw
  refine lv_aload_n hx hb dX4_shiftAt_0 rfl (lv_at hl 0 rfl) ?_
  refine lv_iload_n hx hb dX4_shiftAt_1 rfl (lv_at hl 1 rfl) ?_
  refine inv_q1106 hC hA hS hl.1 hw ⟨Nat.le_of_ble_eq_true rfl, Nat.le_of_ble_eq_true rfl⟩ (Nat.le_of_ble_eq_true rfl) ⟨Nat.zero_le _, Nat.zero_le _⟩ dX4_shiftAt_2 (fun r1 H locs hw hS => ?_)
  refine lv_if_eq (tgt := 17) hx hb dX4_shiftAt_5 (by decide) (fun c2 => ?_) (fun c2 => ?_)
  · have hw := hw.1 c2
    refine lv_iconst (v := 0) hx hb dX4_shiftAt_17 (by decide) ?_
    exact wReti hC hS ⟨rfl, hw⟩ (Nat.le_refl _) (Nat.le_refl _) dX4_shiftAt_18
  · have hw := hw.2 c2
    refine lv_aload_n hx hb dX4_shiftAt_8 rfl (lv_at hl 0 rfl) ?_
    refine ld_q939 hC hS dX4_shiftAt_9 ?_
    refine lv_iload_n hx hb dX4_shiftAt_12 rfl (lv_at hl 1 rfl) ?_
    refine al_shifts hC hS hw.1 dX4_shiftAt_13 ?_
    have hw := hw.2
    refine lv_goto (tgt := 18) hx hb dX4_shiftAt_14 (by decide) ?_
    exact wReti hC hS ⟨rfl, hw⟩ (Nat.le_refl _) (Nat.le_refl _) dX4_shiftAt_18
abbrev v_X4_shiftAt (M : MS) (p1 : Int32) (post : Int32 → Prop) : Prop := w_X4_shiftAt M p1 post
set_option maxHeartbeats 4000000 in
set_option maxRecDepth 100000 in
theorem met_X4_shiftAt (l : Launch) (D : va_G) (dT : Nat → ClassId) (a : Nat → Nat) (sz : Nat) (M : MS) (p1 : Int32) (post : Int32 → Prop) (hw : v_X4_shiftAt M p1 post) : Met l yX4_shiftAt (ws_ yX4_shiftAt cX4_shiftAt 2 (some .int)) rmX4_shiftAt (wPc D dT (MW dT a) MI sz M [.ref (a 0), .int p1]) (va_Qi (fun r M9 => M9 = M ∧ post r) (wB D (MW dT a) MI (va_A ((MW dT a) M) sz)) (va_A ((MW dT a) M) sz)) 0 0 (va_A ((MW dT a) M) sz) :=
  wEnt (Q := fun A => (va_Qi (fun r M9 => M9 = M ∧ post r) (wB D (MW dT a) MI A) A)) (by decide) (Nat.le_of_ble_eq_true rfl) (fun p e s m below meth c A ls hC _ hA hS hl => k_X4_shiftAt_0 hC hA  hS hl hw) sz
theorem hd_X4_shiftAt : yX4_shiftAt.cls ≠ "java/lang/invoke/MethodHandle" ∧ yX4_shiftAt.cls ≠ "java/lang/invoke/VarHandle" ∧ (parseMethodDescriptor yX4_shiftAt.desc).map (fun d => d.parameters.length) = some 1 := by decide +kernel
section
variable {p : Program} {l : Launch} {e : Env} {R : Room} {s : State} {m : MethodId} {args : Array Value} {below : List Frame} {meth : Method} {c : Code} {H : Heap} {locs : List Loc} {cells slots : Nat} {Q : State → Prop} {cc : ByteArray} {nL : Nat} {ret : Option FieldType} {pc : Nat} {ls : Array Slot} {rest : List Value}
set_option maxHeartbeats 4000000 in
set_option maxRecDepth 100000 in
theorem inv_q1239 {D : va_G} {dT : Nat → ClassId} {a : Nat → Nat} {A : Nat → Prop} {M : MS} {p1 : Int32} {post : Int32 → Prop} (hC : wCx RX4 cc nL ret D dT p s m args meth c) (hA : wAz A s) (hS : StM D dT a A s M H locs) (hl : ls.size = nL) (hw : v_X4_shiftAt M p1 post) (hR : rmX4_shiftAt.frames + 1 ≤ R.frames ∧ 8 + (2 + 11) + rmX4_shiftAt.locals ≤ R.locals) (hrest : (rest.map fun v => v.category).sum ≤ 8) (hf : cells ≤ R.cells ∧ slots ≤ R.slots) (hdg : decode cc pc = .ok (.invokevirtual 196, 3)) (kk : ∀ (r : Int32) (H1 : Heap) (locs1 : List Loc), post r → StM D dT a A s M H1 locs1 → W p l e R s m args below meth c H1 locs1 cells slots Q (F0 m (pc + 3) ls (.int r :: rest))) : W p l e R s m args below meth c H locs cells slots Q (F0 m pc ls (.int p1 :: .ref (a 0) :: rest)) := by
  exact wCallVi (As := [.int p1]) (rest := rest) (mc := 0) (ms := 0) 0 hC (met_X4_shiftAt l D dT a H.size M p1 post hw) (lw_V q1239 q1241 qs75 q89 q1242) ⟨⟨rfl, rfl⟩, hd_X4_shiftAt, hR, hf⟩ rfl rfl rfl hA hS hl rfl hrest hdg (fun r u H1 locs1 hp hS1 => kk r H1 locs1 hp.2 (hp.1 ▸ hS1))
end
/-! LeastFramesModel.stretchOf -/
def w_X4_stretchOf_4b (M : MS) (p1 : Int32) (K4 : Int32 → Int32 → Prop) (post : Int32 → Prop) (x2 : Int32) (x3 : Int32) : Prop :=
  ((2 : Int32) ≤ x3 → (post x2)) ∧ (¬ (2 : Int32) ≤ x3 → (v_X4_greater p1 (fun r2 => v_X4_shiftAt M ((2 * r2) + x3) (fun r3 => v_X4_lesser p1 (fun r4 => v_X4_shiftAt M ((2 * r4) + x3) (fun r5 => v_X4_far M p1 x3 (fun r6 => ∀ v7 : Int32, v7 = x2 + ((r3 - r5) * r6) → (∀ v8 : Int32, v8 = x3 + 1 → (K4 v7 v8)))))))))
def w_X4_stretchOf_4 (M : MS) (p1 : Int32) (post : Int32 → Prop) : Nat → Int32 → Int32 → Prop
  | 0, _, _ => False
  | n + 1, x2, x3 => w_X4_stretchOf_4b M p1 (w_X4_stretchOf_4 M p1 post n) post x2 x3
def w_X4_stretchOf (M : MS) (p1 : Int32) (post : Int32 → Prop) : Prop :=
  ∃ n, w_X4_stretchOf_4 M p1 post n 0 0
abbrev rmX4_stretchOf : Room := { frames := 3, cells := 0, slots := 0, locals := 66 }
set_option maxHeartbeats 4000000 in
set_option maxRecDepth 100000 in
theorem k_X4_stretchOf_4b {p : Program} {l : Launch} {e : Env} {s : State} {m : MethodId} {args : Array Value} {below : List Frame} {meth : Method} {c : Code} {D : va_G} {dT : Nat → ClassId} {a : Nat → Nat} {A : Nat → Prop}  {M : MS} {p1 : Int32} {K4 : Int32 → Int32 → Prop} {post : Int32 → Prop} (hC : wCx RX4 cX4_stretchOf 4 (some .int) D dT p s m args meth c) (hA : wAz A s) (hK4 : ∀ (x2 : Int32) (x3 : Int32), K4 x2 x3 → ∀ {H : Heap} {locs : List Loc} {ls : Array Slot}, StM D dT a A s M H locs → lv_has ls 4 [(0, .ref (a 0)), (1, .int p1), (2, .int x2), (3, .int x3)] → W p l e rmX4_stretchOf s m args below meth c H locs 0 0 (MQ below (va_Qi (fun r M9 => M9 = M ∧ post r) (wB D (MW dT a) MI A) A) args s 0 0 A) (F0 m 4 ls [])) (x2 : Int32) (x3 : Int32) {H : Heap} {locs : List Loc} {ls : Array Slot} (hS : StM D dT a A s M H locs) (hl : lv_has ls 4 [(0, .ref (a 0)), (1, .int p1), (2, .int x2), (3, .int x3)])  (hw : w_X4_stretchOf_4b M p1 K4 post x2 x3) : W p l e rmX4_stretchOf s m args below meth c H locs 0 0 (MQ below (va_Qi (fun r M9 => M9 = M ∧ post r) (wB D (MW dT a) MI A) A) args s 0 0 A) (F0 m 4 ls []) := by
  have hx := hC.1
  have hb := hC.2.1
  have hown := hC.2.2.2.1
  have hts := hC.2.2.2.2.1
  unfold w_X4_stretchOf_4b at hw
  refine lv_iload_n hx hb dX4_stretchOf_4 rfl (lv_at hl 3 rfl) ?_
  refine lv_iconst (v := 2) hx hb dX4_stretchOf_5 (by decide) ?_
  refine lv_icmp_ge (tgt := 50) hx hb dX4_stretchOf_6 (by decide) (fun c1 => ?_) (fun c1 => ?_)
  · have hw := hw.1 c1
    refine lv_iload_n hx hb dX4_stretchOf_50 rfl (lv_at hl 2 rfl) ?_
    exact wReti hC hS ⟨rfl, hw⟩ (Nat.le_refl _) (Nat.le_refl _) dX4_stretchOf_51
  · have hw := hw.2 c1
    refine lv_iload_n hx hb dX4_stretchOf_9 rfl (lv_at hl 2 rfl) ?_
    refine lv_aload_n hx hb dX4_stretchOf_10 rfl (lv_at hl 0 rfl) ?_
    refine lv_iconst (v := 2) hx hb dX4_stretchOf_11 (by decide) ?_
    refine lv_iload_n hx hb dX4_stretchOf_12 rfl (lv_at hl 1 rfl) ?_
    refine inv_q1075 hC hS hl.1 hw ⟨Nat.le_of_ble_eq_true rfl, Nat.le_of_ble_eq_true rfl⟩ (Nat.le_of_ble_eq_true rfl) ⟨Nat.zero_le _, Nat.zero_le _⟩ dX4_stretchOf_13 (fun r2 H locs hw hS => ?_)
    refine lv_imul hx hb dX4_stretchOf_16 ?_
    refine lv_iload_n hx hb dX4_stretchOf_17 rfl (lv_at hl 3 rfl) ?_
    refine lv_iadd hx hb dX4_stretchOf_18 ?_
    refine inv_q1239 hC hA hS hl.1 hw ⟨Nat.le_of_ble_eq_true rfl, Nat.le_of_ble_eq_true rfl⟩ (Nat.le_of_ble_eq_true rfl) ⟨Nat.zero_le _, Nat.zero_le _⟩ dX4_stretchOf_19 (fun r3 H locs hw hS => ?_)
    refine lv_aload_n hx hb dX4_stretchOf_22 rfl (lv_at hl 0 rfl) ?_
    refine lv_iconst (v := 2) hx hb dX4_stretchOf_23 (by decide) ?_
    refine lv_iload_n hx hb dX4_stretchOf_24 rfl (lv_at hl 1 rfl) ?_
    refine inv_q1072 hC hS hl.1 hw ⟨Nat.le_of_ble_eq_true rfl, Nat.le_of_ble_eq_true rfl⟩ (Nat.le_of_ble_eq_true rfl) ⟨Nat.zero_le _, Nat.zero_le _⟩ dX4_stretchOf_25 (fun r4 H locs hw hS => ?_)
    refine lv_imul hx hb dX4_stretchOf_28 ?_
    refine lv_iload_n hx hb dX4_stretchOf_29 rfl (lv_at hl 3 rfl) ?_
    refine lv_iadd hx hb dX4_stretchOf_30 ?_
    refine inv_q1239 hC hA hS hl.1 hw ⟨Nat.le_of_ble_eq_true rfl, Nat.le_of_ble_eq_true rfl⟩ (Nat.le_of_ble_eq_true rfl) ⟨Nat.zero_le _, Nat.zero_le _⟩ dX4_stretchOf_31 (fun r5 H locs hw hS => ?_)
    refine lv_isub hx hb dX4_stretchOf_34 ?_
    refine lv_aload_n hx hb dX4_stretchOf_35 rfl (lv_at hl 0 rfl) ?_
    refine lv_iload_n hx hb dX4_stretchOf_36 rfl (lv_at hl 1 rfl) ?_
    refine lv_iload_n hx hb dX4_stretchOf_37 rfl (lv_at hl 3 rfl) ?_
    refine inv_q1082 hC hA hS hl.1 hw ⟨Nat.le_of_ble_eq_true rfl, Nat.le_of_ble_eq_true rfl⟩ (Nat.le_of_ble_eq_true rfl) ⟨Nat.zero_le _, Nat.zero_le _⟩ dX4_stretchOf_38 (fun r6 H locs hw hS => ?_)
    refine lv_imul hx hb dX4_stretchOf_41 ?_
    refine lv_iadd hx hb dX4_stretchOf_42 ?_
    refine lv_topi (fun v7 ev7 => ?_)
    have hw := hw v7 ev7
    refine lv_istore_n (lv' := [(2, .int v7), (0, .ref (a 0)), (1, .int p1), (3, .int x3)]) hx hb dX4_stretchOf_43 rfl hl (by decide) rfl (fun ls hl => ?_)
    obtain ⟨v8, ev8⟩ : ∃ y : Int32, y = x3 + 1 := ⟨_, rfl⟩
    have hw := hw v8 ev8
    refine lv_iinc (v := v8) (lv' := [(3, .int v8), (2, .int v7), (0, .ref (a 0)), (1, .int p1)]) hx hb dX4_stretchOf_44 hl (k := 3) rfl (by rw [ev8]; rfl) (by decide) rfl (fun ls hl => ?_)
    refine lv_goto (tgt := 4) hx hb dX4_stretchOf_47 (by decide) ?_
    exact hK4 _ _ hw hS (lv_sub hl [2, 3, 1, 0] rfl)
set_option maxHeartbeats 4000000 in
set_option maxRecDepth 100000 in
theorem k_X4_stretchOf_4 {p : Program} {l : Launch} {e : Env} {s : State} {m : MethodId} {args : Array Value} {below : List Frame} {meth : Method} {c : Code} {D : va_G} {dT : Nat → ClassId} {a : Nat → Nat} {A : Nat → Prop}  {M : MS} {p1 : Int32} {post : Int32 → Prop} (hC : wCx RX4 cX4_stretchOf 4 (some .int) D dT p s m args meth c) (hA : wAz A s) : ∀ (x2 : Int32) (x3 : Int32) (n : Nat), ∀ {H : Heap} {locs : List Loc} {ls : Array Slot}, StM D dT a A s M H locs → lv_has ls 4 [(0, .ref (a 0)), (1, .int p1), (2, .int x2), (3, .int x3)] → w_X4_stretchOf_4 M p1 post n x2 x3 → W p l e rmX4_stretchOf s m args below meth c H locs 0 0 (MQ below (va_Qi (fun r M9 => M9 = M ∧ post r) (wB D (MW dT a) MI A) A) args s 0 0 A) (F0 m 4 ls []) := by
  intro x2 x3 n
  induction n generalizing x2 x3 with
  | zero => intro H locs ls  hS hl hw; exact hw.elim
  | succ n ih =>
    intro H locs ls  hS hl hw
    exact k_X4_stretchOf_4b hC hA (fun x2 x3 hk {H} {locs} {ls}  hS hl => ih x2 x3  hS hl hk) x2 x3  hS hl hw
set_option maxHeartbeats 4000000 in
set_option maxRecDepth 100000 in
theorem k_X4_stretchOf_0 {p : Program} {l : Launch} {e : Env} {s : State} {m : MethodId} {args : Array Value} {below : List Frame} {meth : Method} {c : Code} {D : va_G} {dT : Nat → ClassId} {a : Nat → Nat} {A : Nat → Prop}  {M : MS} {p1 : Int32} {post : Int32 → Prop} (hC : wCx RX4 cX4_stretchOf 4 (some .int) D dT p s m args meth c) (hA : wAz A s) {H : Heap} {locs : List Loc} {ls : Array Slot} (hS : StM D dT a A s M H locs) (hl : lv_has ls 4 [(0, .ref (a 0)), (1, .int p1)])  (hw : w_X4_stretchOf M p1 post) : W p l e rmX4_stretchOf s m args below meth c H locs 0 0 (MQ below (va_Qi (fun r M9 => M9 = M ∧ post r) (wB D (MW dT a) MI A) A) args s 0 0 A) (F0 m 0 ls []) := by
  have hx := hC.1
  have hb := hC.2.1
  have hown := hC.2.2.2.1
  have hts := hC.2.2.2.2.1
  unfold w_X4_stretchOf at hw
  refine lv_iconst (v := 0) hx hb dX4_stretchOf_0 (by decide) ?_
  refine lv_istore_n (lv' := [(2, .int 0), (0, .ref (a 0)), (1, .int p1)]) hx hb dX4_stretchOf_1 rfl hl (by decide) rfl (fun ls hl => ?_)
  refine lv_iconst (v := 0) hx hb dX4_stretchOf_2 (by decide) ?_
  refine lv_istore_n (lv' := [(3, .int 0), (2, .int 0), (0, .ref (a 0)), (1, .int p1)]) hx hb dX4_stretchOf_3 rfl hl (by decide) rfl (fun ls hl => ?_)
  obtain ⟨n, hw⟩ := hw
  exact k_X4_stretchOf_4 hC hA _ _ n hS (lv_sub hl [2, 3, 1, 0] rfl) hw
abbrev v_X4_stretchOf (M : MS) (p1 : Int32) (post : Int32 → Prop) : Prop := w_X4_stretchOf M p1 post
set_option maxHeartbeats 4000000 in
set_option maxRecDepth 100000 in
theorem met_X4_stretchOf (l : Launch) (D : va_G) (dT : Nat → ClassId) (a : Nat → Nat) (sz : Nat) (M : MS) (p1 : Int32) (post : Int32 → Prop) (hw : v_X4_stretchOf M p1 post) : Met l yX4_stretchOf (ws_ yX4_stretchOf cX4_stretchOf 4 (some .int)) rmX4_stretchOf (wPc D dT (MW dT a) MI sz M [.ref (a 0), .int p1]) (va_Qi (fun r M9 => M9 = M ∧ post r) (wB D (MW dT a) MI (va_A ((MW dT a) M) sz)) (va_A ((MW dT a) M) sz)) 0 0 (va_A ((MW dT a) M) sz) :=
  wEnt (Q := fun A => (va_Qi (fun r M9 => M9 = M ∧ post r) (wB D (MW dT a) MI A) A)) (by decide) (Nat.le_of_ble_eq_true rfl) (fun p e s m below meth c A ls hC _ hA hS hl => k_X4_stretchOf_0 hC hA  hS hl hw) sz
theorem hd_X4_stretchOf : yX4_stretchOf.cls ≠ "java/lang/invoke/MethodHandle" ∧ yX4_stretchOf.cls ≠ "java/lang/invoke/VarHandle" ∧ (parseMethodDescriptor yX4_stretchOf.desc).map (fun d => d.parameters.length) = some 1 := by decide +kernel
section
variable {p : Program} {l : Launch} {e : Env} {R : Room} {s : State} {m : MethodId} {args : Array Value} {below : List Frame} {meth : Method} {c : Code} {H : Heap} {locs : List Loc} {cells slots : Nat} {Q : State → Prop} {cc : ByteArray} {nL : Nat} {ret : Option FieldType} {pc : Nat} {ls : Array Slot} {rest : List Value}
set_option maxHeartbeats 4000000 in
set_option maxRecDepth 100000 in
theorem inv_q1235 {D : va_G} {dT : Nat → ClassId} {a : Nat → Nat} {A : Nat → Prop} {M : MS} {p1 : Int32} {post : Int32 → Prop} (hC : wCx RX4 cc nL ret D dT p s m args meth c) (hA : wAz A s) (hS : StM D dT a A s M H locs) (hl : ls.size = nL) (hw : v_X4_stretchOf M p1 post) (hR : rmX4_stretchOf.frames + 1 ≤ R.frames ∧ 8 + (4 + 11) + rmX4_stretchOf.locals ≤ R.locals) (hrest : (rest.map fun v => v.category).sum ≤ 8) (hf : cells ≤ R.cells ∧ slots ≤ R.slots) (hdg : decode cc pc = .ok (.invokevirtual 199, 3)) (kk : ∀ (r : Int32) (H1 : Heap) (locs1 : List Loc), post r → StM D dT a A s M H1 locs1 → W p l e R s m args below meth c H1 locs1 cells slots Q (F0 m (pc + 3) ls (.int r :: rest))) : W p l e R s m args below meth c H locs cells slots Q (F0 m pc ls (.int p1 :: .ref (a 0) :: rest)) := by
  exact wCallVi (As := [.int p1]) (rest := rest) (mc := 0) (ms := 0) 0 hC (met_X4_stretchOf l D dT a H.size M p1 post hw) (lw_V q1235 q1237 qs74 q89 q1238) ⟨⟨rfl, rfl⟩, hd_X4_stretchOf, hR, hf⟩ rfl rfl rfl hA hS hl rfl hrest hdg (fun r u H1 locs1 hp hS1 => kk r H1 locs1 hp.2 (hp.1 ▸ hS1))
end
/-! LeastFramesModel.stretch -/
def w_X4_stretch (M : MS) (p1 : Int32) (p2 : Int32) (post : Int64 → Prop) : Prop :=
  v_X4_isPair M p1 (fun r1 => (r1 = (0 : Int32) → (v_X4_no ((-2) : Int32) (fun r3 => post r3))) ∧ (¬ r1 = (0 : Int32) → (v_X4_in p2 (0 : Int32) (1 : Int32) (fun r4 => (r4 = (0 : Int32) → (v_X4_no ((-2) : Int32) (fun r6 => post r6))) ∧ (¬ r4 = (0 : Int32) → (v_X4_stretchOf M p1 (fun r7 => v_X4_partOf r7.toInt64 (12 : Int64) p2 (fun r8 => post r8))))))))
abbrev rmX4_stretch : Room := { frames := 4, cells := 0, slots := 0, locals := 89 }
set_option maxHeartbeats 4000000 in
set_option maxRecDepth 100000 in
theorem k_X4_stretch_0 {p : Program} {l : Launch} {e : Env} {s : State} {m : MethodId} {args : Array Value} {below : List Frame} {meth : Method} {c : Code} {D : va_G} {dT : Nat → ClassId} {a : Nat → Nat} {A : Nat → Prop}  {M : MS} {p1 : Int32} {p2 : Int32} {post : Int64 → Prop} (hC : wCx RX4 cX4_stretch 3 (some .long) D dT p s m args meth c) (hA : wAz A s) {H : Heap} {locs : List Loc} {ls : Array Slot} (hS : StM D dT a A s M H locs) (hl : lv_has ls 3 [(0, .ref (a 0)), (1, .int p1), (2, .int p2)])  (hw : w_X4_stretch M p1 p2 post) : W p l e rmX4_stretch s m args below meth c H locs 0 0 (MQ below (va_Ql (fun r M9 => M9 = M ∧ post r) (wB D (MW dT a) MI A) A) args s 0 0 A) (F0 m 0 ls []) := by
  have hx := hC.1
  have hb := hC.2.1
  have hown := hC.2.2.2.1
  have hts := hC.2.2.2.2.1
  unfold w_X4_stretch at hw
  refine lv_aload_n hx hb dX4_stretch_0 rfl (lv_at hl 0 rfl) ?_
  refine lv_iload_n hx hb dX4_stretch_1 rfl (lv_at hl 1 rfl) ?_
  refine inv_q1035 hC hA hS hl.1 hw ⟨Nat.le_of_ble_eq_true rfl, Nat.le_of_ble_eq_true rfl⟩ (Nat.le_of_ble_eq_true rfl) ⟨Nat.zero_le _, Nat.zero_le _⟩ dX4_stretch_2 (fun r1 H locs hw hS => ?_)
  refine lv_if_eq (tgt := 33) hx hb dX4_stretch_5 (by decide) (fun c2 => ?_) (fun c2 => ?_)
  · have hw := hw.1 c2
    refine lv_bipush (v := (-2)) hx hb dX4_stretch_33 (by decide) ?_
    refine inv_q1143 hC hS hl.1 hw ⟨Nat.le_of_ble_eq_true rfl, Nat.le_of_ble_eq_true rfl⟩ (Nat.le_of_ble_eq_true rfl) ⟨Nat.zero_le _, Nat.zero_le _⟩ dX4_stretch_35 (fun r3 H locs hw hS => ?_)
    exact wRetl hC hS ⟨rfl, hw⟩ (Nat.le_refl _) (Nat.le_refl _) dX4_stretch_38
  · have hw := hw.2 c2
    refine lv_iload_n hx hb dX4_stretch_8 rfl (lv_at hl 2 rfl) ?_
    refine lv_iconst (v := 0) hx hb dX4_stretch_9 (by decide) ?_
    refine lv_iconst (v := 1) hx hb dX4_stretch_10 (by decide) ?_
    refine inv_q1007 hC hS hl.1 hw ⟨Nat.le_of_ble_eq_true rfl, Nat.le_of_ble_eq_true rfl⟩ (Nat.le_of_ble_eq_true rfl) ⟨Nat.zero_le _, Nat.zero_le _⟩ dX4_stretch_11 (fun r4 H locs hw hS => ?_)
    refine lv_if_eq (tgt := 33) hx hb dX4_stretch_14 (by decide) (fun c5 => ?_) (fun c5 => ?_)
    · have hw := hw.1 c5
      refine lv_bipush (v := (-2)) hx hb dX4_stretch_33 (by decide) ?_
      refine inv_q1143 hC hS hl.1 hw ⟨Nat.le_of_ble_eq_true rfl, Nat.le_of_ble_eq_true rfl⟩ (Nat.le_of_ble_eq_true rfl) ⟨Nat.zero_le _, Nat.zero_le _⟩ dX4_stretch_35 (fun r6 H locs hw hS => ?_)
      exact wRetl hC hS ⟨rfl, hw⟩ (Nat.le_refl _) (Nat.le_refl _) dX4_stretch_38
    · have hw := hw.2 c5
      refine lv_aload_n hx hb dX4_stretch_17 rfl (lv_at hl 0 rfl) ?_
      refine lv_iload_n hx hb dX4_stretch_18 rfl (lv_at hl 1 rfl) ?_
      refine inv_q1235 hC hA hS hl.1 hw ⟨Nat.le_of_ble_eq_true rfl, Nat.le_of_ble_eq_true rfl⟩ (Nat.le_of_ble_eq_true rfl) ⟨Nat.zero_le _, Nat.zero_le _⟩ dX4_stretch_19 (fun r7 H locs hw hS => ?_)
      refine lv_i2l hx hb dX4_stretch_22 rfl ?_
      refine lv_ldc2 (v := 12) hx hb hown (hts _ q1243) dX4_stretch_23 ?_
      refine lv_iload_n hx hb dX4_stretch_26 rfl (lv_at hl 2 rfl) ?_
      refine inv_q1136 hC hS hl.1 hw ⟨Nat.le_of_ble_eq_true rfl, Nat.le_of_ble_eq_true rfl⟩ (Nat.le_of_ble_eq_true rfl) ⟨Nat.zero_le _, Nat.zero_le _⟩ dX4_stretch_27 (fun r8 H locs hw hS => ?_)
      refine lv_goto (tgt := 38) hx hb dX4_stretch_30 (by decide) ?_
      exact wRetl hC hS ⟨rfl, hw⟩ (Nat.le_refl _) (Nat.le_refl _) dX4_stretch_38
abbrev v_X4_stretch (M : MS) (p1 : Int32) (p2 : Int32) (post : Int64 → Prop) : Prop := w_X4_stretch M p1 p2 post
set_option maxHeartbeats 4000000 in
set_option maxRecDepth 100000 in
theorem met_X4_stretch (l : Launch) (D : va_G) (dT : Nat → ClassId) (a : Nat → Nat) (sz : Nat) (M : MS) (p1 : Int32) (p2 : Int32) (post : Int64 → Prop) (hw : v_X4_stretch M p1 p2 post) : Met l yX4_stretch (ws_ yX4_stretch cX4_stretch 3 (some .long)) rmX4_stretch (wPc D dT (MW dT a) MI sz M [.ref (a 0), .int p1, .int p2]) (va_Ql (fun r M9 => M9 = M ∧ post r) (wB D (MW dT a) MI (va_A ((MW dT a) M) sz)) (va_A ((MW dT a) M) sz)) 0 0 (va_A ((MW dT a) M) sz) :=
  wEnt (Q := fun A => (va_Ql (fun r M9 => M9 = M ∧ post r) (wB D (MW dT a) MI A) A)) (by decide) (Nat.le_of_ble_eq_true rfl) (fun p e s m below meth c A ls hC _ hA hS hl => k_X4_stretch_0 hC hA  hS hl hw) sz
theorem hd_X4_stretch : yX4_stretch.cls ≠ "java/lang/invoke/MethodHandle" ∧ yX4_stretch.cls ≠ "java/lang/invoke/VarHandle" ∧ (parseMethodDescriptor yX4_stretch.desc).map (fun d => d.parameters.length) = some 2 := by decide +kernel
section
variable {p : Program} {l : Launch} {e : Env} {R : Room} {s : State} {m : MethodId} {args : Array Value} {below : List Frame} {meth : Method} {c : Code} {H : Heap} {locs : List Loc} {cells slots : Nat} {Q : State → Prop} {cc : ByteArray} {nL : Nat} {ret : Option FieldType} {pc : Nat} {ls : Array Slot} {rest : List Value}
set_option maxHeartbeats 4000000 in
set_option maxRecDepth 100000 in
theorem inv_q1326 {D : va_G} {dT : Nat → ClassId} {a : Nat → Nat} {A : Nat → Prop} {M : MS} {p1 : Int32} {p2 : Int32} {post : Int64 → Prop} (hC : wCx RX4 cc nL ret D dT p s m args meth c) (hA : wAz A s) (hS : StM D dT a A s M H locs) (hl : ls.size = nL) (hw : v_X4_stretch M p1 p2 post) (hR : rmX4_stretch.frames + 1 ≤ R.frames ∧ 8 + (3 + 11) + rmX4_stretch.locals ≤ R.locals) (hrest : (rest.map fun v => v.category).sum ≤ 8) (hf : cells ≤ R.cells ∧ slots ≤ R.slots) (hdg : decode cc pc = .ok (.invokevirtual 241, 3)) (kk : ∀ (r : Int64) (H1 : Heap) (locs1 : List Loc), post r → StM D dT a A s M H1 locs1 → W p l e R s m args below meth c H1 locs1 cells slots Q (F0 m (pc + 3) ls (.long r :: rest))) : W p l e R s m args below meth c H locs cells slots Q (F0 m pc ls (.int p2 :: .int p1 :: .ref (a 0) :: rest)) := by
  exact wCallVl (As := [.int p1, .int p2]) (rest := rest) (mc := 0) (ms := 0) 0 hC (met_X4_stretch l D dT a H.size M p1 p2 post hw) (lw_V q1326 q1232 q1233 q89 q1234) ⟨⟨rfl, rfl⟩, hd_X4_stretch, hR, hf⟩ rfl rfl rfl hA hS hl rfl hrest hdg (fun r u H1 locs1 hp hS1 => kk r H1 locs1 hp.2 (hp.1 ▸ hS1))
end
/-! LeastFramesModel.workNow -/
def w_X4_workNow_36 (M : MS) (K4 : Int32 → Int32 → Prop) (post : Int32 → Prop) (x2 : Int32) (y0 : Int32) (y1 : Int32) : Prop :=
  ∀ v1 : Int32, v1 = y1 + y0 → (∀ v2 : Int32, v2 = x2 + 1 → (K4 v1 v2))
def w_X4_workNow_4b (M : MS) (K4 : Int32 → Int32 → Prop) (post : Int32 → Prop) (x1 : Int32) (x2 : Int32) : Prop :=
  ((10 : Int32) ≤ x2 → (post x1)) ∧ (¬ (10 : Int32) ≤ x2 → (v_X4_isWay M x2 (fun r2 => (r2 = (0 : Int32) → (w_X4_workNow_36 M K4 post x2 0 x1)) ∧ (¬ r2 = (0 : Int32) → (vp_in x2 10 ∧ (vp_in x2 10 ∧ (w_X4_workNow_36 M K4 post x2 ((M_loads M x2.toNatClampNeg) * (M_shifts M x2.toNatClampNeg)) x1)))))))
def w_X4_workNow_4 (M : MS) (post : Int32 → Prop) : Nat → Int32 → Int32 → Prop
  | 0, _, _ => False
  | n + 1, x1, x2 => w_X4_workNow_4b M (w_X4_workNow_4 M post n) post x1 x2
def w_X4_workNow (M : MS) (post : Int32 → Prop) : Prop :=
  ∃ n, w_X4_workNow_4 M post n 0 0
abbrev rmX4_workNow : Room := { frames := 1, cells := 0, slots := 0, locals := 21 }
set_option maxHeartbeats 4000000 in
set_option maxRecDepth 100000 in
theorem k_X4_workNow_36 {p : Program} {l : Launch} {e : Env} {s : State} {m : MethodId} {args : Array Value} {below : List Frame} {meth : Method} {c : Code} {D : va_G} {dT : Nat → ClassId} {a : Nat → Nat} {A : Nat → Prop}  {M : MS} {K4 : Int32 → Int32 → Prop} {post : Int32 → Prop} (hC : wCx RX4 cX4_workNow 3 (some .int) D dT p s m args meth c) (hA : wAz A s) (hK4 : ∀ (x1 : Int32) (x2 : Int32), K4 x1 x2 → ∀ {H : Heap} {locs : List Loc} {ls : Array Slot}, StM D dT a A s M H locs → lv_has ls 3 [(0, .ref (a 0)), (1, .int x1), (2, .int x2)] → W p l e rmX4_workNow s m args below meth c H locs 0 0 (MQ below (va_Qi (fun r M9 => M9 = M ∧ post r) (wB D (MW dT a) MI A) A) args s 0 0 A) (F0 m 4 ls [])) (x2 : Int32) (y0 : Int32) (y1 : Int32) {H : Heap} {locs : List Loc} {ls : Array Slot} (hS : StM D dT a A s M H locs) (hl : lv_has ls 3 [(0, .ref (a 0)), (2, .int x2)])  (hw : w_X4_workNow_36 M K4 post x2 y0 y1) : W p l e rmX4_workNow s m args below meth c H locs 0 0 (MQ below (va_Qi (fun r M9 => M9 = M ∧ post r) (wB D (MW dT a) MI A) A) args s 0 0 A) (F0 m 36 ls [.int y0, .int y1]) := by
  have hx := hC.1
  have hb := hC.2.1
  have hown := hC.2.2.2.1
  have hts := hC.2.2.2.2.1
  unfold w_X4_workNow_36 at hw
  refine lv_iadd hx hb dX4_workNow_36 ?_
  refine lv_topi (fun v1 ev1 => ?_)
  have hw := hw v1 ev1
  refine lv_istore_n (lv' := [(1, .int v1), (0, .ref (a 0)), (2, .int x2)]) hx hb dX4_workNow_37 rfl hl (by decide) rfl (fun ls hl => ?_)
  obtain ⟨v2, ev2⟩ : ∃ y : Int32, y = x2 + 1 := ⟨_, rfl⟩
  have hw := hw v2 ev2
  refine lv_iinc (v := v2) (lv' := [(2, .int v2), (1, .int v1), (0, .ref (a 0))]) hx hb dX4_workNow_38 hl (k := 2) rfl (by rw [ev2]; rfl) (by decide) rfl (fun ls hl => ?_)
  refine lv_goto (tgt := 4) hx hb dX4_workNow_41 (by decide) ?_
  exact hK4 _ _ hw hS (lv_sub hl [2, 1, 0] rfl)
set_option maxHeartbeats 4000000 in
set_option maxRecDepth 100000 in
theorem k_X4_workNow_4b {p : Program} {l : Launch} {e : Env} {s : State} {m : MethodId} {args : Array Value} {below : List Frame} {meth : Method} {c : Code} {D : va_G} {dT : Nat → ClassId} {a : Nat → Nat} {A : Nat → Prop}  {M : MS} {K4 : Int32 → Int32 → Prop} {post : Int32 → Prop} (hC : wCx RX4 cX4_workNow 3 (some .int) D dT p s m args meth c) (hA : wAz A s) (hK4 : ∀ (x1 : Int32) (x2 : Int32), K4 x1 x2 → ∀ {H : Heap} {locs : List Loc} {ls : Array Slot}, StM D dT a A s M H locs → lv_has ls 3 [(0, .ref (a 0)), (1, .int x1), (2, .int x2)] → W p l e rmX4_workNow s m args below meth c H locs 0 0 (MQ below (va_Qi (fun r M9 => M9 = M ∧ post r) (wB D (MW dT a) MI A) A) args s 0 0 A) (F0 m 4 ls [])) (x1 : Int32) (x2 : Int32) {H : Heap} {locs : List Loc} {ls : Array Slot} (hS : StM D dT a A s M H locs) (hl : lv_has ls 3 [(0, .ref (a 0)), (1, .int x1), (2, .int x2)])  (hw : w_X4_workNow_4b M K4 post x1 x2) : W p l e rmX4_workNow s m args below meth c H locs 0 0 (MQ below (va_Qi (fun r M9 => M9 = M ∧ post r) (wB D (MW dT a) MI A) A) args s 0 0 A) (F0 m 4 ls []) := by
  have hx := hC.1
  have hb := hC.2.1
  have hown := hC.2.2.2.1
  have hts := hC.2.2.2.2.1
  unfold w_X4_workNow_4b at hw
  refine lv_iload_n hx hb dX4_workNow_4 rfl (lv_at hl 2 rfl) ?_
  refine lv_bipush (v := 10) hx hb dX4_workNow_5 (by decide) ?_
  refine lv_icmp_ge (tgt := 44) hx hb dX4_workNow_7 (by decide) (fun c1 => ?_) (fun c1 => ?_)
  · have hw := hw.1 c1
    refine lv_iload_n hx hb dX4_workNow_44 rfl (lv_at hl 1 rfl) ?_
    exact wReti hC hS ⟨rfl, hw⟩ (Nat.le_refl _) (Nat.le_refl _) dX4_workNow_45
  · have hw := hw.2 c1
    refine lv_iload_n hx hb dX4_workNow_10 rfl (lv_at hl 1 rfl) ?_
    refine lv_aload_n hx hb dX4_workNow_11 rfl (lv_at hl 0 rfl) ?_
    refine lv_iload_n hx hb dX4_workNow_12 rfl (lv_at hl 2 rfl) ?_
    refine inv_q1106 hC hA hS hl.1 hw ⟨Nat.le_of_ble_eq_true rfl, Nat.le_of_ble_eq_true rfl⟩ (Nat.le_of_ble_eq_true rfl) ⟨Nat.zero_le _, Nat.zero_le _⟩ dX4_workNow_13 (fun r2 H locs hw hS => ?_)
    refine lv_if_eq (tgt := 35) hx hb dX4_workNow_16 (by decide) (fun c3 => ?_) (fun c3 => ?_)
    · have hw := hw.1 c3
      refine lv_iconst (v := 0) hx hb dX4_workNow_35 (by decide) ?_
      exact k_X4_workNow_36 hC hA hK4 _ _ _ hS (lv_sub hl [0, 2] rfl) hw
    · have hw := hw.2 c3
      refine lv_aload_n hx hb dX4_workNow_19 rfl (lv_at hl 0 rfl) ?_
      refine ld_q938 hC hS dX4_workNow_20 ?_
      refine lv_iload_n hx hb dX4_workNow_23 rfl (lv_at hl 2 rfl) ?_
      refine al_loads hC hS hw.1 dX4_workNow_24 ?_
      have hw := hw.2
      refine lv_aload_n hx hb dX4_workNow_25 rfl (lv_at hl 0 rfl) ?_
      refine ld_q939 hC hS dX4_workNow_26 ?_
      refine lv_iload_n hx hb dX4_workNow_29 rfl (lv_at hl 2 rfl) ?_
      refine al_shifts hC hS hw.1 dX4_workNow_30 ?_
      have hw := hw.2
      refine lv_imul hx hb dX4_workNow_31 ?_
      refine lv_goto (tgt := 36) hx hb dX4_workNow_32 (by decide) ?_
      exact k_X4_workNow_36 hC hA hK4 _ _ _ hS (lv_sub hl [0, 2] rfl) hw
set_option maxHeartbeats 4000000 in
set_option maxRecDepth 100000 in
theorem k_X4_workNow_4 {p : Program} {l : Launch} {e : Env} {s : State} {m : MethodId} {args : Array Value} {below : List Frame} {meth : Method} {c : Code} {D : va_G} {dT : Nat → ClassId} {a : Nat → Nat} {A : Nat → Prop}  {M : MS} {post : Int32 → Prop} (hC : wCx RX4 cX4_workNow 3 (some .int) D dT p s m args meth c) (hA : wAz A s) : ∀ (x1 : Int32) (x2 : Int32) (n : Nat), ∀ {H : Heap} {locs : List Loc} {ls : Array Slot}, StM D dT a A s M H locs → lv_has ls 3 [(0, .ref (a 0)), (1, .int x1), (2, .int x2)] → w_X4_workNow_4 M post n x1 x2 → W p l e rmX4_workNow s m args below meth c H locs 0 0 (MQ below (va_Qi (fun r M9 => M9 = M ∧ post r) (wB D (MW dT a) MI A) A) args s 0 0 A) (F0 m 4 ls []) := by
  intro x1 x2 n
  induction n generalizing x1 x2 with
  | zero => intro H locs ls  hS hl hw; exact hw.elim
  | succ n ih =>
    intro H locs ls  hS hl hw
    exact k_X4_workNow_4b hC hA (fun x1 x2 hk {H} {locs} {ls}  hS hl => ih x1 x2  hS hl hk) x1 x2  hS hl hw
set_option maxHeartbeats 4000000 in
set_option maxRecDepth 100000 in
theorem k_X4_workNow_0 {p : Program} {l : Launch} {e : Env} {s : State} {m : MethodId} {args : Array Value} {below : List Frame} {meth : Method} {c : Code} {D : va_G} {dT : Nat → ClassId} {a : Nat → Nat} {A : Nat → Prop}  {M : MS} {post : Int32 → Prop} (hC : wCx RX4 cX4_workNow 3 (some .int) D dT p s m args meth c) (hA : wAz A s) {H : Heap} {locs : List Loc} {ls : Array Slot} (hS : StM D dT a A s M H locs) (hl : lv_has ls 3 [(0, .ref (a 0))])  (hw : w_X4_workNow M post) : W p l e rmX4_workNow s m args below meth c H locs 0 0 (MQ below (va_Qi (fun r M9 => M9 = M ∧ post r) (wB D (MW dT a) MI A) A) args s 0 0 A) (F0 m 0 ls []) := by
  have hx := hC.1
  have hb := hC.2.1
  have hown := hC.2.2.2.1
  have hts := hC.2.2.2.2.1
  unfold w_X4_workNow at hw
  refine lv_iconst (v := 0) hx hb dX4_workNow_0 (by decide) ?_
  refine lv_istore_n (lv' := [(1, .int 0), (0, .ref (a 0))]) hx hb dX4_workNow_1 rfl hl (by decide) rfl (fun ls hl => ?_)
  refine lv_iconst (v := 0) hx hb dX4_workNow_2 (by decide) ?_
  refine lv_istore_n (lv' := [(2, .int 0), (1, .int 0), (0, .ref (a 0))]) hx hb dX4_workNow_3 rfl hl (by decide) rfl (fun ls hl => ?_)
  obtain ⟨n, hw⟩ := hw
  exact k_X4_workNow_4 hC hA _ _ n hS (lv_sub hl [2, 1, 0] rfl) hw
abbrev v_X4_workNow (M : MS) (post : Int32 → Prop) : Prop := w_X4_workNow M post
set_option maxHeartbeats 4000000 in
set_option maxRecDepth 100000 in
theorem met_X4_workNow (l : Launch) (D : va_G) (dT : Nat → ClassId) (a : Nat → Nat) (sz : Nat) (M : MS) (post : Int32 → Prop) (hw : v_X4_workNow M post) : Met l yX4_workNow (ws_ yX4_workNow cX4_workNow 3 (some .int)) rmX4_workNow (wPc D dT (MW dT a) MI sz M [.ref (a 0)]) (va_Qi (fun r M9 => M9 = M ∧ post r) (wB D (MW dT a) MI (va_A ((MW dT a) M) sz)) (va_A ((MW dT a) M) sz)) 0 0 (va_A ((MW dT a) M) sz) :=
  wEnt (Q := fun A => (va_Qi (fun r M9 => M9 = M ∧ post r) (wB D (MW dT a) MI A) A)) (by decide) (Nat.le_of_ble_eq_true rfl) (fun p e s m below meth c A ls hC _ hA hS hl => k_X4_workNow_0 hC hA  hS hl hw) sz
theorem hd_X4_workNow : yX4_workNow.cls ≠ "java/lang/invoke/MethodHandle" ∧ yX4_workNow.cls ≠ "java/lang/invoke/VarHandle" ∧ (parseMethodDescriptor yX4_workNow.desc).map (fun d => d.parameters.length) = some 0 := by decide +kernel
section
variable {p : Program} {l : Launch} {e : Env} {R : Room} {s : State} {m : MethodId} {args : Array Value} {below : List Frame} {meth : Method} {c : Code} {H : Heap} {locs : List Loc} {cells slots : Nat} {Q : State → Prop} {cc : ByteArray} {nL : Nat} {ret : Option FieldType} {pc : Nat} {ls : Array Slot} {rest : List Value}
set_option maxHeartbeats 4000000 in
set_option maxRecDepth 100000 in
theorem inv_q1248 {D : va_G} {dT : Nat → ClassId} {a : Nat → Nat} {A : Nat → Prop} {M : MS} {post : Int32 → Prop} (hC : wCx RX4 cc nL ret D dT p s m args meth c) (hA : wAz A s) (hS : StM D dT a A s M H locs) (hl : ls.size = nL) (hw : v_X4_workNow M post) (hR : rmX4_workNow.frames + 1 ≤ R.frames ∧ 8 + (3 + 11) + rmX4_workNow.locals ≤ R.locals) (hrest : (rest.map fun v => v.category).sum ≤ 8) (hf : cells ≤ R.cells ∧ slots ≤ R.slots) (hdg : decode cc pc = .ok (.invokevirtual 204, 3)) (kk : ∀ (r : Int32) (H1 : Heap) (locs1 : List Loc), post r → StM D dT a A s M H1 locs1 → W p l e R s m args below meth c H1 locs1 cells slots Q (F0 m (pc + 3) ls (.int r :: rest))) : W p l e R s m args below meth c H locs cells slots Q (F0 m pc ls (.ref (a 0) :: rest)) := by
  exact wCallVi (As := []) (rest := rest) (mc := 0) (ms := 0) 0 hC (met_X4_workNow l D dT a H.size M post hw) (lw_V q1248 q1250 qs76 q89 q1251) ⟨⟨rfl, rfl⟩, hd_X4_workNow, hR, hf⟩ rfl rfl rfl hA hS hl rfl hrest hdg (fun r u H1 locs1 hp hS1 => kk r H1 locs1 hp.2 (hp.1 ▸ hS1))
end
/-! LeastFramesModel.work -/
def w_X4_work (M : MS) (p1 : Int32) (post : Int64 → Prop) : Prop :=
  v_X4_in p1 (0 : Int32) (1 : Int32) (fun r1 => (r1 = (0 : Int32) → (v_X4_no ((-2) : Int32) (fun r3 => post r3))) ∧ (¬ r1 = (0 : Int32) → (v_X4_workNow M (fun r4 => v_X4_partOf r4.toInt64 (12 : Int64) p1 (fun r5 => post r5)))))
abbrev rmX4_work : Room := { frames := 2, cells := 0, slots := 0, locals := 55 }
set_option maxHeartbeats 4000000 in
set_option maxRecDepth 100000 in
theorem k_X4_work_0 {p : Program} {l : Launch} {e : Env} {s : State} {m : MethodId} {args : Array Value} {below : List Frame} {meth : Method} {c : Code} {D : va_G} {dT : Nat → ClassId} {a : Nat → Nat} {A : Nat → Prop}  {M : MS} {p1 : Int32} {post : Int64 → Prop} (hC : wCx RX4 cX4_work 2 (some .long) D dT p s m args meth c) (hA : wAz A s) {H : Heap} {locs : List Loc} {ls : Array Slot} (hS : StM D dT a A s M H locs) (hl : lv_has ls 2 [(0, .ref (a 0)), (1, .int p1)])  (hw : w_X4_work M p1 post) : W p l e rmX4_work s m args below meth c H locs 0 0 (MQ below (va_Ql (fun r M9 => M9 = M ∧ post r) (wB D (MW dT a) MI A) A) args s 0 0 A) (F0 m 0 ls []) := by
  have hx := hC.1
  have hb := hC.2.1
  have hown := hC.2.2.2.1
  have hts := hC.2.2.2.2.1
  unfold w_X4_work at hw
  refine lv_iload_n hx hb dX4_work_0 rfl (lv_at hl 1 rfl) ?_
  refine lv_iconst (v := 0) hx hb dX4_work_1 (by decide) ?_
  refine lv_iconst (v := 1) hx hb dX4_work_2 (by decide) ?_
  refine inv_q1007 hC hS hl.1 hw ⟨Nat.le_of_ble_eq_true rfl, Nat.le_of_ble_eq_true rfl⟩ (Nat.le_of_ble_eq_true rfl) ⟨Nat.zero_le _, Nat.zero_le _⟩ dX4_work_3 (fun r1 H locs hw hS => ?_)
  refine lv_if_eq (tgt := 24) hx hb dX4_work_6 (by decide) (fun c2 => ?_) (fun c2 => ?_)
  · have hw := hw.1 c2
    refine lv_bipush (v := (-2)) hx hb dX4_work_24 (by decide) ?_
    refine inv_q1143 hC hS hl.1 hw ⟨Nat.le_of_ble_eq_true rfl, Nat.le_of_ble_eq_true rfl⟩ (Nat.le_of_ble_eq_true rfl) ⟨Nat.zero_le _, Nat.zero_le _⟩ dX4_work_26 (fun r3 H locs hw hS => ?_)
    exact wRetl hC hS ⟨rfl, hw⟩ (Nat.le_refl _) (Nat.le_refl _) dX4_work_29
  · have hw := hw.2 c2
    refine lv_aload_n hx hb dX4_work_9 rfl (lv_at hl 0 rfl) ?_
    refine inv_q1248 hC hA hS hl.1 hw ⟨Nat.le_of_ble_eq_true rfl, Nat.le_of_ble_eq_true rfl⟩ (Nat.le_of_ble_eq_true rfl) ⟨Nat.zero_le _, Nat.zero_le _⟩ dX4_work_10 (fun r4 H locs hw hS => ?_)
    refine lv_i2l hx hb dX4_work_13 rfl ?_
    refine lv_ldc2 (v := 12) hx hb hown (hts _ q1243) dX4_work_14 ?_
    refine lv_iload_n hx hb dX4_work_17 rfl (lv_at hl 1 rfl) ?_
    refine inv_q1136 hC hS hl.1 hw ⟨Nat.le_of_ble_eq_true rfl, Nat.le_of_ble_eq_true rfl⟩ (Nat.le_of_ble_eq_true rfl) ⟨Nat.zero_le _, Nat.zero_le _⟩ dX4_work_18 (fun r5 H locs hw hS => ?_)
    refine lv_goto (tgt := 29) hx hb dX4_work_21 (by decide) ?_
    exact wRetl hC hS ⟨rfl, hw⟩ (Nat.le_refl _) (Nat.le_refl _) dX4_work_29
abbrev v_X4_work (M : MS) (p1 : Int32) (post : Int64 → Prop) : Prop := w_X4_work M p1 post
set_option maxHeartbeats 4000000 in
set_option maxRecDepth 100000 in
theorem met_X4_work (l : Launch) (D : va_G) (dT : Nat → ClassId) (a : Nat → Nat) (sz : Nat) (M : MS) (p1 : Int32) (post : Int64 → Prop) (hw : v_X4_work M p1 post) : Met l yX4_work (ws_ yX4_work cX4_work 2 (some .long)) rmX4_work (wPc D dT (MW dT a) MI sz M [.ref (a 0), .int p1]) (va_Ql (fun r M9 => M9 = M ∧ post r) (wB D (MW dT a) MI (va_A ((MW dT a) M) sz)) (va_A ((MW dT a) M) sz)) 0 0 (va_A ((MW dT a) M) sz) :=
  wEnt (Q := fun A => (va_Ql (fun r M9 => M9 = M ∧ post r) (wB D (MW dT a) MI A) A)) (by decide) (Nat.le_of_ble_eq_true rfl) (fun p e s m below meth c A ls hC _ hA hS hl => k_X4_work_0 hC hA  hS hl hw) sz
theorem hd_X4_work : yX4_work.cls ≠ "java/lang/invoke/MethodHandle" ∧ yX4_work.cls ≠ "java/lang/invoke/VarHandle" ∧ (parseMethodDescriptor yX4_work.desc).map (fun d => d.parameters.length) = some 1 := by decide +kernel
section
variable {p : Program} {l : Launch} {e : Env} {R : Room} {s : State} {m : MethodId} {args : Array Value} {below : List Frame} {meth : Method} {c : Code} {H : Heap} {locs : List Loc} {cells slots : Nat} {Q : State → Prop} {cc : ByteArray} {nL : Nat} {ret : Option FieldType} {pc : Nat} {ls : Array Slot} {rest : List Value}
set_option maxHeartbeats 4000000 in
set_option maxRecDepth 100000 in
theorem inv_q1329 {D : va_G} {dT : Nat → ClassId} {a : Nat → Nat} {A : Nat → Prop} {M : MS} {p1 : Int32} {post : Int64 → Prop} (hC : wCx RX4 cc nL ret D dT p s m args meth c) (hA : wAz A s) (hS : StM D dT a A s M H locs) (hl : ls.size = nL) (hw : v_X4_work M p1 post) (hR : rmX4_work.frames + 1 ≤ R.frames ∧ 8 + (2 + 11) + rmX4_work.locals ≤ R.locals) (hrest : (rest.map fun v => v.category).sum ≤ 8) (hf : cells ≤ R.cells ∧ slots ≤ R.slots) (hdg : decode cc pc = .ok (.invokevirtual 262, 3)) (kk : ∀ (r : Int64) (H1 : Heap) (locs1 : List Loc), post r → StM D dT a A s M H1 locs1 → W p l e R s m args below meth c H1 locs1 cells slots Q (F0 m (pc + 3) ls (.long r :: rest))) : W p l e R s m args below meth c H locs cells slots Q (F0 m pc ls (.int p1 :: .ref (a 0) :: rest)) := by
  exact wCallVl (As := [.int p1]) (rest := rest) (mc := 0) (ms := 0) 0 hC (met_X4_work l D dT a H.size M p1 post hw) (lw_V q1329 q1245 q1246 q89 q1247) ⟨⟨rfl, rfl⟩, hd_X4_work, hR, hf⟩ rfl rfl rfl hA hS hl rfl hrest hdg (fun r u H1 locs1 hp hS1 => kk r H1 locs1 hp.2 (hp.1 ▸ hS1))
end
/-! LeastFramesModel.provesNow -/
def w_X4_provesNow_2b (K2 : MS → Int32 → Prop) (post : Int32 → MS → Prop) (M : MS) (x1 : Int32) : Prop :=
  v_X4_pairs M (fun r1 => (r1 ≤ x1 → (v_X4_bestOf M (M_bars M) (fun r3 M4 => (r3 = ((-1) : Int32) → (post (1 : Int32) M4)) ∧ (¬ r3 = ((-1) : Int32) → (v_X4_workNow M4 (fun r6 => vp_in r3 1024 ∧ (vp_in r3 1024 ∧ (((r6.toInt64 * (M_belows M4 r3.toNatClampNeg)) = (12 * (M_aboves M4 r3.toNatClampNeg)) → (post (2 : Int32) M4)) ∧ (¬ (r6.toInt64 * (M_belows M4 r3.toNatClampNeg)) = (12 * (M_aboves M4 r3.toNatClampNeg)) → (post (1 : Int32) M4)))))))))) ∧ (¬ r1 ≤ x1 → (v_X4_stretchOf M x1 (fun r8 => v_X4_isBar M x1 (fun r9 => (r9 = (0 : Int32) → (∀ v11 : Int32, v11 = x1 + 1 → (K2 M v11))) ∧ (¬ r9 = (0 : Int32) → (v_X4_quad M x1 (fun r12 => ((12 * r12) < r8 → (post (0 : Int32) M)) ∧ (¬ (12 * r12) < r8 → (v_X4_quad M x1 (fun r14 => ((-r8) ≤ (12 * r14) → (∀ v16 : Int32, v16 = x1 + 1 → (K2 M v16))) ∧ (¬ (-r8) ≤ (12 * r14) → (post (0 : Int32) M)))))))))))))
def w_X4_provesNow_2 (post : Int32 → MS → Prop) : Nat → MS → Int32 → Prop
  | 0, _, _ => False
  | n + 1, M, x1 => w_X4_provesNow_2b  (w_X4_provesNow_2 post n) post M x1
def w_X4_provesNow (post : Int32 → MS → Prop) (M : MS) : Prop :=
  ∃ n, w_X4_provesNow_2 post n M 0
abbrev rmX4_provesNow : Room := { frames := 8, cells := 0, slots := 0, locals := 181 }
set_option maxHeartbeats 4000000 in
set_option maxRecDepth 100000 in
theorem k_X4_provesNow_2b {p : Program} {l : Launch} {e : Env} {s : State} {m : MethodId} {args : Array Value} {below : List Frame} {meth : Method} {c : Code} {D : va_G} {dT : Nat → ClassId} {a : Nat → Nat} {A : Nat → Prop}  {K2 : MS → Int32 → Prop} {post : Int32 → MS → Prop} (hC : wCx RX4 cX4_provesNow 3 (some .int) D dT p s m args meth c) (hA : wAz A s) (hK2 : ∀ (M : MS) (x1 : Int32), K2 M x1 → ∀ {H : Heap} {locs : List Loc} {ls : Array Slot}, StM D dT a A s M H locs → lv_has ls 3 [(0, .ref (a 0)), (1, .int x1)] → W p l e rmX4_provesNow s m args below meth c H locs 0 0 (MQ below (va_Qi post (wB D (MW dT a) MI A) A) args s 0 0 A) (F0 m 2 ls [])) (M : MS) (x1 : Int32) {H : Heap} {locs : List Loc} {ls : Array Slot} (hS : StM D dT a A s M H locs) (hl : lv_has ls 3 [(0, .ref (a 0)), (1, .int x1)])  (hw : w_X4_provesNow_2b K2 post M x1) : W p l e rmX4_provesNow s m args below meth c H locs 0 0 (MQ below (va_Qi post (wB D (MW dT a) MI A) A) args s 0 0 A) (F0 m 2 ls []) := by
  have hx := hC.1
  have hb := hC.2.1
  have hown := hC.2.2.2.1
  have hts := hC.2.2.2.2.1
  unfold w_X4_provesNow_2b at hw
  refine lv_iload_n hx hb dX4_provesNow_2 rfl (lv_at hl 1 rfl) ?_
  refine lv_aload_n hx hb dX4_provesNow_3 rfl (lv_at hl 0 rfl) ?_
  refine inv_q1014 hC hA hS hl.1 hw ⟨Nat.le_of_ble_eq_true rfl, Nat.le_of_ble_eq_true rfl⟩ (Nat.le_of_ble_eq_true rfl) ⟨Nat.zero_le _, Nat.zero_le _⟩ dX4_provesNow_4 (fun r1 H locs hw hS => ?_)
  refine lv_icmp_ge (tgt := 57) hx hb dX4_provesNow_7 (by decide) (fun c2 => ?_) (fun c2 => ?_)
  · have hw := hw.1 c2
    refine lv_aload_n hx hb dX4_provesNow_57 rfl (lv_at hl 0 rfl) ?_
    refine lv_aload_n hx hb dX4_provesNow_58 rfl (lv_at hl 0 rfl) ?_
    refine ld_q941 hC hS dX4_provesNow_59 ?_
    refine inv_q1094 hC hA hS hl.1 hw ⟨Nat.le_of_ble_eq_true rfl, Nat.le_of_ble_eq_true rfl⟩ (Nat.le_of_ble_eq_true rfl) ⟨Nat.zero_le _, Nat.zero_le _⟩ dX4_provesNow_62 (fun r3 M4 H locs hw hS => ?_)
    refine lv_istore_n (lv' := [(1, .int r3), (0, .ref (a 0))]) hx hb dX4_provesNow_65 rfl hl (by decide) rfl (fun ls hl => ?_)
    refine lv_iload_n hx hb dX4_provesNow_66 rfl (lv_at hl 0 rfl) ?_
    refine lv_iconst (v := (-1)) hx hb dX4_provesNow_67 (by decide) ?_
    refine lv_icmp_eq (tgt := 101) hx hb dX4_provesNow_68 (by decide) (fun c5 => ?_) (fun c5 => ?_)
    · have hw := hw.1 c5
      refine lv_iconst (v := 1) hx hb dX4_provesNow_101 (by decide) ?_
      exact wReti hC hS hw (Nat.le_refl _) (Nat.le_refl _) dX4_provesNow_102
    · have hw := hw.2 c5
      refine lv_aload_n hx hb dX4_provesNow_71 rfl (lv_at hl 1 rfl) ?_
      refine inv_q1248 hC hA hS hl.1 hw ⟨Nat.le_of_ble_eq_true rfl, Nat.le_of_ble_eq_true rfl⟩ (Nat.le_of_ble_eq_true rfl) ⟨Nat.zero_le _, Nat.zero_le _⟩ dX4_provesNow_72 (fun r6 H locs hw hS => ?_)
      refine lv_i2l hx hb dX4_provesNow_75 rfl ?_
      refine lv_aload_n hx hb dX4_provesNow_76 rfl (lv_at hl 1 rfl) ?_
      refine ld_q947 hC hS dX4_provesNow_77 ?_
      refine lv_iload_n hx hb dX4_provesNow_80 rfl (lv_at hl 0 rfl) ?_
      refine al_belows hC hS hw.1 dX4_provesNow_81 ?_
      have hw := hw.2
      refine lv_lmul hx hb dX4_provesNow_82 ?_
      refine lv_ldc2 (v := 12) hx hb hown (hts _ q1243) dX4_provesNow_83 ?_
      refine lv_aload_n hx hb dX4_provesNow_86 rfl (lv_at hl 1 rfl) ?_
      refine ld_q946 hC hS dX4_provesNow_87 ?_
      refine lv_iload_n hx hb dX4_provesNow_90 rfl (lv_at hl 0 rfl) ?_
      refine al_aboves hC hS hw.1 dX4_provesNow_91 ?_
      have hw := hw.2
      refine lv_lmul hx hb dX4_provesNow_92 ?_
      refine lc_if_ne (tgt := 101) hx hb dX4_provesNow_93 dX4_provesNow_94 (by decide) (fun c7 => ?_) (fun c7 => ?_)
      · have hw := hw.2 c7
        refine lv_iconst (v := 1) hx hb dX4_provesNow_101 (by decide) ?_
        exact wReti hC hS hw (Nat.le_refl _) (Nat.le_refl _) dX4_provesNow_102
      · have hw := hw.1 c7
        refine lv_iconst (v := 2) hx hb dX4_provesNow_97 (by decide) ?_
        refine lv_goto (tgt := 102) hx hb dX4_provesNow_98 (by decide) ?_
        exact wReti hC hS hw (Nat.le_refl _) (Nat.le_refl _) dX4_provesNow_102
  · have hw := hw.2 c2
    refine lv_aload_n hx hb dX4_provesNow_10 rfl (lv_at hl 0 rfl) ?_
    refine lv_iload_n hx hb dX4_provesNow_11 rfl (lv_at hl 1 rfl) ?_
    refine inv_q1235 hC hA hS hl.1 hw ⟨Nat.le_of_ble_eq_true rfl, Nat.le_of_ble_eq_true rfl⟩ (Nat.le_of_ble_eq_true rfl) ⟨Nat.zero_le _, Nat.zero_le _⟩ dX4_provesNow_12 (fun r8 H locs hw hS => ?_)
    refine lv_istore_n (lv' := [(2, .int r8), (0, .ref (a 0)), (1, .int x1)]) hx hb dX4_provesNow_15 rfl hl (by decide) rfl (fun ls hl => ?_)
    refine lv_aload_n hx hb dX4_provesNow_16 rfl (lv_at hl 1 rfl) ?_
    refine lv_iload_n hx hb dX4_provesNow_17 rfl (lv_at hl 2 rfl) ?_
    refine inv_q1171 hC hA hS hl.1 hw ⟨Nat.le_of_ble_eq_true rfl, Nat.le_of_ble_eq_true rfl⟩ (Nat.le_of_ble_eq_true rfl) ⟨Nat.zero_le _, Nat.zero_le _⟩ dX4_provesNow_18 (fun r9 H locs hw hS => ?_)
    refine lv_if_eq (tgt := 51) hx hb dX4_provesNow_21 (by decide) (fun c10 => ?_) (fun c10 => ?_)
    · have hw := hw.1 c10
      obtain ⟨v11, ev11⟩ : ∃ y : Int32, y = x1 + 1 := ⟨_, rfl⟩
      have hw := hw v11 ev11
      refine lv_iinc (v := v11) (lv' := [(1, .int v11), (2, .int r8), (0, .ref (a 0))]) hx hb dX4_provesNow_51 hl (k := 2) rfl (by rw [ev11]; rfl) (by decide) rfl (fun ls hl => ?_)
      refine lv_goto (tgt := 2) hx hb dX4_provesNow_54 (by decide) ?_
      exact hK2 _ _ hw hS (lv_sub hl [2, 0] rfl)
    · have hw := hw.2 c10
      refine lv_iload_n hx hb dX4_provesNow_24 rfl (lv_at hl 0 rfl) ?_
      refine lv_bipush (v := 12) hx hb dX4_provesNow_25 (by decide) ?_
      refine lv_aload_n hx hb dX4_provesNow_27 rfl (lv_at hl 1 rfl) ?_
      refine lv_iload_n hx hb dX4_provesNow_28 rfl (lv_at hl 2 rfl) ?_
      refine inv_q1078 hC hA hS hl.1 hw ⟨Nat.le_of_ble_eq_true rfl, Nat.le_of_ble_eq_true rfl⟩ (Nat.le_of_ble_eq_true rfl) ⟨Nat.zero_le _, Nat.zero_le _⟩ dX4_provesNow_29 (fun r12 H locs hw hS => ?_)
      refine lv_imul hx hb dX4_provesNow_32 ?_
      refine lv_icmp_gt (tgt := 49) hx hb dX4_provesNow_33 (by decide) (fun c13 => ?_) (fun c13 => ?_)
      · have hw := hw.1 c13
        refine lv_iconst (v := 0) hx hb dX4_provesNow_49 (by decide) ?_
        exact wReti hC hS hw (Nat.le_refl _) (Nat.le_refl _) dX4_provesNow_50
      · have hw := hw.2 c13
        refine lv_iload_n hx hb dX4_provesNow_36 rfl (lv_at hl 0 rfl) ?_
        refine lv_ineg hx hb dX4_provesNow_37 ?_
        refine lv_bipush (v := 12) hx hb dX4_provesNow_38 (by decide) ?_
        refine lv_aload_n hx hb dX4_provesNow_40 rfl (lv_at hl 1 rfl) ?_
        refine lv_iload_n hx hb dX4_provesNow_41 rfl (lv_at hl 2 rfl) ?_
        refine inv_q1078 hC hA hS hl.1 hw ⟨Nat.le_of_ble_eq_true rfl, Nat.le_of_ble_eq_true rfl⟩ (Nat.le_of_ble_eq_true rfl) ⟨Nat.zero_le _, Nat.zero_le _⟩ dX4_provesNow_42 (fun r14 H locs hw hS => ?_)
        refine lv_imul hx hb dX4_provesNow_45 ?_
        refine lv_icmp_le (tgt := 51) hx hb dX4_provesNow_46 (by decide) (fun c15 => ?_) (fun c15 => ?_)
        · have hw := hw.1 c15
          obtain ⟨v16, ev16⟩ : ∃ y : Int32, y = x1 + 1 := ⟨_, rfl⟩
          have hw := hw v16 ev16
          refine lv_iinc (v := v16) (lv' := [(1, .int v16), (2, .int r8), (0, .ref (a 0))]) hx hb dX4_provesNow_51 hl (k := 2) rfl (by rw [ev16]; rfl) (by decide) rfl (fun ls hl => ?_)
          refine lv_goto (tgt := 2) hx hb dX4_provesNow_54 (by decide) ?_
          exact hK2 _ _ hw hS (lv_sub hl [2, 0] rfl)
        · have hw := hw.2 c15
          refine lv_iconst (v := 0) hx hb dX4_provesNow_49 (by decide) ?_
          exact wReti hC hS hw (Nat.le_refl _) (Nat.le_refl _) dX4_provesNow_50
set_option maxHeartbeats 4000000 in
set_option maxRecDepth 100000 in
theorem k_X4_provesNow_2 {p : Program} {l : Launch} {e : Env} {s : State} {m : MethodId} {args : Array Value} {below : List Frame} {meth : Method} {c : Code} {D : va_G} {dT : Nat → ClassId} {a : Nat → Nat} {A : Nat → Prop}  {post : Int32 → MS → Prop} (hC : wCx RX4 cX4_provesNow 3 (some .int) D dT p s m args meth c) (hA : wAz A s) : ∀ (M : MS) (x1 : Int32) (n : Nat), ∀ {H : Heap} {locs : List Loc} {ls : Array Slot}, StM D dT a A s M H locs → lv_has ls 3 [(0, .ref (a 0)), (1, .int x1)] → w_X4_provesNow_2 post n M x1 → W p l e rmX4_provesNow s m args below meth c H locs 0 0 (MQ below (va_Qi post (wB D (MW dT a) MI A) A) args s 0 0 A) (F0 m 2 ls []) := by
  intro M x1 n
  induction n generalizing M x1 with
  | zero => intro H locs ls  hS hl hw; exact hw.elim
  | succ n ih =>
    intro H locs ls  hS hl hw
    exact k_X4_provesNow_2b hC hA (fun M x1 hk {H} {locs} {ls}  hS hl => ih M x1  hS hl hk) M x1  hS hl hw
set_option maxHeartbeats 4000000 in
set_option maxRecDepth 100000 in
theorem k_X4_provesNow_0 {p : Program} {l : Launch} {e : Env} {s : State} {m : MethodId} {args : Array Value} {below : List Frame} {meth : Method} {c : Code} {D : va_G} {dT : Nat → ClassId} {a : Nat → Nat} {A : Nat → Prop}  {post : Int32 → MS → Prop} (hC : wCx RX4 cX4_provesNow 3 (some .int) D dT p s m args meth c) (hA : wAz A s) (M : MS) {H : Heap} {locs : List Loc} {ls : Array Slot} (hS : StM D dT a A s M H locs) (hl : lv_has ls 3 [(0, .ref (a 0))])  (hw : w_X4_provesNow post M) : W p l e rmX4_provesNow s m args below meth c H locs 0 0 (MQ below (va_Qi post (wB D (MW dT a) MI A) A) args s 0 0 A) (F0 m 0 ls []) := by
  have hx := hC.1
  have hb := hC.2.1
  have hown := hC.2.2.2.1
  have hts := hC.2.2.2.2.1
  unfold w_X4_provesNow at hw
  refine lv_iconst (v := 0) hx hb dX4_provesNow_0 (by decide) ?_
  refine lv_istore_n (lv' := [(1, .int 0), (0, .ref (a 0))]) hx hb dX4_provesNow_1 rfl hl (by decide) rfl (fun ls hl => ?_)
  obtain ⟨n, hw⟩ := hw
  exact k_X4_provesNow_2 hC hA _ _ n hS (lv_sub hl [1, 0] rfl) hw
abbrev v_X4_provesNow (M : MS) (post : Int32 → MS → Prop) : Prop := w_X4_provesNow post M
set_option maxHeartbeats 4000000 in
set_option maxRecDepth 100000 in
theorem met_X4_provesNow (l : Launch) (D : va_G) (dT : Nat → ClassId) (a : Nat → Nat) (sz : Nat) (M : MS) (post : Int32 → MS → Prop) (hw : v_X4_provesNow M post) : Met l yX4_provesNow (ws_ yX4_provesNow cX4_provesNow 3 (some .int)) rmX4_provesNow (wPc D dT (MW dT a) MI sz M [.ref (a 0)]) (va_Qi post (wB D (MW dT a) MI (va_A ((MW dT a) M) sz)) (va_A ((MW dT a) M) sz)) 0 0 (va_A ((MW dT a) M) sz) :=
  wEnt (Q := fun A => (va_Qi post (wB D (MW dT a) MI A) A)) (by decide) (Nat.le_of_ble_eq_true rfl) (fun p e s m below meth c A ls hC _ hA hS hl => k_X4_provesNow_0 hC hA _ hS hl hw) sz
theorem hd_X4_provesNow : yX4_provesNow.cls ≠ "java/lang/invoke/MethodHandle" ∧ yX4_provesNow.cls ≠ "java/lang/invoke/VarHandle" ∧ (parseMethodDescriptor yX4_provesNow.desc).map (fun d => d.parameters.length) = some 0 := by decide +kernel
section
variable {p : Program} {l : Launch} {e : Env} {R : Room} {s : State} {m : MethodId} {args : Array Value} {below : List Frame} {meth : Method} {c : Code} {H : Heap} {locs : List Loc} {cells slots : Nat} {Q : State → Prop} {cc : ByteArray} {nL : Nat} {ret : Option FieldType} {pc : Nat} {ls : Array Slot} {rest : List Value}
set_option maxHeartbeats 4000000 in
set_option maxRecDepth 100000 in
theorem inv_q1256 {D : va_G} {dT : Nat → ClassId} {a : Nat → Nat} {A : Nat → Prop} {M : MS} {post : Int32 → MS → Prop} (hC : wCx RX4 cc nL ret D dT p s m args meth c) (hA : wAz A s) (hS : StM D dT a A s M H locs) (hl : ls.size = nL) (hw : v_X4_provesNow M post) (hR : rmX4_provesNow.frames + 1 ≤ R.frames ∧ 8 + (3 + 11) + rmX4_provesNow.locals ≤ R.locals) (hrest : (rest.map fun v => v.category).sum ≤ 8) (hf : cells ≤ R.cells ∧ slots ≤ R.slots) (hdg : decode cc pc = .ok (.invokevirtual 207, 3)) (kk : ∀ (r : Int32) (u : MS) (H1 : Heap) (locs1 : List Loc), post r u → StM D dT a A s u H1 locs1 → W p l e R s m args below meth c H1 locs1 cells slots Q (F0 m (pc + 3) ls (.int r :: rest))) : W p l e R s m args below meth c H locs cells slots Q (F0 m pc ls (.ref (a 0) :: rest)) := by
  exact wCallVi (As := []) (rest := rest) (mc := 0) (ms := 0) 0 hC (met_X4_provesNow l D dT a H.size M post hw) (lw_V q1256 q1258 qs77 q89 q1259) ⟨⟨rfl, rfl⟩, hd_X4_provesNow, hR, hf⟩ rfl rfl rfl hA hS hl rfl hrest hdg (fun r u H1 locs1 hp hS1 => kk r u H1 locs1 hp hS1)
end
/-! LeastFramesModel.proves -/
def w_X4_proves (post : Int32 → MS → Prop) (M : MS) : Prop :=
  v_X4_provesNow M (fun r1 M2 => post r1 M2)
abbrev rmX4_proves : Room := { frames := 9, cells := 0, slots := 0, locals := 203 }
set_option maxHeartbeats 4000000 in
set_option maxRecDepth 100000 in
theorem k_X4_proves_0 {p : Program} {l : Launch} {e : Env} {s : State} {m : MethodId} {args : Array Value} {below : List Frame} {meth : Method} {c : Code} {D : va_G} {dT : Nat → ClassId} {a : Nat → Nat} {A : Nat → Prop}  {post : Int32 → MS → Prop} (hC : wCx RX4 cX4_proves 1 (some .int) D dT p s m args meth c) (hA : wAz A s) (M : MS) {H : Heap} {locs : List Loc} {ls : Array Slot} (hS : StM D dT a A s M H locs) (hl : lv_has ls 1 [(0, .ref (a 0))])  (hw : w_X4_proves post M) : W p l e rmX4_proves s m args below meth c H locs 0 0 (MQ below (va_Qi post (wB D (MW dT a) MI A) A) args s 0 0 A) (F0 m 0 ls []) := by
  have hx := hC.1
  have hb := hC.2.1
  have hown := hC.2.2.2.1
  have hts := hC.2.2.2.2.1
  unfold w_X4_proves at hw
  refine lv_aload_n hx hb dX4_proves_0 rfl (lv_at hl 0 rfl) ?_
  refine inv_q1256 hC hA hS hl.1 hw ⟨Nat.le_of_ble_eq_true rfl, Nat.le_of_ble_eq_true rfl⟩ (Nat.le_of_ble_eq_true rfl) ⟨Nat.zero_le _, Nat.zero_le _⟩ dX4_proves_1 (fun r1 M2 H locs hw hS => ?_)
  exact wReti hC hS hw (Nat.le_refl _) (Nat.le_refl _) dX4_proves_4
abbrev v_X4_proves (M : MS) (post : Int32 → MS → Prop) : Prop := w_X4_proves post M
set_option maxHeartbeats 4000000 in
set_option maxRecDepth 100000 in
theorem met_X4_proves (l : Launch) (D : va_G) (dT : Nat → ClassId) (a : Nat → Nat) (sz : Nat) (M : MS) (post : Int32 → MS → Prop) (hw : v_X4_proves M post) : Met l yX4_proves (ws_ yX4_proves cX4_proves 1 (some .int)) rmX4_proves (wPc D dT (MW dT a) MI sz M [.ref (a 0)]) (va_Qi post (wB D (MW dT a) MI (va_A ((MW dT a) M) sz)) (va_A ((MW dT a) M) sz)) 0 0 (va_A ((MW dT a) M) sz) :=
  wEnt (Q := fun A => (va_Qi post (wB D (MW dT a) MI A) A)) (by decide) (Nat.le_of_ble_eq_true rfl) (fun p e s m below meth c A ls hC _ hA hS hl => k_X4_proves_0 hC hA _ hS hl hw) sz
theorem hd_X4_proves : yX4_proves.cls ≠ "java/lang/invoke/MethodHandle" ∧ yX4_proves.cls ≠ "java/lang/invoke/VarHandle" ∧ (parseMethodDescriptor yX4_proves.desc).map (fun d => d.parameters.length) = some 0 := by decide +kernel
/-! LeastFramesModel.isCross -/
def w_X4_isCross_135 (p1 : Int32) (p2 : Int32) (post : Int32 → MS → Prop) (M : MS) (x3 : Int32) (x4 : Int32) (x5 : Int32) (y0 : Int32) : Prop :=
  ∀ M1 : MS, M1 = sM_under M ((M_under M) * y0) → (v_X4_far M1 p2 (1 : Int32) (fun r2 => v_X4_far M1 p2 (0 : Int32) (fun r3 => ∀ M4 : MS, M4 = sM_sHit M1 (y0 * ((x4 * r2) - (x5 * r3))) → (v_X4_far M4 p1 (1 : Int32) (fun r5 => v_X4_far M4 p1 (0 : Int32) (fun r6 => ∀ M7 : MS, M7 = sM_tHit M4 (y0 * ((x4 * r5) - (x5 * r6))) → ((x3 = (0 : Int32) → (post (0 : Int32) M7)) ∧ (¬ x3 = (0 : Int32) → (((M_under M7) = (0 : Int32) → (post (0 : Int32) M7)) ∧ (¬ (M_under M7) = (0 : Int32) → (v_X4_in (M_sHit M7) (1 : Int32) ((M_under M7) - 1) (fun r10 => (r10 = (0 : Int32) → (post (0 : Int32) M7)) ∧ (¬ r10 = (0 : Int32) → (v_X4_in (M_tHit M7) (1 : Int32) ((M_under M7) - 1) (fun r12 => (r12 = (0 : Int32) → (post (0 : Int32) M7)) ∧ (¬ r12 = (0 : Int32) → (post (1 : Int32) M7)))))))))))))))))
def w_X4_isCross_49 (p1 : Int32) (p2 : Int32) (post : Int32 → MS → Prop) (M : MS) (y0 : Int32) : Prop :=
  v_X4_lesser p2 (fun r1 => vp_in r1 5 ∧ (v_X4_lesser p1 (fun r2 => vp_in r2 5 ∧ (∀ v3 : Int32, v3 = (M_xs M r1.toNatClampNeg) - (M_xs M r2.toNatClampNeg) → (v_X4_lesser p2 (fun r4 => vp_in r4 5 ∧ (v_X4_lesser p1 (fun r5 => vp_in r5 5 ∧ (∀ v6 : Int32, v6 = (M_ys M r4.toNatClampNeg) - (M_ys M r5.toNatClampNeg) → (v_X4_far M p1 (0 : Int32) (fun r7 => v_X4_far M p2 (1 : Int32) (fun r8 => v_X4_far M p1 (1 : Int32) (fun r9 => v_X4_far M p2 (0 : Int32) (fun r10 => ∀ M11 : MS, M11 = sM_under M ((r7 * r8) - (r9 * r10)) → (((0 : Int32) ≤ (M_under M11) → (w_X4_isCross_135 p1 p2 post M11 y0 v3 v6 1)) ∧ (¬ (0 : Int32) ≤ (M_under M11) → (w_X4_isCross_135 p1 p2 post M11 y0 v3 v6 (-1))))))))))))))))))
def w_X4_isCross (p1 : Int32) (p2 : Int32) (post : Int32 → MS → Prop) (M : MS) : Prop :=
  v_X4_lesser p1 (fun r1 => v_X4_lesser p2 (fun r2 => (r1 = r2 → (w_X4_isCross_49 p1 p2 post M 0)) ∧ (¬ r1 = r2 → (v_X4_lesser p1 (fun r4 => v_X4_greater p2 (fun r5 => (r4 = r5 → (w_X4_isCross_49 p1 p2 post M 0)) ∧ (¬ r4 = r5 → (v_X4_greater p1 (fun r7 => v_X4_lesser p2 (fun r8 => (r7 = r8 → (w_X4_isCross_49 p1 p2 post M 0)) ∧ (¬ r7 = r8 → (v_X4_greater p1 (fun r10 => v_X4_greater p2 (fun r11 => (r10 = r11 → (w_X4_isCross_49 p1 p2 post M 0)) ∧ (¬ r10 = r11 → (w_X4_isCross_49 p1 p2 post M 1))))))))))))))))
abbrev rmX4_isCross : Room := { frames := 3, cells := 0, slots := 0, locals := 66 }
set_option maxHeartbeats 4000000 in
set_option maxRecDepth 100000 in
theorem k_X4_isCross_135 {p : Program} {l : Launch} {e : Env} {s : State} {m : MethodId} {args : Array Value} {below : List Frame} {meth : Method} {c : Code} {D : va_G} {dT : Nat → ClassId} {a : Nat → Nat} {A : Nat → Prop}  {p1 : Int32} {p2 : Int32} {post : Int32 → MS → Prop} (hC : wCx RX4 cX4_isCross 7 (some .boolean) D dT p s m args meth c) (hA : wAz A s) (M : MS) (x3 : Int32) (x4 : Int32) (x5 : Int32) (y0 : Int32) {H : Heap} {locs : List Loc} {ls : Array Slot} (hS : StM D dT a A s M H locs) (hl : lv_has ls 7 [(0, .ref (a 0)), (1, .int p1), (2, .int p2), (3, .int x3), (4, .int x4), (5, .int x5)])  (hw : w_X4_isCross_135 p1 p2 post M x3 x4 x5 y0) : W p l e rmX4_isCross s m args below meth c H locs 0 0 (MQ below (va_Qi post (wB D (MW dT a) MI A) A) args s 0 0 A) (F0 m 135 ls [.int y0]) := by
  have hx := hC.1
  have hb := hC.2.1
  have hown := hC.2.2.2.1
  have hts := hC.2.2.2.2.1
  unfold w_X4_isCross_135 at hw
  refine lv_istore (lv' := [(6, .int y0), (0, .ref (a 0)), (1, .int p1), (2, .int p2), (3, .int x3), (4, .int x4), (5, .int x5)]) hx hb dX4_isCross_135 hl (by decide) rfl (fun ls hl => ?_)
  refine lv_aload_n hx hb dX4_isCross_137 rfl (lv_at hl 1 rfl) ?_
  refine lv_dup hx hb dX4_isCross_138 rfl ?_
  refine ld_q951 hC hS dX4_isCross_139 ?_
  refine lv_iload hx hb dX4_isCross_142 (lv_at hl 0 rfl) ?_
  refine lv_imul hx hb dX4_isCross_144 ?_
  refine st_q951 hC hS dX4_isCross_145 (fun H locs hS => ?_)
  have hw := hw (sM_under M ((M_under M) * y0)) rfl
  generalize sM_under M ((M_under M) * y0) = M1 at hS hw
  refine lv_aload_n hx hb dX4_isCross_148 rfl (lv_at hl 1 rfl) ?_
  refine lv_iload hx hb dX4_isCross_149 (lv_at hl 0 rfl) ?_
  refine lv_iload hx hb dX4_isCross_151 (lv_at hl 5 rfl) ?_
  refine lv_aload_n hx hb dX4_isCross_153 rfl (lv_at hl 1 rfl) ?_
  refine lv_iload_n hx hb dX4_isCross_154 rfl (lv_at hl 3 rfl) ?_
  refine lv_iconst (v := 1) hx hb dX4_isCross_155 (by decide) ?_
  refine inv_q1082 hC hA hS hl.1 hw ⟨Nat.le_of_ble_eq_true rfl, Nat.le_of_ble_eq_true rfl⟩ (Nat.le_of_ble_eq_true rfl) ⟨Nat.zero_le _, Nat.zero_le _⟩ dX4_isCross_156 (fun r2 H locs hw hS => ?_)
  refine lv_imul hx hb dX4_isCross_159 ?_
  refine lv_iload hx hb dX4_isCross_160 (lv_at hl 6 rfl) ?_
  refine lv_aload_n hx hb dX4_isCross_162 rfl (lv_at hl 1 rfl) ?_
  refine lv_iload_n hx hb dX4_isCross_163 rfl (lv_at hl 3 rfl) ?_
  refine lv_iconst (v := 0) hx hb dX4_isCross_164 (by decide) ?_
  refine inv_q1082 hC hA hS hl.1 hw ⟨Nat.le_of_ble_eq_true rfl, Nat.le_of_ble_eq_true rfl⟩ (Nat.le_of_ble_eq_true rfl) ⟨Nat.zero_le _, Nat.zero_le _⟩ dX4_isCross_165 (fun r3 H locs hw hS => ?_)
  refine lv_imul hx hb dX4_isCross_168 ?_
  refine lv_isub hx hb dX4_isCross_169 ?_
  refine lv_imul hx hb dX4_isCross_170 ?_
  refine st_q949 hC hS dX4_isCross_171 (fun H locs hS => ?_)
  have hw := hw (sM_sHit M1 (y0 * ((x4 * r2) - (x5 * r3)))) rfl
  generalize sM_sHit M1 (y0 * ((x4 * r2) - (x5 * r3))) = M4 at hS hw
  refine lv_aload_n hx hb dX4_isCross_174 rfl (lv_at hl 1 rfl) ?_
  refine lv_iload hx hb dX4_isCross_175 (lv_at hl 0 rfl) ?_
  refine lv_iload hx hb dX4_isCross_177 (lv_at hl 5 rfl) ?_
  refine lv_aload_n hx hb dX4_isCross_179 rfl (lv_at hl 1 rfl) ?_
  refine lv_iload_n hx hb dX4_isCross_180 rfl (lv_at hl 2 rfl) ?_
  refine lv_iconst (v := 1) hx hb dX4_isCross_181 (by decide) ?_
  refine inv_q1082 hC hA hS hl.1 hw ⟨Nat.le_of_ble_eq_true rfl, Nat.le_of_ble_eq_true rfl⟩ (Nat.le_of_ble_eq_true rfl) ⟨Nat.zero_le _, Nat.zero_le _⟩ dX4_isCross_182 (fun r5 H locs hw hS => ?_)
  refine lv_imul hx hb dX4_isCross_185 ?_
  refine lv_iload hx hb dX4_isCross_186 (lv_at hl 6 rfl) ?_
  refine lv_aload_n hx hb dX4_isCross_188 rfl (lv_at hl 1 rfl) ?_
  refine lv_iload_n hx hb dX4_isCross_189 rfl (lv_at hl 2 rfl) ?_
  refine lv_iconst (v := 0) hx hb dX4_isCross_190 (by decide) ?_
  refine inv_q1082 hC hA hS hl.1 hw ⟨Nat.le_of_ble_eq_true rfl, Nat.le_of_ble_eq_true rfl⟩ (Nat.le_of_ble_eq_true rfl) ⟨Nat.zero_le _, Nat.zero_le _⟩ dX4_isCross_191 (fun r6 H locs hw hS => ?_)
  refine lv_imul hx hb dX4_isCross_194 ?_
  refine lv_isub hx hb dX4_isCross_195 ?_
  refine lv_imul hx hb dX4_isCross_196 ?_
  refine st_q950 hC hS dX4_isCross_197 (fun H locs hS => ?_)
  have hw := hw (sM_tHit M4 (y0 * ((x4 * r5) - (x5 * r6)))) rfl
  generalize sM_tHit M4 (y0 * ((x4 * r5) - (x5 * r6))) = M7 at hS hw
  refine lv_iload_n hx hb dX4_isCross_200 rfl (lv_at hl 4 rfl) ?_
  refine lv_if_eq (tgt := 249) hx hb dX4_isCross_201 (by decide) (fun c8 => ?_) (fun c8 => ?_)
  · have hw := hw.1 c8
    refine lv_iconst (v := 0) hx hb dX4_isCross_249 (by decide) ?_
    exact wRetz hC hS (by decide) hw (Nat.le_refl _) (Nat.le_refl _) dX4_isCross_250
  · have hw := hw.2 c8
    refine lv_aload_n hx hb dX4_isCross_204 rfl (lv_at hl 1 rfl) ?_
    refine ld_q951 hC hS dX4_isCross_205 ?_
    refine lv_if_eq (tgt := 249) hx hb dX4_isCross_208 (by decide) (fun c9 => ?_) (fun c9 => ?_)
    · have hw := hw.1 c9
      refine lv_iconst (v := 0) hx hb dX4_isCross_249 (by decide) ?_
      exact wRetz hC hS (by decide) hw (Nat.le_refl _) (Nat.le_refl _) dX4_isCross_250
    · have hw := hw.2 c9
      refine lv_aload_n hx hb dX4_isCross_211 rfl (lv_at hl 1 rfl) ?_
      refine ld_q949 hC hS dX4_isCross_212 ?_
      refine lv_iconst (v := 1) hx hb dX4_isCross_215 (by decide) ?_
      refine lv_aload_n hx hb dX4_isCross_216 rfl (lv_at hl 1 rfl) ?_
      refine ld_q951 hC hS dX4_isCross_217 ?_
      refine lv_iconst (v := 1) hx hb dX4_isCross_220 (by decide) ?_
      refine lv_isub hx hb dX4_isCross_221 ?_
      refine inv_q1007 hC hS hl.1 hw ⟨Nat.le_of_ble_eq_true rfl, Nat.le_of_ble_eq_true rfl⟩ (Nat.le_of_ble_eq_true rfl) ⟨Nat.zero_le _, Nat.zero_le _⟩ dX4_isCross_222 (fun r10 H locs hw hS => ?_)
      refine lv_if_eq (tgt := 249) hx hb dX4_isCross_225 (by decide) (fun c11 => ?_) (fun c11 => ?_)
      · have hw := hw.1 c11
        refine lv_iconst (v := 0) hx hb dX4_isCross_249 (by decide) ?_
        exact wRetz hC hS (by decide) hw (Nat.le_refl _) (Nat.le_refl _) dX4_isCross_250
      · have hw := hw.2 c11
        refine lv_aload_n hx hb dX4_isCross_228 rfl (lv_at hl 1 rfl) ?_
        refine ld_q950 hC hS dX4_isCross_229 ?_
        refine lv_iconst (v := 1) hx hb dX4_isCross_232 (by decide) ?_
        refine lv_aload_n hx hb dX4_isCross_233 rfl (lv_at hl 1 rfl) ?_
        refine ld_q951 hC hS dX4_isCross_234 ?_
        refine lv_iconst (v := 1) hx hb dX4_isCross_237 (by decide) ?_
        refine lv_isub hx hb dX4_isCross_238 ?_
        refine inv_q1007 hC hS hl.1 hw ⟨Nat.le_of_ble_eq_true rfl, Nat.le_of_ble_eq_true rfl⟩ (Nat.le_of_ble_eq_true rfl) ⟨Nat.zero_le _, Nat.zero_le _⟩ dX4_isCross_239 (fun r12 H locs hw hS => ?_)
        refine lv_if_eq (tgt := 249) hx hb dX4_isCross_242 (by decide) (fun c13 => ?_) (fun c13 => ?_)
        · have hw := hw.1 c13
          refine lv_iconst (v := 0) hx hb dX4_isCross_249 (by decide) ?_
          exact wRetz hC hS (by decide) hw (Nat.le_refl _) (Nat.le_refl _) dX4_isCross_250
        · have hw := hw.2 c13
          refine lv_iconst (v := 1) hx hb dX4_isCross_245 (by decide) ?_
          refine lv_goto (tgt := 250) hx hb dX4_isCross_246 (by decide) ?_
          exact wRetz hC hS (by decide) hw (Nat.le_refl _) (Nat.le_refl _) dX4_isCross_250
set_option maxHeartbeats 4000000 in
set_option maxRecDepth 100000 in
theorem k_X4_isCross_49 {p : Program} {l : Launch} {e : Env} {s : State} {m : MethodId} {args : Array Value} {below : List Frame} {meth : Method} {c : Code} {D : va_G} {dT : Nat → ClassId} {a : Nat → Nat} {A : Nat → Prop}  {p1 : Int32} {p2 : Int32} {post : Int32 → MS → Prop} (hC : wCx RX4 cX4_isCross 7 (some .boolean) D dT p s m args meth c) (hA : wAz A s) (M : MS) (y0 : Int32) {H : Heap} {locs : List Loc} {ls : Array Slot} (hS : StM D dT a A s M H locs) (hl : lv_has ls 7 [(0, .ref (a 0)), (1, .int p1), (2, .int p2)])  (hw : w_X4_isCross_49 p1 p2 post M y0) : W p l e rmX4_isCross s m args below meth c H locs 0 0 (MQ below (va_Qi post (wB D (MW dT a) MI A) A) args s 0 0 A) (F0 m 49 ls [.int y0]) := by
  have hx := hC.1
  have hb := hC.2.1
  have hown := hC.2.2.2.1
  have hts := hC.2.2.2.2.1
  unfold w_X4_isCross_49 at hw
  refine lv_istore_n (lv' := [(3, .int y0), (0, .ref (a 0)), (1, .int p1), (2, .int p2)]) hx hb dX4_isCross_49 rfl hl (by decide) rfl (fun ls hl => ?_)
  refine lv_aload_n hx hb dX4_isCross_50 rfl (lv_at hl 1 rfl) ?_
  refine ld_q935 hC hS dX4_isCross_51 ?_
  refine lv_iload_n hx hb dX4_isCross_54 rfl (lv_at hl 3 rfl) ?_
  refine inv_q1072 hC hS hl.1 hw ⟨Nat.le_of_ble_eq_true rfl, Nat.le_of_ble_eq_true rfl⟩ (Nat.le_of_ble_eq_true rfl) ⟨Nat.zero_le _, Nat.zero_le _⟩ dX4_isCross_55 (fun r1 H locs hw hS => ?_)
  refine al_xs hC hS hw.1 dX4_isCross_58 ?_
  have hw := hw.2
  refine lv_aload_n hx hb dX4_isCross_59 rfl (lv_at hl 1 rfl) ?_
  refine ld_q935 hC hS dX4_isCross_60 ?_
  refine lv_iload_n hx hb dX4_isCross_63 rfl (lv_at hl 2 rfl) ?_
  refine inv_q1072 hC hS hl.1 hw ⟨Nat.le_of_ble_eq_true rfl, Nat.le_of_ble_eq_true rfl⟩ (Nat.le_of_ble_eq_true rfl) ⟨Nat.zero_le _, Nat.zero_le _⟩ dX4_isCross_64 (fun r2 H locs hw hS => ?_)
  refine al_xs hC hS hw.1 dX4_isCross_67 ?_
  have hw := hw.2
  refine lv_isub hx hb dX4_isCross_68 ?_
  refine lv_topi (fun v3 ev3 => ?_)
  have hw := hw v3 ev3
  refine lv_istore (lv' := [(4, .int v3), (3, .int y0), (0, .ref (a 0)), (1, .int p1), (2, .int p2)]) hx hb dX4_isCross_69 hl (by decide) rfl (fun ls hl => ?_)
  refine lv_aload_n hx hb dX4_isCross_71 rfl (lv_at hl 2 rfl) ?_
  refine ld_q936 hC hS dX4_isCross_72 ?_
  refine lv_iload_n hx hb dX4_isCross_75 rfl (lv_at hl 4 rfl) ?_
  refine inv_q1072 hC hS hl.1 hw ⟨Nat.le_of_ble_eq_true rfl, Nat.le_of_ble_eq_true rfl⟩ (Nat.le_of_ble_eq_true rfl) ⟨Nat.zero_le _, Nat.zero_le _⟩ dX4_isCross_76 (fun r4 H locs hw hS => ?_)
  refine al_ys hC hS hw.1 dX4_isCross_79 ?_
  have hw := hw.2
  refine lv_aload_n hx hb dX4_isCross_80 rfl (lv_at hl 2 rfl) ?_
  refine ld_q936 hC hS dX4_isCross_81 ?_
  refine lv_iload_n hx hb dX4_isCross_84 rfl (lv_at hl 3 rfl) ?_
  refine inv_q1072 hC hS hl.1 hw ⟨Nat.le_of_ble_eq_true rfl, Nat.le_of_ble_eq_true rfl⟩ (Nat.le_of_ble_eq_true rfl) ⟨Nat.zero_le _, Nat.zero_le _⟩ dX4_isCross_85 (fun r5 H locs hw hS => ?_)
  refine al_ys hC hS hw.1 dX4_isCross_88 ?_
  have hw := hw.2
  refine lv_isub hx hb dX4_isCross_89 ?_
  refine lv_topi (fun v6 ev6 => ?_)
  have hw := hw v6 ev6
  refine lv_istore (lv' := [(5, .int v6), (4, .int v3), (3, .int y0), (0, .ref (a 0)), (1, .int p1), (2, .int p2)]) hx hb dX4_isCross_90 hl (by decide) rfl (fun ls hl => ?_)
  refine lv_aload_n hx hb dX4_isCross_92 rfl (lv_at hl 3 rfl) ?_
  refine lv_aload_n hx hb dX4_isCross_93 rfl (lv_at hl 3 rfl) ?_
  refine lv_iload_n hx hb dX4_isCross_94 rfl (lv_at hl 4 rfl) ?_
  refine lv_iconst (v := 0) hx hb dX4_isCross_95 (by decide) ?_
  refine inv_q1082 hC hA hS hl.1 hw ⟨Nat.le_of_ble_eq_true rfl, Nat.le_of_ble_eq_true rfl⟩ (Nat.le_of_ble_eq_true rfl) ⟨Nat.zero_le _, Nat.zero_le _⟩ dX4_isCross_96 (fun r7 H locs hw hS => ?_)
  refine lv_aload_n hx hb dX4_isCross_99 rfl (lv_at hl 3 rfl) ?_
  refine lv_iload_n hx hb dX4_isCross_100 rfl (lv_at hl 5 rfl) ?_
  refine lv_iconst (v := 1) hx hb dX4_isCross_101 (by decide) ?_
  refine inv_q1082 hC hA hS hl.1 hw ⟨Nat.le_of_ble_eq_true rfl, Nat.le_of_ble_eq_true rfl⟩ (Nat.le_of_ble_eq_true rfl) ⟨Nat.zero_le _, Nat.zero_le _⟩ dX4_isCross_102 (fun r8 H locs hw hS => ?_)
  refine lv_imul hx hb dX4_isCross_105 ?_
  refine lv_aload_n hx hb dX4_isCross_106 rfl (lv_at hl 3 rfl) ?_
  refine lv_iload_n hx hb dX4_isCross_107 rfl (lv_at hl 4 rfl) ?_
  refine lv_iconst (v := 1) hx hb dX4_isCross_108 (by decide) ?_
  refine inv_q1082 hC hA hS hl.1 hw ⟨Nat.le_of_ble_eq_true rfl, Nat.le_of_ble_eq_true rfl⟩ (Nat.le_of_ble_eq_true rfl) ⟨Nat.zero_le _, Nat.zero_le _⟩ dX4_isCross_109 (fun r9 H locs hw hS => ?_)
  refine lv_aload_n hx hb dX4_isCross_112 rfl (lv_at hl 3 rfl) ?_
  refine lv_iload_n hx hb dX4_isCross_113 rfl (lv_at hl 5 rfl) ?_
  refine lv_iconst (v := 0) hx hb dX4_isCross_114 (by decide) ?_
  refine inv_q1082 hC hA hS hl.1 hw ⟨Nat.le_of_ble_eq_true rfl, Nat.le_of_ble_eq_true rfl⟩ (Nat.le_of_ble_eq_true rfl) ⟨Nat.zero_le _, Nat.zero_le _⟩ dX4_isCross_115 (fun r10 H locs hw hS => ?_)
  refine lv_imul hx hb dX4_isCross_118 ?_
  refine lv_isub hx hb dX4_isCross_119 ?_
  refine st_q951 hC hS dX4_isCross_120 (fun H locs hS => ?_)
  have hw := hw (sM_under M ((r7 * r8) - (r9 * r10))) rfl
  generalize sM_under M ((r7 * r8) - (r9 * r10)) = M11 at hS hw
  refine lv_aload_n hx hb dX4_isCross_123 rfl (lv_at hl 3 rfl) ?_
  refine ld_q951 hC hS dX4_isCross_124 ?_
  refine lv_if_ge (tgt := 134) hx hb dX4_isCross_127 (by decide) (fun c12 => ?_) (fun c12 => ?_)
  · have hw := hw.1 c12
    refine lv_iconst (v := 1) hx hb dX4_isCross_134 (by decide) ?_
    exact k_X4_isCross_135 hC hA _ _ _ _ _ hS (lv_sub hl [3, 4, 5, 2, 1, 0] rfl) hw
  · have hw := hw.2 c12
    refine lv_iconst (v := (-1)) hx hb dX4_isCross_130 (by decide) ?_
    refine lv_goto (tgt := 135) hx hb dX4_isCross_131 (by decide) ?_
    exact k_X4_isCross_135 hC hA _ _ _ _ _ hS (lv_sub hl [3, 4, 5, 2, 1, 0] rfl) hw
set_option maxHeartbeats 4000000 in
set_option maxRecDepth 100000 in
theorem k_X4_isCross_0 {p : Program} {l : Launch} {e : Env} {s : State} {m : MethodId} {args : Array Value} {below : List Frame} {meth : Method} {c : Code} {D : va_G} {dT : Nat → ClassId} {a : Nat → Nat} {A : Nat → Prop}  {p1 : Int32} {p2 : Int32} {post : Int32 → MS → Prop} (hC : wCx RX4 cX4_isCross 7 (some .boolean) D dT p s m args meth c) (hA : wAz A s) (M : MS) {H : Heap} {locs : List Loc} {ls : Array Slot} (hS : StM D dT a A s M H locs) (hl : lv_has ls 7 [(0, .ref (a 0)), (1, .int p1), (2, .int p2)])  (hw : w_X4_isCross p1 p2 post M) : W p l e rmX4_isCross s m args below meth c H locs 0 0 (MQ below (va_Qi post (wB D (MW dT a) MI A) A) args s 0 0 A) (F0 m 0 ls []) := by
  have hx := hC.1
  have hb := hC.2.1
  have hown := hC.2.2.2.1
  have hts := hC.2.2.2.2.1
  unfold w_X4_isCross at hw
  refine lv_iload_n hx hb dX4_isCross_0 rfl (lv_at hl 1 rfl) ?_
  refine inv_q1072 hC hS hl.1 hw ⟨Nat.le_of_ble_eq_true rfl, Nat.le_of_ble_eq_true rfl⟩ (Nat.le_of_ble_eq_true rfl) ⟨Nat.zero_le _, Nat.zero_le _⟩ dX4_isCross_1 (fun r1 H locs hw hS => ?_)
  refine lv_iload_n hx hb dX4_isCross_4 rfl (lv_at hl 2 rfl) ?_
  refine inv_q1072 hC hS hl.1 hw ⟨Nat.le_of_ble_eq_true rfl, Nat.le_of_ble_eq_true rfl⟩ (Nat.le_of_ble_eq_true rfl) ⟨Nat.zero_le _, Nat.zero_le _⟩ dX4_isCross_5 (fun r2 H locs hw hS => ?_)
  refine lv_icmp_eq (tgt := 48) hx hb dX4_isCross_8 (by decide) (fun c3 => ?_) (fun c3 => ?_)
  · have hw := hw.1 c3
    refine lv_iconst (v := 0) hx hb dX4_isCross_48 (by decide) ?_
    exact k_X4_isCross_49 hC hA _ _ hS (lv_sub hl [0, 1, 2] rfl) hw
  · have hw := hw.2 c3
    refine lv_iload_n hx hb dX4_isCross_11 rfl (lv_at hl 1 rfl) ?_
    refine inv_q1072 hC hS hl.1 hw ⟨Nat.le_of_ble_eq_true rfl, Nat.le_of_ble_eq_true rfl⟩ (Nat.le_of_ble_eq_true rfl) ⟨Nat.zero_le _, Nat.zero_le _⟩ dX4_isCross_12 (fun r4 H locs hw hS => ?_)
    refine lv_iload_n hx hb dX4_isCross_15 rfl (lv_at hl 2 rfl) ?_
    refine inv_q1075 hC hS hl.1 hw ⟨Nat.le_of_ble_eq_true rfl, Nat.le_of_ble_eq_true rfl⟩ (Nat.le_of_ble_eq_true rfl) ⟨Nat.zero_le _, Nat.zero_le _⟩ dX4_isCross_16 (fun r5 H locs hw hS => ?_)
    refine lv_icmp_eq (tgt := 48) hx hb dX4_isCross_19 (by decide) (fun c6 => ?_) (fun c6 => ?_)
    · have hw := hw.1 c6
      refine lv_iconst (v := 0) hx hb dX4_isCross_48 (by decide) ?_
      exact k_X4_isCross_49 hC hA _ _ hS (lv_sub hl [0, 1, 2] rfl) hw
    · have hw := hw.2 c6
      refine lv_iload_n hx hb dX4_isCross_22 rfl (lv_at hl 1 rfl) ?_
      refine inv_q1075 hC hS hl.1 hw ⟨Nat.le_of_ble_eq_true rfl, Nat.le_of_ble_eq_true rfl⟩ (Nat.le_of_ble_eq_true rfl) ⟨Nat.zero_le _, Nat.zero_le _⟩ dX4_isCross_23 (fun r7 H locs hw hS => ?_)
      refine lv_iload_n hx hb dX4_isCross_26 rfl (lv_at hl 2 rfl) ?_
      refine inv_q1072 hC hS hl.1 hw ⟨Nat.le_of_ble_eq_true rfl, Nat.le_of_ble_eq_true rfl⟩ (Nat.le_of_ble_eq_true rfl) ⟨Nat.zero_le _, Nat.zero_le _⟩ dX4_isCross_27 (fun r8 H locs hw hS => ?_)
      refine lv_icmp_eq (tgt := 48) hx hb dX4_isCross_30 (by decide) (fun c9 => ?_) (fun c9 => ?_)
      · have hw := hw.1 c9
        refine lv_iconst (v := 0) hx hb dX4_isCross_48 (by decide) ?_
        exact k_X4_isCross_49 hC hA _ _ hS (lv_sub hl [0, 1, 2] rfl) hw
      · have hw := hw.2 c9
        refine lv_iload_n hx hb dX4_isCross_33 rfl (lv_at hl 1 rfl) ?_
        refine inv_q1075 hC hS hl.1 hw ⟨Nat.le_of_ble_eq_true rfl, Nat.le_of_ble_eq_true rfl⟩ (Nat.le_of_ble_eq_true rfl) ⟨Nat.zero_le _, Nat.zero_le _⟩ dX4_isCross_34 (fun r10 H locs hw hS => ?_)
        refine lv_iload_n hx hb dX4_isCross_37 rfl (lv_at hl 2 rfl) ?_
        refine inv_q1075 hC hS hl.1 hw ⟨Nat.le_of_ble_eq_true rfl, Nat.le_of_ble_eq_true rfl⟩ (Nat.le_of_ble_eq_true rfl) ⟨Nat.zero_le _, Nat.zero_le _⟩ dX4_isCross_38 (fun r11 H locs hw hS => ?_)
        refine lv_icmp_eq (tgt := 48) hx hb dX4_isCross_41 (by decide) (fun c12 => ?_) (fun c12 => ?_)
        · have hw := hw.1 c12
          refine lv_iconst (v := 0) hx hb dX4_isCross_48 (by decide) ?_
          exact k_X4_isCross_49 hC hA _ _ hS (lv_sub hl [0, 1, 2] rfl) hw
        · have hw := hw.2 c12
          refine lv_iconst (v := 1) hx hb dX4_isCross_44 (by decide) ?_
          refine lv_goto (tgt := 49) hx hb dX4_isCross_45 (by decide) ?_
          exact k_X4_isCross_49 hC hA _ _ hS (lv_sub hl [0, 1, 2] rfl) hw
abbrev v_X4_isCross (M : MS) (p1 : Int32) (p2 : Int32) (post : Int32 → MS → Prop) : Prop := w_X4_isCross p1 p2 post M
set_option maxHeartbeats 4000000 in
set_option maxRecDepth 100000 in
theorem met_X4_isCross (l : Launch) (D : va_G) (dT : Nat → ClassId) (a : Nat → Nat) (sz : Nat) (M : MS) (p1 : Int32) (p2 : Int32) (post : Int32 → MS → Prop) (hw : v_X4_isCross M p1 p2 post) : Met l yX4_isCross (ws_ yX4_isCross cX4_isCross 7 (some .boolean)) rmX4_isCross (wPc D dT (MW dT a) MI sz M [.ref (a 0), .int p1, .int p2]) (va_Qi post (wB D (MW dT a) MI (va_A ((MW dT a) M) sz)) (va_A ((MW dT a) M) sz)) 0 0 (va_A ((MW dT a) M) sz) :=
  wEnt (Q := fun A => (va_Qi post (wB D (MW dT a) MI A) A)) (by decide) (Nat.le_of_ble_eq_true rfl) (fun p e s m below meth c A ls hC _ hA hS hl => k_X4_isCross_0 hC hA _ hS hl hw) sz
theorem hd_X4_isCross : yX4_isCross.cls ≠ "java/lang/invoke/MethodHandle" ∧ yX4_isCross.cls ≠ "java/lang/invoke/VarHandle" ∧ (parseMethodDescriptor yX4_isCross.desc).map (fun d => d.parameters.length) = some 2 := by decide +kernel
section
variable {p : Program} {l : Launch} {e : Env} {R : Room} {s : State} {m : MethodId} {args : Array Value} {below : List Frame} {meth : Method} {c : Code} {H : Heap} {locs : List Loc} {cells slots : Nat} {Q : State → Prop} {cc : ByteArray} {nL : Nat} {ret : Option FieldType} {pc : Nat} {ls : Array Slot} {rest : List Value}
set_option maxHeartbeats 4000000 in
set_option maxRecDepth 100000 in
theorem inv_q1272 {D : va_G} {dT : Nat → ClassId} {a : Nat → Nat} {A : Nat → Prop} {M : MS} {p1 : Int32} {p2 : Int32} {post : Int32 → MS → Prop} (hC : wCx RX4 cc nL ret D dT p s m args meth c) (hA : wAz A s) (hS : StM D dT a A s M H locs) (hl : ls.size = nL) (hw : v_X4_isCross M p1 p2 post) (hR : rmX4_isCross.frames + 1 ≤ R.frames ∧ 8 + (7 + 11) + rmX4_isCross.locals ≤ R.locals) (hrest : (rest.map fun v => v.category).sum ≤ 8) (hf : cells ≤ R.cells ∧ slots ≤ R.slots) (hdg : decode cc pc = .ok (.invokevirtual 219, 3)) (kk : ∀ (r : Int32) (u : MS) (H1 : Heap) (locs1 : List Loc), post r u → StM D dT a A s u H1 locs1 → W p l e R s m args below meth c H1 locs1 cells slots Q (F0 m (pc + 3) ls (.int r :: rest))) : W p l e R s m args below meth c H locs cells slots Q (F0 m pc ls (.int p2 :: .int p1 :: .ref (a 0) :: rest)) := by
  exact wCallVi (As := [.int p1, .int p2]) (rest := rest) (mc := 0) (ms := 0) 0 hC (met_X4_isCross l D dT a H.size M p1 p2 post hw) (lw_V q1272 q1274 qs80 q89 q1275) ⟨⟨rfl, rfl⟩, hd_X4_isCross, hR, hf⟩ rfl rfl rfl hA hS hl rfl hrest hdg (fun r u H1 locs1 hp hS1 => kk r u H1 locs1 hp hS1)
end
