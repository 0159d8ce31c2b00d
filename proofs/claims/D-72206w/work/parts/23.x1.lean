/-! LeastFrames_Point.tells -/
def w_X1_tells (X : XS) (j : Nat) (p1 : Int32) (post : Int32 → Prop) : Prop :=
  ((p1 = 0 → (post (X_px X j))) ∧ (¬ p1 = 0 → ((p1 = 1 → (post (X_py X j))) ∧ (¬ p1 = 1 → ((p1 = 2 → (post (X_ph X j))) ∧ (¬ p1 = 2 → ((p1 = 3 → (vp_in (p1 - 3) 2 ∧ (post (X_pl X j (p1 - 3).toNatClampNeg)))) ∧ (¬ p1 = 3 → ((p1 = 4 → (vp_in (p1 - 3) 2 ∧ (post (X_pl X j (p1 - 3).toNatClampNeg)))) ∧ (¬ p1 = 4 → (vp_in (p1 - 5) 2 ∧ (post (X_ps X j (p1 - 5).toNatClampNeg)))))))))))))
abbrev rmX1_tells : Room := { frames := 0, cells := 0, slots := 0, locals := 0 }
set_option maxHeartbeats 4000000 in
set_option maxRecDepth 100000 in
theorem k_X1_tells_0 {p : Program} {l : Launch} {e : Env} {s : State} {m : MethodId} {args : Array Value} {below : List Frame} {meth : Method} {c : Code} {D : va_G} {dT : Nat → ClassId} {a : Nat → Nat} {A : Nat → Prop} {vs0 : XE} {X : XS} {j : Nat} {p1 : Int32} {post : Int32 → Prop} (hC : wCx RX1 cX1_tells 2 (some .int) D dT p s m args meth c) (hA : wAz A s) (hj : j < 5) {H : Heap} {locs : List Loc} {ls : Array Slot} (hS : StX D dT a A s vs0 X vs0 H locs) (hl : lv_has ls 2 [(0, .ref (a (2 + j))), (1, .int p1)])  (hw : w_X1_tells X j p1 post) : W p l e rmX1_tells s m args below meth c H locs 0 0 (MQ below (va_Qi (fun r u9 => u9 = (X, vs0) ∧ post r) (wB D (XW dT a) (XI vs0) A) A) args s 0 0 A) (F0 m 0 ls []) := by
  have hx := hC.1
  have hb := hC.2.1
  have hown := hC.2.2.2.1
  have hts := hC.2.2.2.2.1
  unfold w_X1_tells at hw
  refine lv_iload_n hx hb dX1_tells_0 rfl (lv_at hl 1 rfl) ?_
  rcases Decidable.em (p1 = (0 : Int32)) with c1_0 | c1_0
  · have hw := hw.1 c1_0
    refine lv_tableIn (off := 35) (tgt := 36) hx hb dX1_tells_1 (by rw [c1_0]; decide) (by rw [c1_0]; decide) (by rw [c1_0]; decide) (by decide) ?_
    refine lv_aload_n hx hb dX1_tells_36 rfl (lv_at hl 0 rfl) ?_
    refine ld_q122 hC hS hj dX1_tells_37 ?_
    refine lv_goto (tgt := 76) hx hb dX1_tells_40 (by decide) ?_
    exact wReti hC hS ⟨rfl, hw⟩ (Nat.le_refl _) (Nat.le_refl _) dX1_tells_76
  have hw := hw.2 c1_0
  rcases Decidable.em (p1 = (1 : Int32)) with c1_1 | c1_1
  · have hw := hw.1 c1_1
    refine lv_tableIn (off := 42) (tgt := 43) hx hb dX1_tells_1 (by rw [c1_1]; decide) (by rw [c1_1]; decide) (by rw [c1_1]; decide) (by decide) ?_
    refine lv_aload_n hx hb dX1_tells_43 rfl (lv_at hl 0 rfl) ?_
    refine ld_q124 hC hS hj dX1_tells_44 ?_
    refine lv_goto (tgt := 76) hx hb dX1_tells_47 (by decide) ?_
    exact wReti hC hS ⟨rfl, hw⟩ (Nat.le_refl _) (Nat.le_refl _) dX1_tells_76
  have hw := hw.2 c1_1
  rcases Decidable.em (p1 = (2 : Int32)) with c1_2 | c1_2
  · have hw := hw.1 c1_2
    refine lv_tableIn (off := 49) (tgt := 50) hx hb dX1_tells_1 (by rw [c1_2]; decide) (by rw [c1_2]; decide) (by rw [c1_2]; decide) (by decide) ?_
    refine lv_aload_n hx hb dX1_tells_50 rfl (lv_at hl 0 rfl) ?_
    refine ld_q126 hC hS hj dX1_tells_51 ?_
    refine lv_goto (tgt := 76) hx hb dX1_tells_54 (by decide) ?_
    exact wReti hC hS ⟨rfl, hw⟩ (Nat.le_refl _) (Nat.le_refl _) dX1_tells_76
  have hw := hw.2 c1_2
  rcases Decidable.em (p1 = (3 : Int32)) with c1_3 | c1_3
  · have hw := hw.1 c1_3
    refine lv_tableIn (off := 56) (tgt := 57) hx hb dX1_tells_1 (by rw [c1_3]; decide) (by rw [c1_3]; decide) (by rw [c1_3]; decide) (by decide) ?_
    refine lv_aload_n hx hb dX1_tells_57 rfl (lv_at hl 0 rfl) ?_
    refine ld_q128 hC hS hj dX1_tells_58 ?_
    refine lv_iload_n hx hb dX1_tells_61 rfl (lv_at hl 1 rfl) ?_
    refine lv_iconst (v := 3) hx hb dX1_tells_62 (by decide) ?_
    refine lv_isub hx hb dX1_tells_63 ?_
    refine al_PL hC hS hj hw.1 dX1_tells_64 ?_
    have hw := hw.2
    refine lv_goto (tgt := 76) hx hb dX1_tells_65 (by decide) ?_
    exact wReti hC hS ⟨rfl, hw⟩ (Nat.le_refl _) (Nat.le_refl _) dX1_tells_76
  have hw := hw.2 c1_3
  rcases Decidable.em (p1 = (4 : Int32)) with c1_4 | c1_4
  · have hw := hw.1 c1_4
    refine lv_tableIn (off := 56) (tgt := 57) hx hb dX1_tells_1 (by rw [c1_4]; decide) (by rw [c1_4]; decide) (by rw [c1_4]; decide) (by decide) ?_
    refine lv_aload_n hx hb dX1_tells_57 rfl (lv_at hl 0 rfl) ?_
    refine ld_q128 hC hS hj dX1_tells_58 ?_
    refine lv_iload_n hx hb dX1_tells_61 rfl (lv_at hl 1 rfl) ?_
    refine lv_iconst (v := 3) hx hb dX1_tells_62 (by decide) ?_
    refine lv_isub hx hb dX1_tells_63 ?_
    refine al_PL hC hS hj hw.1 dX1_tells_64 ?_
    have hw := hw.2
    refine lv_goto (tgt := 76) hx hb dX1_tells_65 (by decide) ?_
    exact wReti hC hS ⟨rfl, hw⟩ (Nat.le_refl _) (Nat.le_refl _) dX1_tells_76
  have hw := hw.2 c1_4
  refine lv_tableOut (tgt := 68) hx hb dX1_tells_1 (sw_out (n := 5) (lt_s (lt_s (lt_s (lt_s (lt_s lt_0 c1_0) c1_1) c1_2) c1_3) c1_4) (by decide) (by decide)) (by decide) ?_
  refine lv_aload_n hx hb dX1_tells_68 rfl (lv_at hl 0 rfl) ?_
  refine ld_q131 hC hS hj dX1_tells_69 ?_
  refine lv_iload_n hx hb dX1_tells_72 rfl (lv_at hl 1 rfl) ?_
  refine lv_iconst (v := 5) hx hb dX1_tells_73 (by decide) ?_
  refine lv_isub hx hb dX1_tells_74 ?_
  refine al_PS hC hS hj hw.1 dX1_tells_75 ?_
  have hw := hw.2
  exact wReti hC hS ⟨rfl, hw⟩ (Nat.le_refl _) (Nat.le_refl _) dX1_tells_76
abbrev v_X1_tells (X : XS) (j : Nat) (p1 : Int32) (post : Int32 → Prop) : Prop := w_X1_tells X j p1 post
set_option maxHeartbeats 4000000 in
set_option maxRecDepth 100000 in
theorem met_X1_tells (l : Launch) (D : va_G) (dT : Nat → ClassId) (a : Nat → Nat) (sz : Nat) (X : XS) (vs0 : XE) (j : Nat) (p1 : Int32) (hj : j < 5) (post : Int32 → Prop) (hw : v_X1_tells X j p1 post) : Met l yX1_tells (ws_ yX1_tells cX1_tells 2 (some .int)) rmX1_tells (wPc D dT (XW dT a) (XI vs0) sz (X, vs0) [.ref (a (2 + j)), .int p1]) (va_Qi (fun r u9 => u9 = (X, vs0) ∧ post r) (wB D (XW dT a) (XI vs0) (va_A ((XW dT a) (X, vs0)) sz)) (va_A ((XW dT a) (X, vs0)) sz)) 0 0 (va_A ((XW dT a) (X, vs0)) sz) :=
  wEnt (Q := fun A => (va_Qi (fun r u9 => u9 = (X, vs0) ∧ post r) (wB D (XW dT a) (XI vs0) A) A)) (by decide) (Nat.le_of_ble_eq_true rfl) (fun p e s m below meth c A ls hC _ hA hS hl => k_X1_tells_0 hC hA hj hS hl hw) sz
theorem hd_X1_tells : yX1_tells.cls ≠ "java/lang/invoke/MethodHandle" ∧ yX1_tells.cls ≠ "java/lang/invoke/VarHandle" ∧ (parseMethodDescriptor yX1_tells.desc).map (fun d => d.parameters.length) = some 1 := by decide +kernel
section
variable {p : Program} {l : Launch} {e : Env} {R : Room} {s : State} {m : MethodId} {args : Array Value} {below : List Frame} {meth : Method} {c : Code} {H : Heap} {locs : List Loc} {cells slots : Nat} {Q : State → Prop} {cc : ByteArray} {nL : Nat} {ret : Option FieldType} {pc : Nat} {ls : Array Slot} {rest : List Value}
set_option maxHeartbeats 4000000 in
set_option maxRecDepth 100000 in
theorem inv_q311 {D : va_G} {dT : Nat → ClassId} {a : Nat → Nat} {A : Nat → Prop} {vs0 : XE} {vs : XE} {X : XS} {j : Nat} {p1 : Int32} {post : Int32 → Prop} (hC : wCx RX0 cc nL ret D dT p s m args meth c) (hA : wAz A s) (hS : StX D dT a A s vs0 X vs H locs) (hj : j < 5) (hl : ls.size = nL) (hw : v_X1_tells X j p1 post) (hR : rmX1_tells.frames + 1 ≤ R.frames ∧ 8 + (2 + 11) + rmX1_tells.locals ≤ R.locals) (hrest : (rest.map fun v => v.category).sum ≤ 8) (hf : cells ≤ R.cells ∧ slots ≤ R.slots) (hdg : decode cc pc = .ok (.invokevirtual 197, 3)) (kk : ∀ (r : Int32) (H1 : Heap) (locs1 : List Loc), post r → StX D dT a A s vs0 X vs H1 locs1 → W p l e R s m args below meth c H1 locs1 cells slots Q (F0 m (pc + 3) ls (.int r :: rest))) : W p l e R s m args below meth c H locs cells slots Q (F0 m pc ls (.int p1 :: .ref (a (2 + j)) :: rest)) := by
  exact wCallVi (As := [.int p1]) (rest := rest) (mc := 0) (ms := 0) (2 + j) hC (met_X1_tells l D dT a H.size X vs j p1 hj post hw) (lw_V q311 q312 q313 q86 q314) ⟨⟨rfl, rfl⟩, hd_X1_tells, hR, hf⟩ (XW_P hj) rfl rfl hA hS.self hl rfl hrest hdg (fun r u H1 locs1 hp hS1 => kk r H1 locs1 hp.2 (by have h9 := hS.back hS1; rw [hp.1] at h9; exact h9))
end
/-! LeastFrames.info -/
def w_X0_info (X : XS) (p1 : Int32) (p2 : Int32) (post : Int32 → Prop) : Prop :=
  v_X0_isPoint X p1 (fun r1 => (r1 = (0 : Int32) → (post ((-2147483648) : Int32))) ∧ (¬ r1 = (0 : Int32) → (v_X0_in p2.toInt64 (0 : Int64) (6 : Int64) (fun r3 => (r3 = (0 : Int32) → (post ((-2147483648) : Int32))) ∧ (¬ r3 = (0 : Int32) → (vp_in p1 5 ∧ (v_X1_tells X p1.toNatClampNeg p2 (fun r6 => post r6))))))))
abbrev rmX0_info : Room := { frames := 2, cells := 0, slots := 0, locals := 46 }
set_option maxHeartbeats 4000000 in
set_option maxRecDepth 100000 in
theorem k_X0_info_0 {p : Program} {l : Launch} {e : Env} {s : State} {m : MethodId} {args : Array Value} {below : List Frame} {meth : Method} {c : Code} {D : va_G} {dT : Nat → ClassId} {a : Nat → Nat} {A : Nat → Prop} {vs0 : XE} {X : XS} {p1 : Int32} {p2 : Int32} {post : Int32 → Prop} (hC : wCx RX0 cX0_info 3 (some .int) D dT p s m args meth c) (hA : wAz A s) {H : Heap} {locs : List Loc} {ls : Array Slot} (hS : StX D dT a A s vs0 X vs0 H locs) (hl : lv_has ls 3 [(0, .ref (a 0)), (1, .int p1), (2, .int p2)])  (hw : w_X0_info X p1 p2 post) : W p l e rmX0_info s m args below meth c H locs 0 0 (MQ below (va_Qi (fun r u9 => u9 = (X, vs0) ∧ post r) (wB D (XW dT a) (XI vs0) A) A) args s 0 0 A) (F0 m 0 ls []) := by
  have hx := hC.1
  have hb := hC.2.1
  have hown := hC.2.2.2.1
  have hts := hC.2.2.2.2.1
  unfold w_X0_info at hw
  refine lv_aload_n hx hb dX0_info_0 rfl (lv_at hl 0 rfl) ?_
  refine lv_iload_n hx hb dX0_info_1 rfl (lv_at hl 1 rfl) ?_
  refine inv_q258 hC hA hS hl.1 hw ⟨Nat.le_of_ble_eq_true rfl, Nat.le_of_ble_eq_true rfl⟩ (Nat.le_of_ble_eq_true rfl) ⟨Nat.zero_le _, Nat.zero_le _⟩ dX0_info_2 (fun r1 H locs hw hS => ?_)
  refine lv_if_eq (tgt := 33) hx hb dX0_info_5 (by decide) (fun c2 => ?_) (fun c2 => ?_)
  · have hw := hw.1 c2
    refine lv_ldc (v := (-2147483648)) hx hb hown (hts _ q272) dX0_info_33 ?_
    exact wReti hC hS ⟨rfl, hw⟩ (Nat.le_refl _) (Nat.le_refl _) dX0_info_35
  · have hw := hw.2 c2
    refine lv_iload_n hx hb dX0_info_8 rfl (lv_at hl 2 rfl) ?_
    refine lv_i2l hx hb dX0_info_9 rfl ?_
    refine lv_lconst (v := 0) hx hb dX0_info_10 (by decide) ?_
    refine lv_ldc2 (v := 6) hx hb hown (hts _ q310) dX0_info_11 ?_
    refine inv_q239 hC hS hl.1 hw ⟨Nat.le_of_ble_eq_true rfl, Nat.le_of_ble_eq_true rfl⟩ (Nat.le_of_ble_eq_true rfl) ⟨Nat.zero_le _, Nat.zero_le _⟩ dX0_info_14 (fun r3 H locs hw hS => ?_)
    refine lv_if_eq (tgt := 33) hx hb dX0_info_17 (by decide) (fun c4 => ?_) (fun c4 => ?_)
    · have hw := hw.1 c4
      refine lv_ldc (v := (-2147483648)) hx hb hown (hts _ q272) dX0_info_33 ?_
      exact wReti hC hS ⟨rfl, hw⟩ (Nat.le_refl _) (Nat.le_refl _) dX0_info_35
    · have hw := hw.2 c4
      refine lv_aload_n hx hb dX0_info_20 rfl (lv_at hl 0 rfl) ?_
      refine ld_q193 hC hS dX0_info_21 ?_
      refine lv_iload_n hx hb dX0_info_24 rfl (lv_at hl 1 rfl) ?_
      have hi5 := hw.1
      have hw := hw.2
      refine aa_PA hC hS hi5 dX0_info_25 ?_
      refine lv_iload_n hx hb dX0_info_26 rfl (lv_at hl 2 rfl) ?_
      refine inv_q311 hC hA hS (vp_lt hi5) hl.1 hw ⟨Nat.le_of_ble_eq_true rfl, Nat.le_of_ble_eq_true rfl⟩ (Nat.le_of_ble_eq_true rfl) ⟨Nat.zero_le _, Nat.zero_le _⟩ dX0_info_27 (fun r6 H locs hw hS => ?_)
      refine lv_goto (tgt := 35) hx hb dX0_info_30 (by decide) ?_
      exact wReti hC hS ⟨rfl, hw⟩ (Nat.le_refl _) (Nat.le_refl _) dX0_info_35
abbrev v_X0_info (X : XS) (p1 : Int32) (p2 : Int32) (post : Int32 → Prop) : Prop := w_X0_info X p1 p2 post
set_option maxHeartbeats 4000000 in
set_option maxRecDepth 100000 in
theorem met_X0_info (l : Launch) (D : va_G) (dT : Nat → ClassId) (a : Nat → Nat) (sz : Nat) (X : XS) (vs0 : XE) (p1 : Int32) (p2 : Int32) (post : Int32 → Prop) (hw : v_X0_info X p1 p2 post) : Met l yX0_info (ws_ yX0_info cX0_info 3 (some .int)) rmX0_info (wPc D dT (XW dT a) (XI vs0) sz (X, vs0) [.ref (a 0), .int p1, .int p2]) (va_Qi (fun r u9 => u9 = (X, vs0) ∧ post r) (wB D (XW dT a) (XI vs0) (va_A ((XW dT a) (X, vs0)) sz)) (va_A ((XW dT a) (X, vs0)) sz)) 0 0 (va_A ((XW dT a) (X, vs0)) sz) :=
  wEnt (Q := fun A => (va_Qi (fun r u9 => u9 = (X, vs0) ∧ post r) (wB D (XW dT a) (XI vs0) A) A)) (by decide) (Nat.le_of_ble_eq_true rfl) (fun p e s m below meth c A ls hC _ hA hS hl => k_X0_info_0 hC hA  hS hl hw) sz
theorem hd_X0_info : yX0_info.cls ≠ "java/lang/invoke/MethodHandle" ∧ yX0_info.cls ≠ "java/lang/invoke/VarHandle" ∧ (parseMethodDescriptor yX0_info.desc).map (fun d => d.parameters.length) = some 2 := by decide +kernel
/-! LeastFrames.greater -/
def w_X0_greater_2b (p0 : Int32) (K2 : Int32 → Prop) (post : Int32 → Prop) (x1 : Int32) : Prop :=
  (p0 < ((x1 * (x1 + 1)) / 2) → (post x1)) ∧ (¬ p0 < ((x1 * (x1 + 1)) / 2) → (∀ v2 : Int32, v2 = x1 + 1 → (K2 v2)))
def w_X0_greater_2 (p0 : Int32) (post : Int32 → Prop) : Nat → Int32 → Prop
  | 0, _ => False
  | n + 1, x1 => w_X0_greater_2b p0 (w_X0_greater_2 p0 post n) post x1
def w_X0_greater (p0 : Int32) (post : Int32 → Prop) : Prop :=
  ∃ n, w_X0_greater_2 p0 post n 1
abbrev rmX0_greater : Room := { frames := 0, cells := 0, slots := 0, locals := 0 }
set_option maxHeartbeats 4000000 in
set_option maxRecDepth 100000 in
theorem k_X0_greater_2b {p : Program} {l : Launch} {e : Env} {s : State} {m : MethodId} {args : Array Value} {below : List Frame} {meth : Method} {c : Code}  {p0 : Int32} {K2 : Int32 → Prop} {post : Int32 → Prop} (hC : sCx RX0 cX0_greater 2 (some .int) p s m args meth c) (hK2 : ∀ (x1 : Int32), K2 x1 → ∀ {H : Heap} {locs : List Loc} {ls : Array Slot}, va_S (fun _ => False) s.heap H locs → lv_has ls 2 [(0, .int p0), (1, .int x1)] → W p l e rmX0_greater s m args below meth c H locs 0 0 (MQ below (va_Qi (fun r (_ : Unit) => post r) (fun _ _ => True) (fun _ => False)) args s 0 0 (fun _ => False)) (F0 m 2 ls [])) (x1 : Int32) {H : Heap} {locs : List Loc} {ls : Array Slot} (hS : va_S (fun _ => False) s.heap H locs) (hl : lv_has ls 2 [(0, .int p0), (1, .int x1)])  (hw : w_X0_greater_2b p0 K2 post x1) : W p l e rmX0_greater s m args below meth c H locs 0 0 (MQ below (va_Qi (fun r (_ : Unit) => post r) (fun _ _ => True) (fun _ => False)) args s 0 0 (fun _ => False)) (F0 m 2 ls []) := by
  have hx := hC.1
  have hb := hC.2.1
  have hown := hC.2.2.2.1
  have hts := hC.2.2.2.2.1
  unfold w_X0_greater_2b at hw
  refine lv_iload_n hx hb dX0_greater_2 rfl (lv_at hl 1 rfl) ?_
  refine lv_iload_n hx hb dX0_greater_3 rfl (lv_at hl 1 rfl) ?_
  refine lv_iconst (v := 1) hx hb dX0_greater_4 (by decide) ?_
  refine lv_iadd hx hb dX0_greater_5 ?_
  refine lv_imul hx hb dX0_greater_6 ?_
  refine lv_iconst (v := 2) hx hb dX0_greater_7 (by decide) ?_
  refine lv_idiv hx hb dX0_greater_8 (by decide) ?_
  refine lv_iload_n hx hb dX0_greater_9 rfl (lv_at hl 0 rfl) ?_
  refine lv_icmp_gt (tgt := 19) hx hb dX0_greater_10 (by decide) (fun c1 => ?_) (fun c1 => ?_)
  · have hw := hw.1 c1
    refine lv_iload_n hx hb dX0_greater_19 rfl (lv_at hl 1 rfl) ?_
    exact sReti hC hS hw dX0_greater_20
  · have hw := hw.2 c1
    obtain ⟨v2, ev2⟩ : ∃ y : Int32, y = x1 + 1 := ⟨_, rfl⟩
    have hw := hw v2 ev2
    refine lv_iinc (v := v2) (lv' := [(1, .int v2), (0, .int p0)]) hx hb dX0_greater_13 hl (k := 1) rfl (by rw [ev2]; rfl) (by decide) rfl (fun ls hl => ?_)
    refine lv_goto (tgt := 2) hx hb dX0_greater_16 (by decide) ?_
    exact hK2 _ hw hS (lv_sub hl [1, 0] rfl)
set_option maxHeartbeats 4000000 in
set_option maxRecDepth 100000 in
theorem k_X0_greater_2 {p : Program} {l : Launch} {e : Env} {s : State} {m : MethodId} {args : Array Value} {below : List Frame} {meth : Method} {c : Code}  {p0 : Int32} {post : Int32 → Prop} (hC : sCx RX0 cX0_greater 2 (some .int) p s m args meth c) : ∀ (x1 : Int32) (n : Nat), ∀ {H : Heap} {locs : List Loc} {ls : Array Slot}, va_S (fun _ => False) s.heap H locs → lv_has ls 2 [(0, .int p0), (1, .int x1)] → w_X0_greater_2 p0 post n x1 → W p l e rmX0_greater s m args below meth c H locs 0 0 (MQ below (va_Qi (fun r (_ : Unit) => post r) (fun _ _ => True) (fun _ => False)) args s 0 0 (fun _ => False)) (F0 m 2 ls []) := by
  intro x1 n
  induction n generalizing x1 with
  | zero => intro H locs ls  hS hl hw; exact hw.elim
  | succ n ih =>
    intro H locs ls  hS hl hw
    exact k_X0_greater_2b hC (fun x1 hk {H} {locs} {ls}  hS hl => ih x1  hS hl hk) x1  hS hl hw
set_option maxHeartbeats 4000000 in
set_option maxRecDepth 100000 in
theorem k_X0_greater_0 {p : Program} {l : Launch} {e : Env} {s : State} {m : MethodId} {args : Array Value} {below : List Frame} {meth : Method} {c : Code}  {p0 : Int32} {post : Int32 → Prop} (hC : sCx RX0 cX0_greater 2 (some .int) p s m args meth c) {H : Heap} {locs : List Loc} {ls : Array Slot} (hS : va_S (fun _ => False) s.heap H locs) (hl : lv_has ls 2 [(0, .int p0)])  (hw : w_X0_greater p0 post) : W p l e rmX0_greater s m args below meth c H locs 0 0 (MQ below (va_Qi (fun r (_ : Unit) => post r) (fun _ _ => True) (fun _ => False)) args s 0 0 (fun _ => False)) (F0 m 0 ls []) := by
  have hx := hC.1
  have hb := hC.2.1
  have hown := hC.2.2.2.1
  have hts := hC.2.2.2.2.1
  unfold w_X0_greater at hw
  refine lv_iconst (v := 1) hx hb dX0_greater_0 (by decide) ?_
  refine lv_istore_n (lv' := [(1, .int 1), (0, .int p0)]) hx hb dX0_greater_1 rfl hl (by decide) rfl (fun ls hl => ?_)
  obtain ⟨n, hw⟩ := hw
  exact k_X0_greater_2 hC _ n hS (lv_sub hl [1, 0] rfl) hw
abbrev v_X0_greater (p0 : Int32) (post : Int32 → Prop) : Prop := w_X0_greater p0 post
set_option maxHeartbeats 4000000 in
set_option maxRecDepth 100000 in
theorem met_X0_greater (l : Launch) (p0 : Int32) (post : Int32 → Prop) (hw : v_X0_greater p0 post) : Met l yX0_greater (ws_ yX0_greater cX0_greater 2 (some .int)) rmX0_greater (va_Pc [.int p0] (fun _ => True)) (va_Qi (fun r (_ : Unit) => post r) (fun _ _ => True) (fun _ => False)) 0 0 (fun _ => False) :=
  sEnt (by decide) (Nat.le_of_ble_eq_true rfl) (fun p e s m below meth c ls hC hS hl => k_X0_greater_0 hC  hS hl hw)
theorem hd_X0_greater : yX0_greater.cls ≠ "java/lang/invoke/MethodHandle" ∧ yX0_greater.cls ≠ "java/lang/invoke/VarHandle" ∧ (parseMethodDescriptor yX0_greater.desc).map (fun d => d.parameters.length) = some 1 := by decide +kernel
section
variable {p : Program} {l : Launch} {e : Env} {R : Room} {s : State} {m : MethodId} {args : Array Value} {below : List Frame} {meth : Method} {c : Code} {H : Heap} {locs : List Loc} {cells slots : Nat} {Q : State → Prop} {cc : ByteArray} {nL : Nat} {ret : Option FieldType} {pc : Nat} {ls : Array Slot} {rest : List Value}
set_option maxHeartbeats 4000000 in
set_option maxRecDepth 100000 in
theorem inv_q326 {σ : Type} {D : va_G} {dT : Nat → ClassId} {Wd : σ → va_W} {I : σ → Prop} {A : Nat → Prop} {x : σ} {p0 : Int32} {post : Int32 → Prop} (hC : wCx RX0 cc nL ret D dT p s m args meth c) (hS : wSt D Wd I A s x H locs) (hl : ls.size = nL) (hw : v_X0_greater p0 post) (hR : rmX0_greater.frames + 1 ≤ R.frames ∧ 8 + (2 + 11) + rmX0_greater.locals ≤ R.locals) (hrest : (rest.map fun v => v.category).sum ≤ 8) (hf : cells ≤ R.cells ∧ slots ≤ R.slots) (hdg : decode cc pc = .ok (.invokestatic 63, 3)) (kk : ∀ (r : Int32) (H1 : Heap) (locs1 : List Loc), post r → wSt D Wd I A s x H1 locs1 → W p l e R s m args below meth c H1 locs1 cells slots Q (F0 m (pc + 3) ls (.int r :: rest))) : W p l e R s m args below meth c H locs cells slots Q (F0 m pc ls (.int p0 :: rest)) :=
  wCallSi (As := [.int p0]) (rest := rest) hC (met_X0_greater l p0 post hw) (lw_S q326 q327 q85 q328) ⟨⟨rfl, rfl⟩, hd_X0_greater, hR, hf⟩ hS hl rfl hrest hdg kk
set_option maxHeartbeats 4000000 in
set_option maxRecDepth 100000 in
theorem invs_q326 {p0 : Int32} {post : Int32 → Prop} (hC : sCx RX0 cc nL ret p s m args meth c) (hS : va_S (fun _ => False) s.heap H locs) (hl : ls.size = nL) (hw : v_X0_greater p0 post) (hR : rmX0_greater.frames + 1 ≤ R.frames ∧ 8 + (2 + 11) + rmX0_greater.locals ≤ R.locals) (hrest : (rest.map fun v => v.category).sum ≤ 8) (hf : cells ≤ R.cells ∧ slots ≤ R.slots) (hdg : decode cc pc = .ok (.invokestatic 63, 3)) (kk : ∀ (r : Int32) (H1 : Heap) (locs1 : List Loc), post r → va_S (fun _ => False) s.heap H1 locs1 → W p l e R s m args below meth c H1 locs1 cells slots Q (F0 m (pc + 3) ls (.int r :: rest))) : W p l e R s m args below meth c H locs cells slots Q (F0 m pc ls (.int p0 :: rest)) :=
  sCallSi (As := [.int p0]) (rest := rest) hC (met_X0_greater l p0 post hw) (lw_S q326 q327 q85 q328) ⟨⟨rfl, rfl⟩, hd_X0_greater, hR, hf⟩ hS hl rfl hrest hdg kk
end
section
variable {p : Program} {l : Launch} {e : Env} {R : Room} {s : State} {m : MethodId} {args : Array Value} {below : List Frame} {meth : Method} {c : Code} {H : Heap} {locs : List Loc} {cells slots : Nat} {Q : State → Prop} {cc : ByteArray} {nL : Nat} {ret : Option FieldType} {pc : Nat} {ls : Array Slot} {rest : List Value}
set_option maxHeartbeats 4000000 in
set_option maxRecDepth 100000 in
theorem inv_q390 {σ : Type} {D : va_G} {dT : Nat → ClassId} {Wd : σ → va_W} {I : σ → Prop} {A : Nat → Prop} {x : σ} {p0 : Int32} {post : Int32 → Prop} (hC : wCx RX2 cc nL ret D dT p s m args meth c) (hS : wSt D Wd I A s x H locs) (hl : ls.size = nL) (hw : v_X0_greater p0 post) (hR : rmX0_greater.frames + 1 ≤ R.frames ∧ 8 + (2 + 11) + rmX0_greater.locals ≤ R.locals) (hrest : (rest.map fun v => v.category).sum ≤ 8) (hf : cells ≤ R.cells ∧ slots ≤ R.slots) (hdg : decode cc pc = .ok (.invokestatic 74, 3)) (kk : ∀ (r : Int32) (H1 : Heap) (locs1 : List Loc), post r → wSt D Wd I A s x H1 locs1 → W p l e R s m args below meth c H1 locs1 cells slots Q (F0 m (pc + 3) ls (.int r :: rest))) : W p l e R s m args below meth c H locs cells slots Q (F0 m pc ls (.int p0 :: rest)) :=
  wCallSNi (As := [.int p0]) (rest := rest) hC (met_X0_greater l p0 post hw) nw_q390 q328 q85 q327 ⟨⟨rfl, rfl⟩, hd_X0_greater, hR, hf⟩ hS hl rfl hrest hdg kk
end
/-! LeastFrames.lesser -/
def w_X0_lesser (p0 : Int32) (post : Int32 → Prop) : Prop :=
  v_X0_greater p0 (fun r1 => post (p0 - ((r1 * (r1 - 1)) / 2)))
abbrev rmX0_lesser : Room := { frames := 1, cells := 0, slots := 0, locals := 21 }
set_option maxHeartbeats 4000000 in
set_option maxRecDepth 100000 in
theorem k_X0_lesser_0 {p : Program} {l : Launch} {e : Env} {s : State} {m : MethodId} {args : Array Value} {below : List Frame} {meth : Method} {c : Code}  {p0 : Int32} {post : Int32 → Prop} (hC : sCx RX0 cX0_lesser 2 (some .int) p s m args meth c) {H : Heap} {locs : List Loc} {ls : Array Slot} (hS : va_S (fun _ => False) s.heap H locs) (hl : lv_has ls 2 [(0, .int p0)])  (hw : w_X0_lesser p0 post) : W p l e rmX0_lesser s m args below meth c H locs 0 0 (MQ below (va_Qi (fun r (_ : Unit) => post r) (fun _ _ => True) (fun _ => False)) args s 0 0 (fun _ => False)) (F0 m 0 ls []) := by
  have hx := hC.1
  have hb := hC.2.1
  have hown := hC.2.2.2.1
  have hts := hC.2.2.2.2.1
  unfold w_X0_lesser at hw
  refine lv_iload_n hx hb dX0_lesser_0 rfl (lv_at hl 0 rfl) ?_
  refine invs_q326 hC hS hl.1 hw ⟨Nat.le_of_ble_eq_true rfl, Nat.le_of_ble_eq_true rfl⟩ (Nat.le_of_ble_eq_true rfl) ⟨Nat.zero_le _, Nat.zero_le _⟩ dX0_lesser_1 (fun r1 H locs hw hS => ?_)
  refine lv_istore_n (lv' := [(1, .int r1), (0, .int p0)]) hx hb dX0_lesser_4 rfl hl (by decide) rfl (fun ls hl => ?_)
  refine lv_iload_n hx hb dX0_lesser_5 rfl (lv_at hl 1 rfl) ?_
  refine lv_iload_n hx hb dX0_lesser_6 rfl (lv_at hl 0 rfl) ?_
  refine lv_iload_n hx hb dX0_lesser_7 rfl (lv_at hl 0 rfl) ?_
  refine lv_iconst (v := 1) hx hb dX0_lesser_8 (by decide) ?_
  refine lv_isub hx hb dX0_lesser_9 ?_
  refine lv_imul hx hb dX0_lesser_10 ?_
  refine lv_iconst (v := 2) hx hb dX0_lesser_11 (by decide) ?_
  refine lv_idiv hx hb dX0_lesser_12 (by decide) ?_
  refine lv_isub hx hb dX0_lesser_13 ?_
  exact sReti hC hS hw dX0_lesser_14
abbrev v_X0_lesser (p0 : Int32) (post : Int32 → Prop) : Prop := w_X0_lesser p0 post
set_option maxHeartbeats 4000000 in
set_option maxRecDepth 100000 in
theorem met_X0_lesser (l : Launch) (p0 : Int32) (post : Int32 → Prop) (hw : v_X0_lesser p0 post) : Met l yX0_lesser (ws_ yX0_lesser cX0_lesser 2 (some .int)) rmX0_lesser (va_Pc [.int p0] (fun _ => True)) (va_Qi (fun r (_ : Unit) => post r) (fun _ _ => True) (fun _ => False)) 0 0 (fun _ => False) :=
  sEnt (by decide) (Nat.le_of_ble_eq_true rfl) (fun p e s m below meth c ls hC hS hl => k_X0_lesser_0 hC  hS hl hw)
theorem hd_X0_lesser : yX0_lesser.cls ≠ "java/lang/invoke/MethodHandle" ∧ yX0_lesser.cls ≠ "java/lang/invoke/VarHandle" ∧ (parseMethodDescriptor yX0_lesser.desc).map (fun d => d.parameters.length) = some 1 := by decide +kernel
section
variable {p : Program} {l : Launch} {e : Env} {R : Room} {s : State} {m : MethodId} {args : Array Value} {below : List Frame} {meth : Method} {c : Code} {H : Heap} {locs : List Loc} {cells slots : Nat} {Q : State → Prop} {cc : ByteArray} {nL : Nat} {ret : Option FieldType} {pc : Nat} {ls : Array Slot} {rest : List Value}
set_option maxHeartbeats 4000000 in
set_option maxRecDepth 100000 in
theorem inv_q323 {σ : Type} {D : va_G} {dT : Nat → ClassId} {Wd : σ → va_W} {I : σ → Prop} {A : Nat → Prop} {x : σ} {p0 : Int32} {post : Int32 → Prop} (hC : wCx RX0 cc nL ret D dT p s m args meth c) (hS : wSt D Wd I A s x H locs) (hl : ls.size = nL) (hw : v_X0_lesser p0 post) (hR : rmX0_lesser.frames + 1 ≤ R.frames ∧ 8 + (2 + 11) + rmX0_lesser.locals ≤ R.locals) (hrest : (rest.map fun v => v.category).sum ≤ 8) (hf : cells ≤ R.cells ∧ slots ≤ R.slots) (hdg : decode cc pc = .ok (.invokestatic 70, 3)) (kk : ∀ (r : Int32) (H1 : Heap) (locs1 : List Loc), post r → wSt D Wd I A s x H1 locs1 → W p l e R s m args below meth c H1 locs1 cells slots Q (F0 m (pc + 3) ls (.int r :: rest))) : W p l e R s m args below meth c H locs cells slots Q (F0 m pc ls (.int p0 :: rest)) :=
  wCallSi (As := [.int p0]) (rest := rest) hC (met_X0_lesser l p0 post hw) (lw_S q323 q324 q85 q325) ⟨⟨rfl, rfl⟩, hd_X0_lesser, hR, hf⟩ hS hl rfl hrest hdg kk
set_option maxHeartbeats 4000000 in
set_option maxRecDepth 100000 in
theorem invs_q323 {p0 : Int32} {post : Int32 → Prop} (hC : sCx RX0 cc nL ret p s m args meth c) (hS : va_S (fun _ => False) s.heap H locs) (hl : ls.size = nL) (hw : v_X0_lesser p0 post) (hR : rmX0_lesser.frames + 1 ≤ R.frames ∧ 8 + (2 + 11) + rmX0_lesser.locals ≤ R.locals) (hrest : (rest.map fun v => v.category).sum ≤ 8) (hf : cells ≤ R.cells ∧ slots ≤ R.slots) (hdg : decode cc pc = .ok (.invokestatic 70, 3)) (kk : ∀ (r : Int32) (H1 : Heap) (locs1 : List Loc), post r → va_S (fun _ => False) s.heap H1 locs1 → W p l e R s m args below meth c H1 locs1 cells slots Q (F0 m (pc + 3) ls (.int r :: rest))) : W p l e R s m args below meth c H locs cells slots Q (F0 m pc ls (.int p0 :: rest)) :=
  sCallSi (As := [.int p0]) (rest := rest) hC (met_X0_lesser l p0 post hw) (lw_S q323 q324 q85 q325) ⟨⟨rfl, rfl⟩, hd_X0_lesser, hR, hf⟩ hS hl rfl hrest hdg kk
end
section
variable {p : Program} {l : Launch} {e : Env} {R : Room} {s : State} {m : MethodId} {args : Array Value} {below : List Frame} {meth : Method} {c : Code} {H : Heap} {locs : List Loc} {cells slots : Nat} {Q : State → Prop} {cc : ByteArray} {nL : Nat} {ret : Option FieldType} {pc : Nat} {ls : Array Slot} {rest : List Value}
set_option maxHeartbeats 4000000 in
set_option maxRecDepth 100000 in
theorem inv_q388 {σ : Type} {D : va_G} {dT : Nat → ClassId} {Wd : σ → va_W} {I : σ → Prop} {A : Nat → Prop} {x : σ} {p0 : Int32} {post : Int32 → Prop} (hC : wCx RX2 cc nL ret D dT p s m args meth c) (hS : wSt D Wd I A s x H locs) (hl : ls.size = nL) (hw : v_X0_lesser p0 post) (hR : rmX0_lesser.frames + 1 ≤ R.frames ∧ 8 + (2 + 11) + rmX0_lesser.locals ≤ R.locals) (hrest : (rest.map fun v => v.category).sum ≤ 8) (hf : cells ≤ R.cells ∧ slots ≤ R.slots) (hdg : decode cc pc = .ok (.invokestatic 66, 3)) (kk : ∀ (r : Int32) (H1 : Heap) (locs1 : List Loc), post r → wSt D Wd I A s x H1 locs1 → W p l e R s m args below meth c H1 locs1 cells slots Q (F0 m (pc + 3) ls (.int r :: rest))) : W p l e R s m args below meth c H locs cells slots Q (F0 m pc ls (.int p0 :: rest)) :=
  wCallSNi (As := [.int p0]) (rest := rest) hC (met_X0_lesser l p0 post hw) nw_q388 q325 q85 q324 ⟨⟨rfl, rfl⟩, hd_X0_lesser, hR, hf⟩ hS hl rfl hrest hdg kk
end
/-! LeastFrames_Point.at -/
def w_X1_at (X : XS) (j : Nat) (p1 : Int32) (post : Int32 → Prop) : Prop :=
  (p1 = (0 : Int32) → (post (X_px X j))) ∧ (¬ p1 = (0 : Int32) → (post (X_py X j)))
abbrev rmX1_at : Room := { frames := 0, cells := 0, slots := 0, locals := 0 }
set_option maxHeartbeats 4000000 in
set_option maxRecDepth 100000 in
theorem k_X1_at_0 {p : Program} {l : Launch} {e : Env} {s : State} {m : MethodId} {args : Array Value} {below : List Frame} {meth : Method} {c : Code} {D : va_G} {dT : Nat → ClassId} {a : Nat → Nat} {A : Nat → Prop} {vs0 : XE} {X : XS} {j : Nat} {p1 : Int32} {post : Int32 → Prop} (hC : wCx RX1 cX1_at 2 (some .int) D dT p s m args meth c) (hA : wAz A s) (hj : j < 5) {H : Heap} {locs : List Loc} {ls : Array Slot} (hS : StX D dT a A s vs0 X vs0 H locs) (hl : lv_has ls 2 [(0, .ref (a (2 + j))), (1, .int p1)])  (hw : w_X1_at X j p1 post) : W p l e rmX1_at s m args below meth c H locs 0 0 (MQ below (va_Qi (fun r u9 => u9 = (X, vs0) ∧ post r) (wB D (XW dT a) (XI vs0) A) A) args s 0 0 A) (F0 m 0 ls []) := by
  have hx := hC.1
  have hb := hC.2.1
  have hown := hC.2.2.2.1
  have hts := hC.2.2.2.2.1
  unfold w_X1_at at hw
  refine lv_iload_n hx hb dX1_at_0 rfl (lv_at hl 1 rfl) ?_
  refine lv_if_ne (tgt := 11) hx hb dX1_at_1 (by decide) (fun c1 => ?_) (fun c1 => ?_)
  · have hw := hw.2 c1
    refine lv_aload_n hx hb dX1_at_11 rfl (lv_at hl 0 rfl) ?_
    refine ld_q124 hC hS hj dX1_at_12 ?_
    exact wReti hC hS ⟨rfl, hw⟩ (Nat.le_refl _) (Nat.le_refl _) dX1_at_15
  · have hw := hw.1 c1
    refine lv_aload_n hx hb dX1_at_4 rfl (lv_at hl 0 rfl) ?_
    refine ld_q122 hC hS hj dX1_at_5 ?_
    refine lv_goto (tgt := 15) hx hb dX1_at_8 (by decide) ?_
    exact wReti hC hS ⟨rfl, hw⟩ (Nat.le_refl _) (Nat.le_refl _) dX1_at_15
abbrev v_X1_at (X : XS) (j : Nat) (p1 : Int32) (post : Int32 → Prop) : Prop := w_X1_at X j p1 post
set_option maxHeartbeats 4000000 in
set_option maxRecDepth 100000 in
theorem met_X1_at (l : Launch) (D : va_G) (dT : Nat → ClassId) (a : Nat → Nat) (sz : Nat) (X : XS) (vs0 : XE) (j : Nat) (p1 : Int32) (hj : j < 5) (post : Int32 → Prop) (hw : v_X1_at X j p1 post) : Met l yX1_at (ws_ yX1_at cX1_at 2 (some .int)) rmX1_at (wPc D dT (XW dT a) (XI vs0) sz (X, vs0) [.ref (a (2 + j)), .int p1]) (va_Qi (fun r u9 => u9 = (X, vs0) ∧ post r) (wB D (XW dT a) (XI vs0) (va_A ((XW dT a) (X, vs0)) sz)) (va_A ((XW dT a) (X, vs0)) sz)) 0 0 (va_A ((XW dT a) (X, vs0)) sz) :=
  wEnt (Q := fun A => (va_Qi (fun r u9 => u9 = (X, vs0) ∧ post r) (wB D (XW dT a) (XI vs0) A) A)) (by decide) (Nat.le_of_ble_eq_true rfl) (fun p e s m below meth c A ls hC _ hA hS hl => k_X1_at_0 hC hA hj hS hl hw) sz
theorem hd_X1_at : yX1_at.cls ≠ "java/lang/invoke/MethodHandle" ∧ yX1_at.cls ≠ "java/lang/invoke/VarHandle" ∧ (parseMethodDescriptor yX1_at.desc).map (fun d => d.parameters.length) = some 1 := by decide +kernel
section
variable {p : Program} {l : Launch} {e : Env} {R : Room} {s : State} {m : MethodId} {args : Array Value} {below : List Frame} {meth : Method} {c : Code} {H : Heap} {locs : List Loc} {cells slots : Nat} {Q : State → Prop} {cc : ByteArray} {nL : Nat} {ret : Option FieldType} {pc : Nat} {ls : Array Slot} {rest : List Value}
set_option maxHeartbeats 4000000 in
set_option maxRecDepth 100000 in
theorem inv_q337 {D : va_G} {dT : Nat → ClassId} {a : Nat → Nat} {A : Nat → Prop} {vs0 : XE} {vs : XE} {X : XS} {j : Nat} {p1 : Int32} {post : Int32 → Prop} (hC : wCx RX0 cc nL ret D dT p s m args meth c) (hA : wAz A s) (hS : StX D dT a A s vs0 X vs H locs) (hj : j < 5) (hl : ls.size = nL) (hw : v_X1_at X j p1 post) (hR : rmX1_at.frames + 1 ≤ R.frames ∧ 8 + (2 + 11) + rmX1_at.locals ≤ R.locals) (hrest : (rest.map fun v => v.category).sum ≤ 8) (hf : cells ≤ R.cells ∧ slots ≤ R.slots) (hdg : decode cc pc = .ok (.invokevirtual 67, 3)) (kk : ∀ (r : Int32) (H1 : Heap) (locs1 : List Loc), post r → StX D dT a A s vs0 X vs H1 locs1 → W p l e R s m args below meth c H1 locs1 cells slots Q (F0 m (pc + 3) ls (.int r :: rest))) : W p l e R s m args below meth c H locs cells slots Q (F0 m pc ls (.int p1 :: .ref (a (2 + j)) :: rest)) := by
  exact wCallVi (As := [.int p1]) (rest := rest) (mc := 0) (ms := 0) (2 + j) hC (met_X1_at l D dT a H.size X vs j p1 hj post hw) (lw_V q337 q338 q339 q86 q340) ⟨⟨rfl, rfl⟩, hd_X1_at, hR, hf⟩ (XW_P hj) rfl rfl hA hS.self hl rfl hrest hdg (fun r u H1 locs1 hp hS1 => kk r H1 locs1 hp.2 (by have h9 := hS.back hS1; rw [hp.1] at h9; exact h9))
end
/-! LeastFrames.far -/
def w_X0_far (X : XS) (p1 : Int32) (p2 : Int32) (post : Int32 → Prop) : Prop :=
  v_X0_greater p1 (fun r1 => vp_in r1 5 ∧ (v_X1_at X r1.toNatClampNeg p2 (fun r3 => v_X0_lesser p1 (fun r4 => vp_in r4 5 ∧ (v_X1_at X r4.toNatClampNeg p2 (fun r6 => post (r3 - r6)))))))
abbrev rmX0_far : Room := { frames := 2, cells := 0, slots := 0, locals := 42 }
set_option maxHeartbeats 4000000 in
set_option maxRecDepth 100000 in
theorem k_X0_far_0 {p : Program} {l : Launch} {e : Env} {s : State} {m : MethodId} {args : Array Value} {below : List Frame} {meth : Method} {c : Code} {D : va_G} {dT : Nat → ClassId} {a : Nat → Nat} {A : Nat → Prop} {vs0 : XE} {X : XS} {p1 : Int32} {p2 : Int32} {post : Int32 → Prop} (hC : wCx RX0 cX0_far 3 (some .int) D dT p s m args meth c) (hA : wAz A s) {H : Heap} {locs : List Loc} {ls : Array Slot} (hS : StX D dT a A s vs0 X vs0 H locs) (hl : lv_has ls 3 [(0, .ref (a 0)), (1, .int p1), (2, .int p2)])  (hw : w_X0_far X p1 p2 post) : W p l e rmX0_far s m args below meth c H locs 0 0 (MQ below (va_Qi (fun r u9 => u9 = (X, vs0) ∧ post r) (wB D (XW dT a) (XI vs0) A) A) args s 0 0 A) (F0 m 0 ls []) := by
  have hx := hC.1
  have hb := hC.2.1
  have hown := hC.2.2.2.1
  have hts := hC.2.2.2.2.1
  unfold w_X0_far at hw
  refine lv_aload_n hx hb dX0_far_0 rfl (lv_at hl 0 rfl) ?_
  refine ld_q193 hC hS dX0_far_1 ?_
  refine lv_iload_n hx hb dX0_far_4 rfl (lv_at hl 1 rfl) ?_
  refine inv_q326 hC hS hl.1 hw ⟨Nat.le_of_ble_eq_true rfl, Nat.le_of_ble_eq_true rfl⟩ (Nat.le_of_ble_eq_true rfl) ⟨Nat.zero_le _, Nat.zero_le _⟩ dX0_far_5 (fun r1 H locs hw hS => ?_)
  have hi2 := hw.1
  have hw := hw.2
  refine aa_PA hC hS hi2 dX0_far_8 ?_
  refine lv_iload_n hx hb dX0_far_9 rfl (lv_at hl 2 rfl) ?_
  refine inv_q337 hC hA hS (vp_lt hi2) hl.1 hw ⟨Nat.le_of_ble_eq_true rfl, Nat.le_of_ble_eq_true rfl⟩ (Nat.le_of_ble_eq_true rfl) ⟨Nat.zero_le _, Nat.zero_le _⟩ dX0_far_10 (fun r3 H locs hw hS => ?_)
  refine lv_aload_n hx hb dX0_far_13 rfl (lv_at hl 0 rfl) ?_
  refine ld_q193 hC hS dX0_far_14 ?_
  refine lv_iload_n hx hb dX0_far_17 rfl (lv_at hl 1 rfl) ?_
  refine inv_q323 hC hS hl.1 hw ⟨Nat.le_of_ble_eq_true rfl, Nat.le_of_ble_eq_true rfl⟩ (Nat.le_of_ble_eq_true rfl) ⟨Nat.zero_le _, Nat.zero_le _⟩ dX0_far_18 (fun r4 H locs hw hS => ?_)
  have hi5 := hw.1
  have hw := hw.2
  refine aa_PA hC hS hi5 dX0_far_21 ?_
  refine lv_iload_n hx hb dX0_far_22 rfl (lv_at hl 2 rfl) ?_
  refine inv_q337 hC hA hS (vp_lt hi5) hl.1 hw ⟨Nat.le_of_ble_eq_true rfl, Nat.le_of_ble_eq_true rfl⟩ (Nat.le_of_ble_eq_true rfl) ⟨Nat.zero_le _, Nat.zero_le _⟩ dX0_far_23 (fun r6 H locs hw hS => ?_)
  refine lv_isub hx hb dX0_far_26 ?_
  exact wReti hC hS ⟨rfl, hw⟩ (Nat.le_refl _) (Nat.le_refl _) dX0_far_27
abbrev v_X0_far (X : XS) (p1 : Int32) (p2 : Int32) (post : Int32 → Prop) : Prop := w_X0_far X p1 p2 post
set_option maxHeartbeats 4000000 in
set_option maxRecDepth 100000 in
theorem met_X0_far (l : Launch) (D : va_G) (dT : Nat → ClassId) (a : Nat → Nat) (sz : Nat) (X : XS) (vs0 : XE) (p1 : Int32) (p2 : Int32) (post : Int32 → Prop) (hw : v_X0_far X p1 p2 post) : Met l yX0_far (ws_ yX0_far cX0_far 3 (some .int)) rmX0_far (wPc D dT (XW dT a) (XI vs0) sz (X, vs0) [.ref (a 0), .int p1, .int p2]) (va_Qi (fun r u9 => u9 = (X, vs0) ∧ post r) (wB D (XW dT a) (XI vs0) (va_A ((XW dT a) (X, vs0)) sz)) (va_A ((XW dT a) (X, vs0)) sz)) 0 0 (va_A ((XW dT a) (X, vs0)) sz) :=
  wEnt (Q := fun A => (va_Qi (fun r u9 => u9 = (X, vs0) ∧ post r) (wB D (XW dT a) (XI vs0) A) A)) (by decide) (Nat.le_of_ble_eq_true rfl) (fun p e s m below meth c A ls hC _ hA hS hl => k_X0_far_0 hC hA  hS hl hw) sz
theorem hd_X0_far : yX0_far.cls ≠ "java/lang/invoke/MethodHandle" ∧ yX0_far.cls ≠ "java/lang/invoke/VarHandle" ∧ (parseMethodDescriptor yX0_far.desc).map (fun d => d.parameters.length) = some 2 := by decide +kernel
section
variable {p : Program} {l : Launch} {e : Env} {R : Room} {s : State} {m : MethodId} {args : Array Value} {below : List Frame} {meth : Method} {c : Code} {H : Heap} {locs : List Loc} {cells slots : Nat} {Q : State → Prop} {cc : ByteArray} {nL : Nat} {ret : Option FieldType} {pc : Nat} {ls : Array Slot} {rest : List Value}
set_option maxHeartbeats 4000000 in
set_option maxRecDepth 100000 in
theorem inv_q333 {D : va_G} {dT : Nat → ClassId} {a : Nat → Nat} {A : Nat → Prop} {vs0 : XE} {vs : XE} {X : XS} {p1 : Int32} {p2 : Int32} {post : Int32 → Prop} (hC : wCx RX0 cc nL ret D dT p s m args meth c) (hA : wAz A s) (hS : StX D dT a A s vs0 X vs H locs) (hl : ls.size = nL) (hw : v_X0_far X p1 p2 post) (hR : rmX0_far.frames + 1 ≤ R.frames ∧ 8 + (3 + 11) + rmX0_far.locals ≤ R.locals) (hrest : (rest.map fun v => v.category).sum ≤ 8) (hf : cells ≤ R.cells ∧ slots ≤ R.slots) (hdg : decode cc pc = .ok (.invokevirtual 73, 3)) (kk : ∀ (r : Int32) (H1 : Heap) (locs1 : List Loc), post r → StX D dT a A s vs0 X vs H1 locs1 → W p l e R s m args below meth c H1 locs1 cells slots Q (F0 m (pc + 3) ls (.int r :: rest))) : W p l e R s m args below meth c H locs cells slots Q (F0 m pc ls (.int p2 :: .int p1 :: .ref (a 0) :: rest)) := by
  exact wCallVi (As := [.int p1, .int p2]) (rest := rest) (mc := 0) (ms := 0) 0 hC (met_X0_far l D dT a H.size X vs p1 p2 post hw) (lw_V q333 q335 qs6 q85 q336) ⟨⟨rfl, rfl⟩, hd_X0_far, hR, hf⟩ XW_0 rfl rfl hA hS.self hl rfl hrest hdg (fun r u H1 locs1 hp hS1 => kk r H1 locs1 hp.2 (by have h9 := hS.back hS1; rw [hp.1] at h9; exact h9))
end
section
variable {p : Program} {l : Launch} {e : Env} {R : Room} {s : State} {m : MethodId} {args : Array Value} {below : List Frame} {meth : Method} {c : Code} {H : Heap} {locs : List Loc} {cells slots : Nat} {Q : State → Prop} {cc : ByteArray} {nL : Nat} {ret : Option FieldType} {pc : Nat} {ls : Array Slot} {rest : List Value}
set_option maxHeartbeats 4000000 in
set_option maxRecDepth 100000 in
theorem inv_q389 {D : va_G} {dT : Nat → ClassId} {a : Nat → Nat} {A : Nat → Prop} {vs0 : XE} {vs : XE} {X : XS} {p1 : Int32} {p2 : Int32} {post : Int32 → Prop} (hC : wCx RX2 cc nL ret D dT p s m args meth c) (hA : wAz A s) (hS : StX D dT a A s vs0 X vs H locs) (hl : ls.size = nL) (hw : v_X0_far X p1 p2 post) (hR : rmX0_far.frames + 1 ≤ R.frames ∧ 8 + (3 + 11) + rmX0_far.locals ≤ R.locals) (hrest : (rest.map fun v => v.category).sum ≤ 8) (hf : cells ≤ R.cells ∧ slots ≤ R.slots) (hdg : decode cc pc = .ok (.invokevirtual 70, 3)) (kk : ∀ (r : Int32) (H1 : Heap) (locs1 : List Loc), post r → StX D dT a A s vs0 X vs H1 locs1 → W p l e R s m args below meth c H1 locs1 cells slots Q (F0 m (pc + 3) ls (.int r :: rest))) : W p l e R s m args below meth c H locs cells slots Q (F0 m pc ls (.int p2 :: .int p1 :: .ref (a 0) :: rest)) := by
  exact wCallVNi (As := [.int p1, .int p2]) (rest := rest) (mc := 0) (ms := 0) 0 hC (met_X0_far l D dT a H.size X vs p1 p2 post hw) nw_q389 q336 q85 q335 qs6 ⟨⟨rfl, rfl⟩, hd_X0_far, hR, hf⟩ XW_0 rfl rfl hA hS.self hl rfl hrest hdg (fun r u H1 locs1 hp hS1 => kk r H1 locs1 hp.2 (by have h9 := hS.back hS1; rw [hp.1] at h9; exact h9))
end
/-! LeastFrames.quad -/
def w_X0_quad (X : XS) (p1 : Int32) (post : Int32 → Prop) : Prop :=
  v_X0_far X p1 (0 : Int32) (fun r1 => v_X0_far X p1 (0 : Int32) (fun r2 => v_X0_far X p1 (1 : Int32) (fun r3 => v_X0_far X p1 (1 : Int32) (fun r4 => post ((r1 * r2) + (r3 * r4))))))
abbrev rmX0_quad : Room := { frames := 3, cells := 0, slots := 0, locals := 64 }
set_option maxHeartbeats 4000000 in
set_option maxRecDepth 100000 in
theorem k_X0_quad_0 {p : Program} {l : Launch} {e : Env} {s : State} {m : MethodId} {args : Array Value} {below : List Frame} {meth : Method} {c : Code} {D : va_G} {dT : Nat → ClassId} {a : Nat → Nat} {A : Nat → Prop} {vs0 : XE} {X : XS} {p1 : Int32} {post : Int32 → Prop} (hC : wCx RX0 cX0_quad 2 (some .int) D dT p s m args meth c) (hA : wAz A s) {H : Heap} {locs : List Loc} {ls : Array Slot} (hS : StX D dT a A s vs0 X vs0 H locs) (hl : lv_has ls 2 [(0, .ref (a 0)), (1, .int p1)])  (hw : w_X0_quad X p1 post) : W p l e rmX0_quad s m args below meth c H locs 0 0 (MQ below (va_Qi (fun r u9 => u9 = (X, vs0) ∧ post r) (wB D (XW dT a) (XI vs0) A) A) args s 0 0 A) (F0 m 0 ls []) := by
  have hx := hC.1
  have hb := hC.2.1
  have hown := hC.2.2.2.1
  have hts := hC.2.2.2.2.1
  unfold w_X0_quad at hw
  refine lv_aload_n hx hb dX0_quad_0 rfl (lv_at hl 0 rfl) ?_
  refine lv_iload_n hx hb dX0_quad_1 rfl (lv_at hl 1 rfl) ?_
  refine lv_iconst (v := 0) hx hb dX0_quad_2 (by decide) ?_
  refine inv_q333 hC hA hS hl.1 hw ⟨Nat.le_of_ble_eq_true rfl, Nat.le_of_ble_eq_true rfl⟩ (Nat.le_of_ble_eq_true rfl) ⟨Nat.zero_le _, Nat.zero_le _⟩ dX0_quad_3 (fun r1 H locs hw hS => ?_)
  refine lv_aload_n hx hb dX0_quad_6 rfl (lv_at hl 0 rfl) ?_
  refine lv_iload_n hx hb dX0_quad_7 rfl (lv_at hl 1 rfl) ?_
  refine lv_iconst (v := 0) hx hb dX0_quad_8 (by decide) ?_
  refine inv_q333 hC hA hS hl.1 hw ⟨Nat.le_of_ble_eq_true rfl, Nat.le_of_ble_eq_true rfl⟩ (Nat.le_of_ble_eq_true rfl) ⟨Nat.zero_le _, Nat.zero_le _⟩ dX0_quad_9 (fun r2 H locs hw hS => ?_)
  refine lv_imul hx hb dX0_quad_12 ?_
  refine lv_aload_n hx hb dX0_quad_13 rfl (lv_at hl 0 rfl) ?_
  refine lv_iload_n hx hb dX0_quad_14 rfl (lv_at hl 1 rfl) ?_
  refine lv_iconst (v := 1) hx hb dX0_quad_15 (by decide) ?_
  refine inv_q333 hC hA hS hl.1 hw ⟨Nat.le_of_ble_eq_true rfl, Nat.le_of_ble_eq_true rfl⟩ (Nat.le_of_ble_eq_true rfl) ⟨Nat.zero_le _, Nat.zero_le _⟩ dX0_quad_16 (fun r3 H locs hw hS => ?_)
  refine lv_aload_n hx hb dX0_quad_19 rfl (lv_at hl 0 rfl) ?_
  refine lv_iload_n hx hb dX0_quad_20 rfl (lv_at hl 1 rfl) ?_
  refine lv_iconst (v := 1) hx hb dX0_quad_21 (by decide) ?_
  refine inv_q333 hC hA hS hl.1 hw ⟨Nat.le_of_ble_eq_true rfl, Nat.le_of_ble_eq_true rfl⟩ (Nat.le_of_ble_eq_true rfl) ⟨Nat.zero_le _, Nat.zero_le _⟩ dX0_quad_22 (fun r4 H locs hw hS => ?_)
  refine lv_imul hx hb dX0_quad_25 ?_
  refine lv_iadd hx hb dX0_quad_26 ?_
  exact wReti hC hS ⟨rfl, hw⟩ (Nat.le_refl _) (Nat.le_refl _) dX0_quad_27
abbrev v_X0_quad (X : XS) (p1 : Int32) (post : Int32 → Prop) : Prop := w_X0_quad X p1 post
set_option maxHeartbeats 4000000 in
set_option maxRecDepth 100000 in
theorem met_X0_quad (l : Launch) (D : va_G) (dT : Nat → ClassId) (a : Nat → Nat) (sz : Nat) (X : XS) (vs0 : XE) (p1 : Int32) (post : Int32 → Prop) (hw : v_X0_quad X p1 post) : Met l yX0_quad (ws_ yX0_quad cX0_quad 2 (some .int)) rmX0_quad (wPc D dT (XW dT a) (XI vs0) sz (X, vs0) [.ref (a 0), .int p1]) (va_Qi (fun r u9 => u9 = (X, vs0) ∧ post r) (wB D (XW dT a) (XI vs0) (va_A ((XW dT a) (X, vs0)) sz)) (va_A ((XW dT a) (X, vs0)) sz)) 0 0 (va_A ((XW dT a) (X, vs0)) sz) :=
  wEnt (Q := fun A => (va_Qi (fun r u9 => u9 = (X, vs0) ∧ post r) (wB D (XW dT a) (XI vs0) A) A)) (by decide) (Nat.le_of_ble_eq_true rfl) (fun p e s m below meth c A ls hC _ hA hS hl => k_X0_quad_0 hC hA  hS hl hw) sz
theorem hd_X0_quad : yX0_quad.cls ≠ "java/lang/invoke/MethodHandle" ∧ yX0_quad.cls ≠ "java/lang/invoke/VarHandle" ∧ (parseMethodDescriptor yX0_quad.desc).map (fun d => d.parameters.length) = some 1 := by decide +kernel
section
variable {p : Program} {l : Launch} {e : Env} {R : Room} {s : State} {m : MethodId} {args : Array Value} {below : List Frame} {meth : Method} {c : Code} {H : Heap} {locs : List Loc} {cells slots : Nat} {Q : State → Prop} {cc : ByteArray} {nL : Nat} {ret : Option FieldType} {pc : Nat} {ls : Array Slot} {rest : List Value}
set_option maxHeartbeats 4000000 in
set_option maxRecDepth 100000 in
theorem inv_q329 {D : va_G} {dT : Nat → ClassId} {a : Nat → Nat} {A : Nat → Prop} {vs0 : XE} {vs : XE} {X : XS} {p1 : Int32} {post : Int32 → Prop} (hC : wCx RX0 cc nL ret D dT p s m args meth c) (hA : wAz A s) (hS : StX D dT a A s vs0 X vs H locs) (hl : ls.size = nL) (hw : v_X0_quad X p1 post) (hR : rmX0_quad.frames + 1 ≤ R.frames ∧ 8 + (2 + 11) + rmX0_quad.locals ≤ R.locals) (hrest : (rest.map fun v => v.category).sum ≤ 8) (hf : cells ≤ R.cells ∧ slots ≤ R.slots) (hdg : decode cc pc = .ok (.invokevirtual 200, 3)) (kk : ∀ (r : Int32) (H1 : Heap) (locs1 : List Loc), post r → StX D dT a A s vs0 X vs H1 locs1 → W p l e R s m args below meth c H1 locs1 cells slots Q (F0 m (pc + 3) ls (.int r :: rest))) : W p l e R s m args below meth c H locs cells slots Q (F0 m pc ls (.int p1 :: .ref (a 0) :: rest)) := by
  exact wCallVi (As := [.int p1]) (rest := rest) (mc := 0) (ms := 0) 0 hC (met_X0_quad l D dT a H.size X vs p1 post hw) (lw_V q329 q331 qs5 q85 q332) ⟨⟨rfl, rfl⟩, hd_X0_quad, hR, hf⟩ XW_0 rfl rfl hA hS.self hl rfl hrest hdg (fun r u H1 locs1 hp hS1 => kk r H1 locs1 hp.2 (by have h9 := hS.back hS1; rw [hp.1] at h9; exact h9))
end
section
variable {p : Program} {l : Launch} {e : Env} {R : Room} {s : State} {m : MethodId} {args : Array Value} {below : List Frame} {meth : Method} {c : Code} {H : Heap} {locs : List Loc} {cells slots : Nat} {Q : State → Prop} {cc : ByteArray} {nL : Nat} {ret : Option FieldType} {pc : Nat} {ls : Array Slot} {rest : List Value}
set_option maxHeartbeats 4000000 in
set_option maxRecDepth 100000 in
theorem inv_q493 {D : va_G} {dT : Nat → ClassId} {a : Nat → Nat} {A : Nat → Prop} {vs0 : XE} {vs : XE} {X : XS} {p1 : Int32} {post : Int32 → Prop} (hC : wCx RX2 cc nL ret D dT p s m args meth c) (hA : wAz A s) (hS : StX D dT a A s vs0 X vs H locs) (hl : ls.size = nL) (hw : v_X0_quad X p1 post) (hR : rmX0_quad.frames + 1 ≤ R.frames ∧ 8 + (2 + 11) + rmX0_quad.locals ≤ R.locals) (hrest : (rest.map fun v => v.category).sum ≤ 8) (hf : cells ≤ R.cells ∧ slots ≤ R.slots) (hdg : decode cc pc = .ok (.invokevirtual 87, 3)) (kk : ∀ (r : Int32) (H1 : Heap) (locs1 : List Loc), post r → StX D dT a A s vs0 X vs H1 locs1 → W p l e R s m args below meth c H1 locs1 cells slots Q (F0 m (pc + 3) ls (.int r :: rest))) : W p l e R s m args below meth c H locs cells slots Q (F0 m pc ls (.int p1 :: .ref (a 0) :: rest)) := by
  exact wCallVNi (As := [.int p1]) (rest := rest) (mc := 0) (ms := 0) 0 hC (met_X0_quad l D dT a H.size X vs p1 post hw) nw_q493 q332 q85 q331 qs5 ⟨⟨rfl, rfl⟩, hd_X0_quad, hR, hf⟩ XW_0 rfl rfl hA hS.self hl rfl hrest hdg (fun r u H1 locs1 hp hS1 => kk r H1 locs1 hp.2 (by have h9 := hS.back hS1; rw [hp.1] at h9; exact h9))
end
/-! LeastFrames.isIn -/
def w_X0_isIn (p0 : Int32) (p1 : Int32) (post : Int32 → Prop) : Prop :=
  (((p0 >>> (p1 &&& 31)) &&& 1) = (1 : Int32) → (post (1 : Int32))) ∧ (¬ ((p0 >>> (p1 &&& 31)) &&& 1) = (1 : Int32) → (post (0 : Int32)))
abbrev rmX0_isIn : Room := { frames := 0, cells := 0, slots := 0, locals := 0 }
set_option maxHeartbeats 4000000 in
set_option maxRecDepth 100000 in
theorem k_X0_isIn_0 {p : Program} {l : Launch} {e : Env} {s : State} {m : MethodId} {args : Array Value} {below : List Frame} {meth : Method} {c : Code}  {p0 : Int32} {p1 : Int32} {post : Int32 → Prop} (hC : sCx RX0 cX0_isIn 2 (some .boolean) p s m args meth c) {H : Heap} {locs : List Loc} {ls : Array Slot} (hS : va_S (fun _ => False) s.heap H locs) (hl : lv_has ls 2 [(0, .int p0), (1, .int p1)])  (hw : w_X0_isIn p0 p1 post) : W p l e rmX0_isIn s m args below meth c H locs 0 0 (MQ below (va_Qi (fun r (_ : Unit) => post r) (fun _ _ => True) (fun _ => False)) args s 0 0 (fun _ => False)) (F0 m 0 ls []) := by
  have hx := hC.1
  have hb := hC.2.1
  have hown := hC.2.2.2.1
  have hts := hC.2.2.2.2.1
  unfold w_X0_isIn at hw
  refine lv_iload_n hx hb dX0_isIn_0 rfl (lv_at hl 0 rfl) ?_
  refine lv_iload_n hx hb dX0_isIn_1 rfl (lv_at hl 1 rfl) ?_
  refine lv_ishr hx hb dX0_isIn_2 ?_
  refine lv_iconst (v := 1) hx hb dX0_isIn_3 (by decide) ?_
  refine lv_iand hx hb dX0_isIn_4 ?_
  refine lv_iconst (v := 1) hx hb dX0_isIn_5 (by decide) ?_
  refine lv_icmp_ne (tgt := 13) hx hb dX0_isIn_6 (by decide) (fun c1 => ?_) (fun c1 => ?_)
  · have hw := hw.2 c1
    refine lv_iconst (v := 0) hx hb dX0_isIn_13 (by decide) ?_
    exact sRetz hC hS (by decide) hw dX0_isIn_14
  · have hw := hw.1 c1
    refine lv_iconst (v := 1) hx hb dX0_isIn_9 (by decide) ?_
    refine lv_goto (tgt := 14) hx hb dX0_isIn_10 (by decide) ?_
    exact sRetz hC hS (by decide) hw dX0_isIn_14
abbrev v_X0_isIn (p0 : Int32) (p1 : Int32) (post : Int32 → Prop) : Prop := w_X0_isIn p0 p1 post
set_option maxHeartbeats 4000000 in
set_option maxRecDepth 100000 in
theorem met_X0_isIn (l : Launch) (p0 : Int32) (p1 : Int32) (post : Int32 → Prop) (hw : v_X0_isIn p0 p1 post) : Met l yX0_isIn (ws_ yX0_isIn cX0_isIn 2 (some .boolean)) rmX0_isIn (va_Pc [.int p0, .int p1] (fun _ => True)) (va_Qi (fun r (_ : Unit) => post r) (fun _ _ => True) (fun _ => False)) 0 0 (fun _ => False) :=
  sEnt (by decide) (Nat.le_of_ble_eq_true rfl) (fun p e s m below meth c ls hC hS hl => k_X0_isIn_0 hC  hS hl hw)
theorem hd_X0_isIn : yX0_isIn.cls ≠ "java/lang/invoke/MethodHandle" ∧ yX0_isIn.cls ≠ "java/lang/invoke/VarHandle" ∧ (parseMethodDescriptor yX0_isIn.desc).map (fun d => d.parameters.length) = some 2 := by decide +kernel
section
variable {p : Program} {l : Launch} {e : Env} {R : Room} {s : State} {m : MethodId} {args : Array Value} {below : List Frame} {meth : Method} {c : Code} {H : Heap} {locs : List Loc} {cells slots : Nat} {Q : State → Prop} {cc : ByteArray} {nL : Nat} {ret : Option FieldType} {pc : Nat} {ls : Array Slot} {rest : List Value}
set_option maxHeartbeats 4000000 in
set_option maxRecDepth 100000 in
theorem inv_q341 {σ : Type} {D : va_G} {dT : Nat → ClassId} {Wd : σ → va_W} {I : σ → Prop} {A : Nat → Prop} {x : σ} {p0 : Int32} {p1 : Int32} {post : Int32 → Prop} (hC : wCx RX0 cc nL ret D dT p s m args meth c) (hS : wSt D Wd I A s x H locs) (hl : ls.size = nL) (hw : v_X0_isIn p0 p1 post) (hR : rmX0_isIn.frames + 1 ≤ R.frames ∧ 8 + (2 + 11) + rmX0_isIn.locals ≤ R.locals) (hrest : (rest.map fun v => v.category).sum ≤ 8) (hf : cells ≤ R.cells ∧ slots ≤ R.slots) (hdg : decode cc pc = .ok (.invokestatic 93, 3)) (kk : ∀ (r : Int32) (H1 : Heap) (locs1 : List Loc), post r → wSt D Wd I A s x H1 locs1 → W p l e R s m args below meth c H1 locs1 cells slots Q (F0 m (pc + 3) ls (.int r :: rest))) : W p l e R s m args below meth c H locs cells slots Q (F0 m pc ls (.int p1 :: .int p0 :: rest)) :=
  wCallSi (As := [.int p0, .int p1]) (rest := rest) hC (met_X0_isIn l p0 p1 post hw) (lw_S q341 q342 q85 q343) ⟨⟨rfl, rfl⟩, hd_X0_isIn, hR, hf⟩ hS hl rfl hrest hdg kk
set_option maxHeartbeats 4000000 in
set_option maxRecDepth 100000 in
theorem invs_q341 {p0 : Int32} {p1 : Int32} {post : Int32 → Prop} (hC : sCx RX0 cc nL ret p s m args meth c) (hS : va_S (fun _ => False) s.heap H locs) (hl : ls.size = nL) (hw : v_X0_isIn p0 p1 post) (hR : rmX0_isIn.frames + 1 ≤ R.frames ∧ 8 + (2 + 11) + rmX0_isIn.locals ≤ R.locals) (hrest : (rest.map fun v => v.category).sum ≤ 8) (hf : cells ≤ R.cells ∧ slots ≤ R.slots) (hdg : decode cc pc = .ok (.invokestatic 93, 3)) (kk : ∀ (r : Int32) (H1 : Heap) (locs1 : List Loc), post r → va_S (fun _ => False) s.heap H1 locs1 → W p l e R s m args below meth c H1 locs1 cells slots Q (F0 m (pc + 3) ls (.int r :: rest))) : W p l e R s m args below meth c H locs cells slots Q (F0 m pc ls (.int p1 :: .int p0 :: rest)) :=
  sCallSi (As := [.int p0, .int p1]) (rest := rest) hC (met_X0_isIn l p0 p1 post hw) (lw_S q341 q342 q85 q343) ⟨⟨rfl, rfl⟩, hd_X0_isIn, hR, hf⟩ hS hl rfl hrest hdg kk
end
section
variable {p : Program} {l : Launch} {e : Env} {R : Room} {s : State} {m : MethodId} {args : Array Value} {below : List Frame} {meth : Method} {c : Code} {H : Heap} {locs : List Loc} {cells slots : Nat} {Q : State → Prop} {cc : ByteArray} {nL : Nat} {ret : Option FieldType} {pc : Nat} {ls : Array Slot} {rest : List Value}
set_option maxHeartbeats 4000000 in
set_option maxRecDepth 100000 in
theorem inv_q381 {σ : Type} {D : va_G} {dT : Nat → ClassId} {Wd : σ → va_W} {I : σ → Prop} {A : Nat → Prop} {x : σ} {p0 : Int32} {p1 : Int32} {post : Int32 → Prop} (hC : wCx RX1 cc nL ret D dT p s m args meth c) (hS : wSt D Wd I A s x H locs) (hl : ls.size = nL) (hw : v_X0_isIn p0 p1 post) (hR : rmX0_isIn.frames + 1 ≤ R.frames ∧ 8 + (2 + 11) + rmX0_isIn.locals ≤ R.locals) (hrest : (rest.map fun v => v.category).sum ≤ 8) (hf : cells ≤ R.cells ∧ slots ≤ R.slots) (hdg : decode cc pc = .ok (.invokestatic 26, 3)) (kk : ∀ (r : Int32) (H1 : Heap) (locs1 : List Loc), post r → wSt D Wd I A s x H1 locs1 → W p l e R s m args below meth c H1 locs1 cells slots Q (F0 m (pc + 3) ls (.int r :: rest))) : W p l e R s m args below meth c H locs cells slots Q (F0 m pc ls (.int p1 :: .int p0 :: rest)) :=
  wCallSNi (As := [.int p0, .int p1]) (rest := rest) hC (met_X0_isIn l p0 p1 post hw) nw_q381 q343 q85 q342 ⟨⟨rfl, rfl⟩, hd_X0_isIn, hR, hf⟩ hS hl rfl hrest hdg kk
end
section
variable {p : Program} {l : Launch} {e : Env} {R : Room} {s : State} {m : MethodId} {args : Array Value} {below : List Frame} {meth : Method} {c : Code} {H : Heap} {locs : List Loc} {cells slots : Nat} {Q : State → Prop} {cc : ByteArray} {nL : Nat} {ret : Option FieldType} {pc : Nat} {ls : Array Slot} {rest : List Value}
set_option maxHeartbeats 4000000 in
set_option maxRecDepth 100000 in
theorem inv_q386 {σ : Type} {D : va_G} {dT : Nat → ClassId} {Wd : σ → va_W} {I : σ → Prop} {A : Nat → Prop} {x : σ} {p0 : Int32} {p1 : Int32} {post : Int32 → Prop} (hC : wCx RX2 cc nL ret D dT p s m args meth c) (hS : wSt D Wd I A s x H locs) (hl : ls.size = nL) (hw : v_X0_isIn p0 p1 post) (hR : rmX0_isIn.frames + 1 ≤ R.frames ∧ 8 + (2 + 11) + rmX0_isIn.locals ≤ R.locals) (hrest : (rest.map fun v => v.category).sum ≤ 8) (hf : cells ≤ R.cells ∧ slots ≤ R.slots) (hdg : decode cc pc = .ok (.invokestatic 58, 3)) (kk : ∀ (r : Int32) (H1 : Heap) (locs1 : List Loc), post r → wSt D Wd I A s x H1 locs1 → W p l e R s m args below meth c H1 locs1 cells slots Q (F0 m (pc + 3) ls (.int r :: rest))) : W p l e R s m args below meth c H locs cells slots Q (F0 m pc ls (.int p1 :: .int p0 :: rest)) :=
  wCallSNi (As := [.int p0, .int p1]) (rest := rest) hC (met_X0_isIn l p0 p1 post hw) nw_q386 q343 q85 q342 ⟨⟨rfl, rfl⟩, hd_X0_isIn, hR, hf⟩ hS hl rfl hrest hdg kk
end
/-! LeastFrames.pairBy -/
def w_X0_pairBy (X : XS) (p1 : Int32) (p2 : Int32) (post : Int32 → Prop) : Prop :=
  ((p2 = 0 → (v_X0_lesser p1 (fun r2 => post r2))) ∧ (¬ p2 = 0 → ((p2 = 1 → (v_X0_greater p1 (fun r3 => post r3))) ∧ (¬ p2 = 1 → ((p2 = 2 → (v_X0_quad X p1 (fun r4 => post r4))) ∧ (¬ p2 = 2 → (v_X0_isIn (X_bars X) p1 (fun r5 => (r5 = (0 : Int32) → (post (0 : Int32))) ∧ (¬ r5 = (0 : Int32) → (post (1 : Int32)))))))))))
abbrev rmX0_pairBy : Room := { frames := 4, cells := 0, slots := 0, locals := 85 }
set_option maxHeartbeats 4000000 in
set_option maxRecDepth 100000 in
theorem k_X0_pairBy_0 {p : Program} {l : Launch} {e : Env} {s : State} {m : MethodId} {args : Array Value} {below : List Frame} {meth : Method} {c : Code} {D : va_G} {dT : Nat → ClassId} {a : Nat → Nat} {A : Nat → Prop} {vs0 : XE} {X : XS} {p1 : Int32} {p2 : Int32} {post : Int32 → Prop} (hC : wCx RX0 cX0_pairBy 3 (some .int) D dT p s m args meth c) (hA : wAz A s) {H : Heap} {locs : List Loc} {ls : Array Slot} (hS : StX D dT a A s vs0 X vs0 H locs) (hl : lv_has ls 3 [(0, .ref (a 0)), (1, .int p1), (2, .int p2)])  (hw : w_X0_pairBy X p1 p2 post) : W p l e rmX0_pairBy s m args below meth c H locs 0 0 (MQ below (va_Qi (fun r u9 => u9 = (X, vs0) ∧ post r) (wB D (XW dT a) (XI vs0) A) A) args s 0 0 A) (F0 m 0 ls []) := by
  have hx := hC.1
  have hb := hC.2.1
  have hown := hC.2.2.2.1
  have hts := hC.2.2.2.2.1
  unfold w_X0_pairBy at hw
  refine lv_iload_n hx hb dX0_pairBy_0 rfl (lv_at hl 2 rfl) ?_
  rcases Decidable.em (p2 = (0 : Int32)) with c1_0 | c1_0
  · have hw := hw.1 c1_0
    refine lv_tableIn (off := 27) (tgt := 28) hx hb dX0_pairBy_1 (by rw [c1_0]; decide) (by rw [c1_0]; decide) (by rw [c1_0]; decide) (by decide) ?_
    refine lv_iload_n hx hb dX0_pairBy_28 rfl (lv_at hl 1 rfl) ?_
    refine inv_q323 hC hS hl.1 hw ⟨Nat.le_of_ble_eq_true rfl, Nat.le_of_ble_eq_true rfl⟩ (Nat.le_of_ble_eq_true rfl) ⟨Nat.zero_le _, Nat.zero_le _⟩ dX0_pairBy_29 (fun r2 H locs hw hS => ?_)
    refine lv_goto (tgt := 66) hx hb dX0_pairBy_32 (by decide) ?_
    exact wReti hC hS ⟨rfl, hw⟩ (Nat.le_refl _) (Nat.le_refl _) dX0_pairBy_66
  have hw := hw.2 c1_0
  rcases Decidable.em (p2 = (1 : Int32)) with c1_1 | c1_1
  · have hw := hw.1 c1_1
    refine lv_tableIn (off := 34) (tgt := 35) hx hb dX0_pairBy_1 (by rw [c1_1]; decide) (by rw [c1_1]; decide) (by rw [c1_1]; decide) (by decide) ?_
    refine lv_iload_n hx hb dX0_pairBy_35 rfl (lv_at hl 1 rfl) ?_
    refine inv_q326 hC hS hl.1 hw ⟨Nat.le_of_ble_eq_true rfl, Nat.le_of_ble_eq_true rfl⟩ (Nat.le_of_ble_eq_true rfl) ⟨Nat.zero_le _, Nat.zero_le _⟩ dX0_pairBy_36 (fun r3 H locs hw hS => ?_)
    refine lv_goto (tgt := 66) hx hb dX0_pairBy_39 (by decide) ?_
    exact wReti hC hS ⟨rfl, hw⟩ (Nat.le_refl _) (Nat.le_refl _) dX0_pairBy_66
  have hw := hw.2 c1_1
  rcases Decidable.em (p2 = (2 : Int32)) with c1_2 | c1_2
  · have hw := hw.1 c1_2
    refine lv_tableIn (off := 41) (tgt := 42) hx hb dX0_pairBy_1 (by rw [c1_2]; decide) (by rw [c1_2]; decide) (by rw [c1_2]; decide) (by decide) ?_
    refine lv_aload_n hx hb dX0_pairBy_42 rfl (lv_at hl 0 rfl) ?_
    refine lv_iload_n hx hb dX0_pairBy_43 rfl (lv_at hl 1 rfl) ?_
    refine inv_q329 hC hA hS hl.1 hw ⟨Nat.le_of_ble_eq_true rfl, Nat.le_of_ble_eq_true rfl⟩ (Nat.le_of_ble_eq_true rfl) ⟨Nat.zero_le _, Nat.zero_le _⟩ dX0_pairBy_44 (fun r4 H locs hw hS => ?_)
    refine lv_goto (tgt := 66) hx hb dX0_pairBy_47 (by decide) ?_
    exact wReti hC hS ⟨rfl, hw⟩ (Nat.le_refl _) (Nat.le_refl _) dX0_pairBy_66
  have hw := hw.2 c1_2
  refine lv_tableOut (tgt := 50) hx hb dX0_pairBy_1 (sw_out (n := 3) (lt_s (lt_s (lt_s lt_0 c1_0) c1_1) c1_2) (by decide) (by decide)) (by decide) ?_
  refine lv_aload_n hx hb dX0_pairBy_50 rfl (lv_at hl 0 rfl) ?_
  refine ld_q197 hC hS dX0_pairBy_51 ?_
  refine lv_iload_n hx hb dX0_pairBy_54 rfl (lv_at hl 1 rfl) ?_
  refine inv_q341 hC hS hl.1 hw ⟨Nat.le_of_ble_eq_true rfl, Nat.le_of_ble_eq_true rfl⟩ (Nat.le_of_ble_eq_true rfl) ⟨Nat.zero_le _, Nat.zero_le _⟩ dX0_pairBy_55 (fun r5 H locs hw hS => ?_)
  refine lv_if_eq (tgt := 65) hx hb dX0_pairBy_58 (by decide) (fun c6 => ?_) (fun c6 => ?_)
  · have hw := hw.1 c6
    refine lv_iconst (v := 0) hx hb dX0_pairBy_65 (by decide) ?_
    exact wReti hC hS ⟨rfl, hw⟩ (Nat.le_refl _) (Nat.le_refl _) dX0_pairBy_66
  · have hw := hw.2 c6
    refine lv_iconst (v := 1) hx hb dX0_pairBy_61 (by decide) ?_
    refine lv_goto (tgt := 66) hx hb dX0_pairBy_62 (by decide) ?_
    exact wReti hC hS ⟨rfl, hw⟩ (Nat.le_refl _) (Nat.le_refl _) dX0_pairBy_66
abbrev v_X0_pairBy (X : XS) (p1 : Int32) (p2 : Int32) (post : Int32 → Prop) : Prop := w_X0_pairBy X p1 p2 post
set_option maxHeartbeats 4000000 in
set_option maxRecDepth 100000 in
theorem met_X0_pairBy (l : Launch) (D : va_G) (dT : Nat → ClassId) (a : Nat → Nat) (sz : Nat) (X : XS) (vs0 : XE) (p1 : Int32) (p2 : Int32) (post : Int32 → Prop) (hw : v_X0_pairBy X p1 p2 post) : Met l yX0_pairBy (ws_ yX0_pairBy cX0_pairBy 3 (some .int)) rmX0_pairBy (wPc D dT (XW dT a) (XI vs0) sz (X, vs0) [.ref (a 0), .int p1, .int p2]) (va_Qi (fun r u9 => u9 = (X, vs0) ∧ post r) (wB D (XW dT a) (XI vs0) (va_A ((XW dT a) (X, vs0)) sz)) (va_A ((XW dT a) (X, vs0)) sz)) 0 0 (va_A ((XW dT a) (X, vs0)) sz) :=
  wEnt (Q := fun A => (va_Qi (fun r u9 => u9 = (X, vs0) ∧ post r) (wB D (XW dT a) (XI vs0) A) A)) (by decide) (Nat.le_of_ble_eq_true rfl) (fun p e s m below meth c A ls hC _ hA hS hl => k_X0_pairBy_0 hC hA  hS hl hw) sz
theorem hd_X0_pairBy : yX0_pairBy.cls ≠ "java/lang/invoke/MethodHandle" ∧ yX0_pairBy.cls ≠ "java/lang/invoke/VarHandle" ∧ (parseMethodDescriptor yX0_pairBy.desc).map (fun d => d.parameters.length) = some 2 := by decide +kernel
section
variable {p : Program} {l : Launch} {e : Env} {R : Room} {s : State} {m : MethodId} {args : Array Value} {below : List Frame} {meth : Method} {c : Code} {H : Heap} {locs : List Loc} {cells slots : Nat} {Q : State → Prop} {cc : ByteArray} {nL : Nat} {ret : Option FieldType} {pc : Nat} {ls : Array Slot} {rest : List Value}
set_option maxHeartbeats 4000000 in
set_option maxRecDepth 100000 in
theorem inv_q319 {D : va_G} {dT : Nat → ClassId} {a : Nat → Nat} {A : Nat → Prop} {vs0 : XE} {vs : XE} {X : XS} {p1 : Int32} {p2 : Int32} {post : Int32 → Prop} (hC : wCx RX0 cc nL ret D dT p s m args meth c) (hA : wAz A s) (hS : StX D dT a A s vs0 X vs H locs) (hl : ls.size = nL) (hw : v_X0_pairBy X p1 p2 post) (hR : rmX0_pairBy.frames + 1 ≤ R.frames ∧ 8 + (3 + 11) + rmX0_pairBy.locals ≤ R.locals) (hrest : (rest.map fun v => v.category).sum ≤ 8) (hf : cells ≤ R.cells ∧ slots ≤ R.slots) (hdg : decode cc pc = .ok (.invokevirtual 203, 3)) (kk : ∀ (r : Int32) (H1 : Heap) (locs1 : List Loc), post r → StX D dT a A s vs0 X vs H1 locs1 → W p l e R s m args below meth c H1 locs1 cells slots Q (F0 m (pc + 3) ls (.int r :: rest))) : W p l e R s m args below meth c H locs cells slots Q (F0 m pc ls (.int p2 :: .int p1 :: .ref (a 0) :: rest)) := by
  exact wCallVi (As := [.int p1, .int p2]) (rest := rest) (mc := 0) (ms := 0) 0 hC (met_X0_pairBy l D dT a H.size X vs p1 p2 post hw) (lw_V q319 q321 qs4 q85 q322) ⟨⟨rfl, rfl⟩, hd_X0_pairBy, hR, hf⟩ XW_0 rfl rfl hA hS.self hl rfl hrest hdg (fun r u H1 locs1 hp hS1 => kk r H1 locs1 hp.2 (by have h9 := hS.back hS1; rw [hp.1] at h9; exact h9))
end
/-! LeastFrames.pair -/
def w_X0_pair (X : XS) (p1 : Int32) (p2 : Int32) (post : Int32 → Prop) : Prop :=
  v_X0_isPair X p1 (fun r1 => (r1 = (0 : Int32) → (post ((-2) : Int32))) ∧ (¬ r1 = (0 : Int32) → (v_X0_in p2.toInt64 (0 : Int64) (3 : Int64) (fun r3 => (r3 = (0 : Int32) → (post ((-2) : Int32))) ∧ (¬ r3 = (0 : Int32) → (v_X0_pairBy X p1 p2 (fun r5 => post r5)))))))
abbrev rmX0_pair : Room := { frames := 5, cells := 0, slots := 0, locals := 107 }
set_option maxHeartbeats 4000000 in
set_option maxRecDepth 100000 in
theorem k_X0_pair_0 {p : Program} {l : Launch} {e : Env} {s : State} {m : MethodId} {args : Array Value} {below : List Frame} {meth : Method} {c : Code} {D : va_G} {dT : Nat → ClassId} {a : Nat → Nat} {A : Nat → Prop} {vs0 : XE} {X : XS} {p1 : Int32} {p2 : Int32} {post : Int32 → Prop} (hC : wCx RX0 cX0_pair 3 (some .int) D dT p s m args meth c) (hA : wAz A s) {H : Heap} {locs : List Loc} {ls : Array Slot} (hS : StX D dT a A s vs0 X vs0 H locs) (hl : lv_has ls 3 [(0, .ref (a 0)), (1, .int p1), (2, .int p2)])  (hw : w_X0_pair X p1 p2 post) : W p l e rmX0_pair s m args below meth c H locs 0 0 (MQ below (va_Qi (fun r u9 => u9 = (X, vs0) ∧ post r) (wB D (XW dT a) (XI vs0) A) A) args s 0 0 A) (F0 m 0 ls []) := by
  have hx := hC.1
  have hb := hC.2.1
  have hown := hC.2.2.2.1
  have hts := hC.2.2.2.2.1
  unfold w_X0_pair at hw
  refine lv_aload_n hx hb dX0_pair_0 rfl (lv_at hl 0 rfl) ?_
  refine lv_iload_n hx hb dX0_pair_1 rfl (lv_at hl 1 rfl) ?_
  refine inv_q277 hC hA hS hl.1 hw ⟨Nat.le_of_ble_eq_true rfl, Nat.le_of_ble_eq_true rfl⟩ (Nat.le_of_ble_eq_true rfl) ⟨Nat.zero_le _, Nat.zero_le _⟩ dX0_pair_2 (fun r1 H locs hw hS => ?_)
  refine lv_if_eq (tgt := 29) hx hb dX0_pair_5 (by decide) (fun c2 => ?_) (fun c2 => ?_)
  · have hw := hw.1 c2
    refine lv_bipush (v := (-2)) hx hb dX0_pair_29 (by decide) ?_
    exact wReti hC hS ⟨rfl, hw⟩ (Nat.le_refl _) (Nat.le_refl _) dX0_pair_31
  · have hw := hw.2 c2
    refine lv_iload_n hx hb dX0_pair_8 rfl (lv_at hl 2 rfl) ?_
    refine lv_i2l hx hb dX0_pair_9 rfl ?_
    refine lv_lconst (v := 0) hx hb dX0_pair_10 (by decide) ?_
    refine lv_ldc2 (v := 3) hx hb hown (hts _ q262) dX0_pair_11 ?_
    refine inv_q239 hC hS hl.1 hw ⟨Nat.le_of_ble_eq_true rfl, Nat.le_of_ble_eq_true rfl⟩ (Nat.le_of_ble_eq_true rfl) ⟨Nat.zero_le _, Nat.zero_le _⟩ dX0_pair_14 (fun r3 H locs hw hS => ?_)
    refine lv_if_eq (tgt := 29) hx hb dX0_pair_17 (by decide) (fun c4 => ?_) (fun c4 => ?_)
    · have hw := hw.1 c4
      refine lv_bipush (v := (-2)) hx hb dX0_pair_29 (by decide) ?_
      exact wReti hC hS ⟨rfl, hw⟩ (Nat.le_refl _) (Nat.le_refl _) dX0_pair_31
    · have hw := hw.2 c4
      refine lv_aload_n hx hb dX0_pair_20 rfl (lv_at hl 0 rfl) ?_
      refine lv_iload_n hx hb dX0_pair_21 rfl (lv_at hl 1 rfl) ?_
      refine lv_iload_n hx hb dX0_pair_22 rfl (lv_at hl 2 rfl) ?_
      refine inv_q319 hC hA hS hl.1 hw ⟨Nat.le_of_ble_eq_true rfl, Nat.le_of_ble_eq_true rfl⟩ (Nat.le_of_ble_eq_true rfl) ⟨Nat.zero_le _, Nat.zero_le _⟩ dX0_pair_23 (fun r5 H locs hw hS => ?_)
      refine lv_goto (tgt := 31) hx hb dX0_pair_26 (by decide) ?_
      exact wReti hC hS ⟨rfl, hw⟩ (Nat.le_refl _) (Nat.le_refl _) dX0_pair_31
abbrev v_X0_pair (X : XS) (p1 : Int32) (p2 : Int32) (post : Int32 → Prop) : Prop := w_X0_pair X p1 p2 post
set_option maxHeartbeats 4000000 in
set_option maxRecDepth 100000 in
theorem met_X0_pair (l : Launch) (D : va_G) (dT : Nat → ClassId) (a : Nat → Nat) (sz : Nat) (X : XS) (vs0 : XE) (p1 : Int32) (p2 : Int32) (post : Int32 → Prop) (hw : v_X0_pair X p1 p2 post) : Met l yX0_pair (ws_ yX0_pair cX0_pair 3 (some .int)) rmX0_pair (wPc D dT (XW dT a) (XI vs0) sz (X, vs0) [.ref (a 0), .int p1, .int p2]) (va_Qi (fun r u9 => u9 = (X, vs0) ∧ post r) (wB D (XW dT a) (XI vs0) (va_A ((XW dT a) (X, vs0)) sz)) (va_A ((XW dT a) (X, vs0)) sz)) 0 0 (va_A ((XW dT a) (X, vs0)) sz) :=
  wEnt (Q := fun A => (va_Qi (fun r u9 => u9 = (X, vs0) ∧ post r) (wB D (XW dT a) (XI vs0) A) A)) (by decide) (Nat.le_of_ble_eq_true rfl) (fun p e s m below meth c A ls hC _ hA hS hl => k_X0_pair_0 hC hA  hS hl hw) sz
theorem hd_X0_pair : yX0_pair.cls ≠ "java/lang/invoke/MethodHandle" ∧ yX0_pair.cls ≠ "java/lang/invoke/VarHandle" ∧ (parseMethodDescriptor yX0_pair.desc).map (fun d => d.parameters.length) = some 2 := by decide +kernel
/-! LeastFrames.no -/
def w_X0_no (p0 : Int32) (post : Int64 → Prop) : Prop :=
  post ((-9223372036854775808) - p0.toInt64)
abbrev rmX0_no : Room := { frames := 0, cells := 0, slots := 0, locals := 0 }
set_option maxHeartbeats 4000000 in
set_option maxRecDepth 100000 in
theorem k_X0_no_0 {p : Program} {l : Launch} {e : Env} {s : State} {m : MethodId} {args : Array Value} {below : List Frame} {meth : Method} {c : Code}  {p0 : Int32} {post : Int64 → Prop} (hC : sCx RX0 cX0_no 1 (some .long) p s m args meth c) {H : Heap} {locs : List Loc} {ls : Array Slot} (hS : va_S (fun _ => False) s.heap H locs) (hl : lv_has ls 1 [(0, .int p0)])  (hw : w_X0_no p0 post) : W p l e rmX0_no s m args below meth c H locs 0 0 (MQ below (va_Ql (fun r (_ : Unit) => post r) (fun _ _ => True) (fun _ => False)) args s 0 0 (fun _ => False)) (F0 m 0 ls []) := by
  have hx := hC.1
  have hb := hC.2.1
  have hown := hC.2.2.2.1
  have hts := hC.2.2.2.2.1
  unfold w_X0_no at hw
  refine lv_ldc2 (v := (-9223372036854775808)) hx hb hown (hts _ q351) dX0_no_0 ?_
  refine lv_iload_n hx hb dX0_no_3 rfl (lv_at hl 0 rfl) ?_
  refine lv_i2l hx hb dX0_no_4 rfl ?_
  refine lv_lsub hx hb dX0_no_5 ?_
  exact sRetl hC hS hw dX0_no_6
abbrev v_X0_no (p0 : Int32) (post : Int64 → Prop) : Prop := w_X0_no p0 post
set_option maxHeartbeats 4000000 in
set_option maxRecDepth 100000 in
theorem met_X0_no (l : Launch) (p0 : Int32) (post : Int64 → Prop) (hw : v_X0_no p0 post) : Met l yX0_no (ws_ yX0_no cX0_no 1 (some .long)) rmX0_no (va_Pc [.int p0] (fun _ => True)) (va_Ql (fun r (_ : Unit) => post r) (fun _ _ => True) (fun _ => False)) 0 0 (fun _ => False) :=
  sEnt (by decide) (Nat.le_of_ble_eq_true rfl) (fun p e s m below meth c ls hC hS hl => k_X0_no_0 hC  hS hl hw)
theorem hd_X0_no : yX0_no.cls ≠ "java/lang/invoke/MethodHandle" ∧ yX0_no.cls ≠ "java/lang/invoke/VarHandle" ∧ (parseMethodDescriptor yX0_no.desc).map (fun d => d.parameters.length) = some 1 := by decide +kernel
section
variable {p : Program} {l : Launch} {e : Env} {R : Room} {s : State} {m : MethodId} {args : Array Value} {below : List Frame} {meth : Method} {c : Code} {H : Heap} {locs : List Loc} {cells slots : Nat} {Q : State → Prop} {cc : ByteArray} {nL : Nat} {ret : Option FieldType} {pc : Nat} {ls : Array Slot} {rest : List Value}
set_option maxHeartbeats 4000000 in
set_option maxRecDepth 100000 in
theorem inv_q348 {σ : Type} {D : va_G} {dT : Nat → ClassId} {Wd : σ → va_W} {I : σ → Prop} {A : Nat → Prop} {x : σ} {p0 : Int32} {post : Int64 → Prop} (hC : wCx RX0 cc nL ret D dT p s m args meth c) (hS : wSt D Wd I A s x H locs) (hl : ls.size = nL) (hw : v_X0_no p0 post) (hR : rmX0_no.frames + 1 ≤ R.frames ∧ 8 + (1 + 11) + rmX0_no.locals ≤ R.locals) (hrest : (rest.map fun v => v.category).sum ≤ 8) (hf : cells ≤ R.cells ∧ slots ≤ R.slots) (hdg : decode cc pc = .ok (.invokestatic 206, 3)) (kk : ∀ (r : Int64) (H1 : Heap) (locs1 : List Loc), post r → wSt D Wd I A s x H1 locs1 → W p l e R s m args below meth c H1 locs1 cells slots Q (F0 m (pc + 3) ls (.long r :: rest))) : W p l e R s m args below meth c H locs cells slots Q (F0 m pc ls (.int p0 :: rest)) :=
  wCallSl (As := [.int p0]) (rest := rest) hC (met_X0_no l p0 post hw) (lw_S q348 q349 q85 q350) ⟨⟨rfl, rfl⟩, hd_X0_no, hR, hf⟩ hS hl rfl hrest hdg kk
set_option maxHeartbeats 4000000 in
set_option maxRecDepth 100000 in
theorem invs_q348 {p0 : Int32} {post : Int64 → Prop} (hC : sCx RX0 cc nL ret p s m args meth c) (hS : va_S (fun _ => False) s.heap H locs) (hl : ls.size = nL) (hw : v_X0_no p0 post) (hR : rmX0_no.frames + 1 ≤ R.frames ∧ 8 + (1 + 11) + rmX0_no.locals ≤ R.locals) (hrest : (rest.map fun v => v.category).sum ≤ 8) (hf : cells ≤ R.cells ∧ slots ≤ R.slots) (hdg : decode cc pc = .ok (.invokestatic 206, 3)) (kk : ∀ (r : Int64) (H1 : Heap) (locs1 : List Loc), post r → va_S (fun _ => False) s.heap H1 locs1 → W p l e R s m args below meth c H1 locs1 cells slots Q (F0 m (pc + 3) ls (.long r :: rest))) : W p l e R s m args below meth c H locs cells slots Q (F0 m pc ls (.int p0 :: rest)) :=
  sCallSl (As := [.int p0]) (rest := rest) hC (met_X0_no l p0 post hw) (lw_S q348 q349 q85 q350) ⟨⟨rfl, rfl⟩, hd_X0_no, hR, hf⟩ hS hl rfl hrest hdg kk
end
/-! LeastFrames.divisor -/
def w_X0_divisor_12b (p0 : Int64) (p2 : Int64) (K12 : Int64 → Int64 → Prop) (post : Int64 → Prop) (x4 : Int64) (x6 : Int64) : Prop :=
  (x6 = (0 : Int64) → (post x4)) ∧ (¬ x6 = (0 : Int64) → ((¬ x6 = 0) ∧ (∀ v2 : Int64, v2 = x4 - x4 / x6 * x6 → (K12 x6 v2))))
def w_X0_divisor_12 (p0 : Int64) (p2 : Int64) (post : Int64 → Prop) : Nat → Int64 → Int64 → Prop
  | 0, _, _ => False
  | n + 1, x4, x6 => w_X0_divisor_12b p0 p2 (w_X0_divisor_12 p0 p2 post n) post x4 x6
def w_X0_divisor (p0 : Int64) (p2 : Int64) (post : Int64 → Prop) : Prop :=
  v_J2_abs p0 (fun r1 => v_J2_abs p2 (fun r2 => ∃ n, w_X0_divisor_12 p0 p2 post n r1 r2))
abbrev rmX0_divisor : Room := { frames := 1, cells := 0, slots := 0, locals := 21 }
set_option maxHeartbeats 4000000 in
set_option maxRecDepth 100000 in
theorem k_X0_divisor_12b {p : Program} {l : Launch} {e : Env} {s : State} {m : MethodId} {args : Array Value} {below : List Frame} {meth : Method} {c : Code}  {p0 : Int64} {p2 : Int64} {K12 : Int64 → Int64 → Prop} {post : Int64 → Prop} (hC : sCx RX0 cX0_divisor 10 (some .long) p s m args meth c) (hK12 : ∀ (x4 : Int64) (x6 : Int64), K12 x4 x6 → ∀ {H : Heap} {locs : List Loc} {ls : Array Slot}, va_S (fun _ => False) s.heap H locs → lv_has ls 10 [(4, .long x4), (6, .long x6)] → W p l e rmX0_divisor s m args below meth c H locs 0 0 (MQ below (va_Ql (fun r (_ : Unit) => post r) (fun _ _ => True) (fun _ => False)) args s 0 0 (fun _ => False)) (F0 m 12 ls [])) (x4 : Int64) (x6 : Int64) {H : Heap} {locs : List Loc} {ls : Array Slot} (hS : va_S (fun _ => False) s.heap H locs) (hl : lv_has ls 10 [(4, .long x4), (6, .long x6)])  (hw : w_X0_divisor_12b p0 p2 K12 post x4 x6) : W p l e rmX0_divisor s m args below meth c H locs 0 0 (MQ below (va_Ql (fun r (_ : Unit) => post r) (fun _ _ => True) (fun _ => False)) args s 0 0 (fun _ => False)) (F0 m 12 ls []) := by
  have hx := hC.1
  have hb := hC.2.1
  have hown := hC.2.2.2.1
  have hts := hC.2.2.2.2.1
  unfold w_X0_divisor_12b at hw
  refine lv_lload hx hb dX0_divisor_12 (lv_at hl 1 rfl) ?_
  refine lv_lconst (v := 0) hx hb dX0_divisor_14 (by decide) ?_
  refine lc_if_eq (tgt := 37) hx hb dX0_divisor_15 dX0_divisor_16 (by decide) (fun c1 => ?_) (fun c1 => ?_)
  · have hw := hw.1 c1
    refine lv_lload hx hb dX0_divisor_37 (lv_at hl 0 rfl) ?_
    exact sRetl hC hS hw dX0_divisor_39
  · have hw := hw.2 c1
    refine lv_lload hx hb dX0_divisor_19 (lv_at hl 0 rfl) ?_
    refine lv_lload hx hb dX0_divisor_21 (lv_at hl 1 rfl) ?_
    refine lv_lrem hx hb dX0_divisor_23 hw.1 ?_
    have hw := hw.2
    refine lv_topl (fun v2 ev2 => ?_)
    have hw := hw v2 ev2
    refine lv_lstore (lv' := [(8, .long v2), (4, .long x4), (6, .long x6)]) hx hb dX0_divisor_24 hl (by decide) rfl (fun ls hl => ?_)
    refine lv_lload hx hb dX0_divisor_26 (lv_at hl 2 rfl) ?_
    refine lv_lstore (lv' := [(4, .long x6), (8, .long v2), (6, .long x6)]) hx hb dX0_divisor_28 hl (by decide) rfl (fun ls hl => ?_)
    refine lv_lload hx hb dX0_divisor_30 (lv_at hl 1 rfl) ?_
    refine lv_lstore (lv' := [(6, .long v2), (4, .long x6), (8, .long v2)]) hx hb dX0_divisor_32 hl (by decide) rfl (fun ls hl => ?_)
    refine lv_goto (tgt := 12) hx hb dX0_divisor_34 (by decide) ?_
    exact hK12 _ _ hw hS (lv_sub hl [1, 0] rfl)
set_option maxHeartbeats 4000000 in
set_option maxRecDepth 100000 in
theorem k_X0_divisor_12 {p : Program} {l : Launch} {e : Env} {s : State} {m : MethodId} {args : Array Value} {below : List Frame} {meth : Method} {c : Code}  {p0 : Int64} {p2 : Int64} {post : Int64 → Prop} (hC : sCx RX0 cX0_divisor 10 (some .long) p s m args meth c) : ∀ (x4 : Int64) (x6 : Int64) (n : Nat), ∀ {H : Heap} {locs : List Loc} {ls : Array Slot}, va_S (fun _ => False) s.heap H locs → lv_has ls 10 [(4, .long x4), (6, .long x6)] → w_X0_divisor_12 p0 p2 post n x4 x6 → W p l e rmX0_divisor s m args below meth c H locs 0 0 (MQ below (va_Ql (fun r (_ : Unit) => post r) (fun _ _ => True) (fun _ => False)) args s 0 0 (fun _ => False)) (F0 m 12 ls []) := by
  intro x4 x6 n
  induction n generalizing x4 x6 with
  | zero => intro H locs ls  hS hl hw; exact hw.elim
  | succ n ih =>
    intro H locs ls  hS hl hw
    exact k_X0_divisor_12b hC (fun x4 x6 hk {H} {locs} {ls}  hS hl => ih x4 x6  hS hl hk) x4 x6  hS hl hw
set_option maxHeartbeats 4000000 in
set_option maxRecDepth 100000 in
theorem k_X0_divisor_0 {p : Program} {l : Launch} {e : Env} {s : State} {m : MethodId} {args : Array Value} {below : List Frame} {meth : Method} {c : Code}  {p0 : Int64} {p2 : Int64} {post : Int64 → Prop} (hC : sCx RX0 cX0_divisor 10 (some .long) p s m args meth c) {H : Heap} {locs : List Loc} {ls : Array Slot} (hS : va_S (fun _ => False) s.heap H locs) (hl : lv_has ls 10 [(0, .long p0), (2, .long p2)])  (hw : w_X0_divisor p0 p2 post) : W p l e rmX0_divisor s m args below meth c H locs 0 0 (MQ below (va_Ql (fun r (_ : Unit) => post r) (fun _ _ => True) (fun _ => False)) args s 0 0 (fun _ => False)) (F0 m 0 ls []) := by
  have hx := hC.1
  have hb := hC.2.1
  have hown := hC.2.2.2.1
  have hts := hC.2.2.2.2.1
  unfold w_X0_divisor at hw
  refine lv_lload_n hx hb dX0_divisor_0 rfl (lv_at hl 0 rfl) ?_
  refine invs_q513 hC hS hl.1 hw ⟨Nat.le_of_ble_eq_true rfl, Nat.le_of_ble_eq_true rfl⟩ (Nat.le_of_ble_eq_true rfl) ⟨Nat.zero_le _, Nat.zero_le _⟩ dX0_divisor_1 (fun r1 H locs hw hS => ?_)
  refine lv_lstore (lv' := [(4, .long r1), (0, .long p0), (2, .long p2)]) hx hb dX0_divisor_4 hl (by decide) rfl (fun ls hl => ?_)
  refine lv_lload_n hx hb dX0_divisor_6 rfl (lv_at hl 2 rfl) ?_
  refine invs_q513 hC hS hl.1 hw ⟨Nat.le_of_ble_eq_true rfl, Nat.le_of_ble_eq_true rfl⟩ (Nat.le_of_ble_eq_true rfl) ⟨Nat.zero_le _, Nat.zero_le _⟩ dX0_divisor_7 (fun r2 H locs hw hS => ?_)
  refine lv_lstore (lv' := [(6, .long r2), (4, .long r1), (0, .long p0), (2, .long p2)]) hx hb dX0_divisor_10 hl (by decide) rfl (fun ls hl => ?_)
  obtain ⟨n, hw⟩ := hw
  exact k_X0_divisor_12 hC _ _ n hS (lv_sub hl [1, 0] rfl) hw
abbrev v_X0_divisor (p0 : Int64) (p2 : Int64) (post : Int64 → Prop) : Prop := w_X0_divisor p0 p2 post
set_option maxHeartbeats 4000000 in
set_option maxRecDepth 100000 in
theorem met_X0_divisor (l : Launch) (p0 : Int64) (p2 : Int64) (post : Int64 → Prop) (hw : v_X0_divisor p0 p2 post) : Met l yX0_divisor (ws_ yX0_divisor cX0_divisor 10 (some .long)) rmX0_divisor (va_Pc [.long p0, .long p2] (fun _ => True)) (va_Ql (fun r (_ : Unit) => post r) (fun _ _ => True) (fun _ => False)) 0 0 (fun _ => False) :=
  sEnt (by decide) (Nat.le_of_ble_eq_true rfl) (fun p e s m below meth c ls hC hS hl => k_X0_divisor_0 hC  hS hl hw)
theorem hd_X0_divisor : yX0_divisor.cls ≠ "java/lang/invoke/MethodHandle" ∧ yX0_divisor.cls ≠ "java/lang/invoke/VarHandle" ∧ (parseMethodDescriptor yX0_divisor.desc).map (fun d => d.parameters.length) = some 2 := by decide +kernel
section
variable {p : Program} {l : Launch} {e : Env} {R : Room} {s : State} {m : MethodId} {args : Array Value} {below : List Frame} {meth : Method} {c : Code} {H : Heap} {locs : List Loc} {cells slots : Nat} {Q : State → Prop} {cc : ByteArray} {nL : Nat} {ret : Option FieldType} {pc : Nat} {ls : Array Slot} {rest : List Value}
set_option maxHeartbeats 4000000 in
set_option maxRecDepth 100000 in
theorem inv_q510 {σ : Type} {D : va_G} {dT : Nat → ClassId} {Wd : σ → va_W} {I : σ → Prop} {A : Nat → Prop} {x : σ} {p0 : Int64} {p2 : Int64} {post : Int64 → Prop} (hC : wCx RX0 cc nL ret D dT p s m args meth c) (hS : wSt D Wd I A s x H locs) (hl : ls.size = nL) (hw : v_X0_divisor p0 p2 post) (hR : rmX0_divisor.frames + 1 ≤ R.frames ∧ 8 + (10 + 11) + rmX0_divisor.locals ≤ R.locals) (hrest : (rest.map fun v => v.category).sum ≤ 8) (hf : cells ≤ R.cells ∧ slots ≤ R.slots) (hdg : decode cc pc = .ok (.invokestatic 56, 3)) (kk : ∀ (r : Int64) (H1 : Heap) (locs1 : List Loc), post r → wSt D Wd I A s x H1 locs1 → W p l e R s m args below meth c H1 locs1 cells slots Q (F0 m (pc + 3) ls (.long r :: rest))) : W p l e R s m args below meth c H locs cells slots Q (F0 m pc ls (.long p2 :: .long p0 :: rest)) :=
  wCallSl (As := [.long p0, .long p2]) (rest := rest) hC (met_X0_divisor l p0 p2 post hw) (lw_S q510 q511 q85 q512) ⟨⟨rfl, rfl⟩, hd_X0_divisor, hR, hf⟩ hS hl rfl hrest hdg kk
set_option maxHeartbeats 4000000 in
set_option maxRecDepth 100000 in
theorem invs_q510 {p0 : Int64} {p2 : Int64} {post : Int64 → Prop} (hC : sCx RX0 cc nL ret p s m args meth c) (hS : va_S (fun _ => False) s.heap H locs) (hl : ls.size = nL) (hw : v_X0_divisor p0 p2 post) (hR : rmX0_divisor.frames + 1 ≤ R.frames ∧ 8 + (10 + 11) + rmX0_divisor.locals ≤ R.locals) (hrest : (rest.map fun v => v.category).sum ≤ 8) (hf : cells ≤ R.cells ∧ slots ≤ R.slots) (hdg : decode cc pc = .ok (.invokestatic 56, 3)) (kk : ∀ (r : Int64) (H1 : Heap) (locs1 : List Loc), post r → va_S (fun _ => False) s.heap H1 locs1 → W p l e R s m args below meth c H1 locs1 cells slots Q (F0 m (pc + 3) ls (.long r :: rest))) : W p l e R s m args below meth c H locs cells slots Q (F0 m pc ls (.long p2 :: .long p0 :: rest)) :=
  sCallSl (As := [.long p0, .long p2]) (rest := rest) hC (met_X0_divisor l p0 p2 post hw) (lw_S q510 q511 q85 q512) ⟨⟨rfl, rfl⟩, hd_X0_divisor, hR, hf⟩ hS hl rfl hrest hdg kk
end
/-! LeastFrames.part -/
def w_X0_part_10 (p0 : Int64) (p2 : Int64) (p4 : Int32) (post : Int64 → Prop) (y0 : Int64) : Prop :=
  v_X0_divisor p0 p2 (fun r1 => (¬ r1 = 0) ∧ (post (y0 / r1)))
def w_X0_part (p0 : Int64) (p2 : Int64) (p4 : Int32) (post : Int64 → Prop) : Prop :=
  (p4 = (0 : Int32) → (w_X0_part_10 p0 p2 p4 post p0)) ∧ (¬ p4 = (0 : Int32) → (w_X0_part_10 p0 p2 p4 post p2))
abbrev rmX0_part : Room := { frames := 2, cells := 0, slots := 0, locals := 50 }
set_option maxHeartbeats 4000000 in
set_option maxRecDepth 100000 in
theorem k_X0_part_10 {p : Program} {l : Launch} {e : Env} {s : State} {m : MethodId} {args : Array Value} {below : List Frame} {meth : Method} {c : Code}  {p0 : Int64} {p2 : Int64} {p4 : Int32} {post : Int64 → Prop} (hC : sCx RX0 cX0_part 5 (some .long) p s m args meth c) (y0 : Int64) {H : Heap} {locs : List Loc} {ls : Array Slot} (hS : va_S (fun _ => False) s.heap H locs) (hl : lv_has ls 5 [(0, .long p0), (2, .long p2)])  (hw : w_X0_part_10 p0 p2 p4 post y0) : W p l e rmX0_part s m args below meth c H locs 0 0 (MQ below (va_Ql (fun r (_ : Unit) => post r) (fun _ _ => True) (fun _ => False)) args s 0 0 (fun _ => False)) (F0 m 10 ls [.long y0]) := by
  have hx := hC.1
  have hb := hC.2.1
  have hown := hC.2.2.2.1
  have hts := hC.2.2.2.2.1
  unfold w_X0_part_10 at hw
  refine lv_lload_n hx hb dX0_part_10 rfl (lv_at hl 0 rfl) ?_
  refine lv_lload_n hx hb dX0_part_11 rfl (lv_at hl 1 rfl) ?_
  refine invs_q510 hC hS hl.1 hw ⟨Nat.le_of_ble_eq_true rfl, Nat.le_of_ble_eq_true rfl⟩ (Nat.le_of_ble_eq_true rfl) ⟨Nat.zero_le _, Nat.zero_le _⟩ dX0_part_12 (fun r1 H locs hw hS => ?_)
  refine lv_ldiv hx hb dX0_part_15 hw.1 ?_
  have hw := hw.2
  exact sRetl hC hS hw dX0_part_16
set_option maxHeartbeats 4000000 in
set_option maxRecDepth 100000 in
theorem k_X0_part_0 {p : Program} {l : Launch} {e : Env} {s : State} {m : MethodId} {args : Array Value} {below : List Frame} {meth : Method} {c : Code}  {p0 : Int64} {p2 : Int64} {p4 : Int32} {post : Int64 → Prop} (hC : sCx RX0 cX0_part 5 (some .long) p s m args meth c) {H : Heap} {locs : List Loc} {ls : Array Slot} (hS : va_S (fun _ => False) s.heap H locs) (hl : lv_has ls 5 [(0, .long p0), (2, .long p2), (4, .int p4)])  (hw : w_X0_part p0 p2 p4 post) : W p l e rmX0_part s m args below meth c H locs 0 0 (MQ below (va_Ql (fun r (_ : Unit) => post r) (fun _ _ => True) (fun _ => False)) args s 0 0 (fun _ => False)) (F0 m 0 ls []) := by
  have hx := hC.1
  have hb := hC.2.1
  have hown := hC.2.2.2.1
  have hts := hC.2.2.2.2.1
  unfold w_X0_part at hw
  refine lv_iload hx hb dX0_part_0 (lv_at hl 2 rfl) ?_
  refine lv_if_ne (tgt := 9) hx hb dX0_part_2 (by decide) (fun c1 => ?_) (fun c1 => ?_)
  · have hw := hw.2 c1
    refine lv_lload_n hx hb dX0_part_9 rfl (lv_at hl 1 rfl) ?_
    exact k_X0_part_10 hC _ hS (lv_sub hl [0, 1] rfl) hw
  · have hw := hw.1 c1
    refine lv_lload_n hx hb dX0_part_5 rfl (lv_at hl 0 rfl) ?_
    refine lv_goto (tgt := 10) hx hb dX0_part_6 (by decide) ?_
    exact k_X0_part_10 hC _ hS (lv_sub hl [0, 1] rfl) hw
abbrev v_X0_part (p0 : Int64) (p2 : Int64) (p4 : Int32) (post : Int64 → Prop) : Prop := w_X0_part p0 p2 p4 post
set_option maxHeartbeats 4000000 in
set_option maxRecDepth 100000 in
theorem met_X0_part (l : Launch) (p0 : Int64) (p2 : Int64) (p4 : Int32) (post : Int64 → Prop) (hw : v_X0_part p0 p2 p4 post) : Met l yX0_part (ws_ yX0_part cX0_part 5 (some .long)) rmX0_part (va_Pc [.long p0, .long p2, .int p4] (fun _ => True)) (va_Ql (fun r (_ : Unit) => post r) (fun _ _ => True) (fun _ => False)) 0 0 (fun _ => False) :=
  sEnt (by decide) (Nat.le_of_ble_eq_true rfl) (fun p e s m below meth c ls hC hS hl => k_X0_part_0 hC  hS hl hw)
theorem hd_X0_part : yX0_part.cls ≠ "java/lang/invoke/MethodHandle" ∧ yX0_part.cls ≠ "java/lang/invoke/VarHandle" ∧ (parseMethodDescriptor yX0_part.desc).map (fun d => d.parameters.length) = some 3 := by decide +kernel
section
variable {p : Program} {l : Launch} {e : Env} {R : Room} {s : State} {m : MethodId} {args : Array Value} {below : List Frame} {meth : Method} {c : Code} {H : Heap} {locs : List Loc} {cells slots : Nat} {Q : State → Prop} {cc : ByteArray} {nL : Nat} {ret : Option FieldType} {pc : Nat} {ls : Array Slot} {rest : List Value}
set_option maxHeartbeats 4000000 in
set_option maxRecDepth 100000 in
theorem inv_q555 {σ : Type} {D : va_G} {dT : Nat → ClassId} {Wd : σ → va_W} {I : σ → Prop} {A : Nat → Prop} {x : σ} {p0 : Int64} {p2 : Int64} {p4 : Int32} {post : Int64 → Prop} (hC : wCx RX0 cc nL ret D dT p s m args meth c) (hS : wSt D Wd I A s x H locs) (hl : ls.size = nL) (hw : v_X0_part p0 p2 p4 post) (hR : rmX0_part.frames + 1 ≤ R.frames ∧ 8 + (5 + 11) + rmX0_part.locals ≤ R.locals) (hrest : (rest.map fun v => v.category).sum ≤ 8) (hf : cells ≤ R.cells ∧ slots ≤ R.slots) (hdg : decode cc pc = .ok (.invokestatic 218, 3)) (kk : ∀ (r : Int64) (H1 : Heap) (locs1 : List Loc), post r → wSt D Wd I A s x H1 locs1 → W p l e R s m args below meth c H1 locs1 cells slots Q (F0 m (pc + 3) ls (.long r :: rest))) : W p l e R s m args below meth c H locs cells slots Q (F0 m pc ls (.int p4 :: .long p2 :: .long p0 :: rest)) :=
  wCallSl (As := [.long p0, .long p2, .int p4]) (rest := rest) hC (met_X0_part l p0 p2 p4 post hw) (lw_S q555 q508 q85 q509) ⟨⟨rfl, rfl⟩, hd_X0_part, hR, hf⟩ hS hl rfl hrest hdg kk
set_option maxHeartbeats 4000000 in
set_option maxRecDepth 100000 in
theorem invs_q555 {p0 : Int64} {p2 : Int64} {p4 : Int32} {post : Int64 → Prop} (hC : sCx RX0 cc nL ret p s m args meth c) (hS : va_S (fun _ => False) s.heap H locs) (hl : ls.size = nL) (hw : v_X0_part p0 p2 p4 post) (hR : rmX0_part.frames + 1 ≤ R.frames ∧ 8 + (5 + 11) + rmX0_part.locals ≤ R.locals) (hrest : (rest.map fun v => v.category).sum ≤ 8) (hf : cells ≤ R.cells ∧ slots ≤ R.slots) (hdg : decode cc pc = .ok (.invokestatic 218, 3)) (kk : ∀ (r : Int64) (H1 : Heap) (locs1 : List Loc), post r → va_S (fun _ => False) s.heap H1 locs1 → W p l e R s m args below meth c H1 locs1 cells slots Q (F0 m (pc + 3) ls (.long r :: rest))) : W p l e R s m args below meth c H locs cells slots Q (F0 m pc ls (.int p4 :: .long p2 :: .long p0 :: rest)) :=
  sCallSl (As := [.long p0, .long p2, .int p4]) (rest := rest) hC (met_X0_part l p0 p2 p4 post hw) (lw_S q555 q508 q85 q509) ⟨⟨rfl, rfl⟩, hd_X0_part, hR, hf⟩ hS hl rfl hrest hdg kk
end
section
variable {p : Program} {l : Launch} {e : Env} {R : Room} {s : State} {m : MethodId} {args : Array Value} {below : List Frame} {meth : Method} {c : Code} {H : Heap} {locs : List Loc} {cells slots : Nat} {Q : State → Prop} {cc : ByteArray} {nL : Nat} {ret : Option FieldType} {pc : Nat} {ls : Array Slot} {rest : List Value}
set_option maxHeartbeats 4000000 in
set_option maxRecDepth 100000 in
theorem inv_q507 {σ : Type} {D : va_G} {dT : Nat → ClassId} {Wd : σ → va_W} {I : σ → Prop} {A : Nat → Prop} {x : σ} {p0 : Int64} {p2 : Int64} {p4 : Int32} {post : Int64 → Prop} (hC : wCx RX6 cc nL ret D dT p s m args meth c) (hS : wSt D Wd I A s x H locs) (hl : ls.size = nL) (hw : v_X0_part p0 p2 p4 post) (hR : rmX0_part.frames + 1 ≤ R.frames ∧ 8 + (5 + 11) + rmX0_part.locals ≤ R.locals) (hrest : (rest.map fun v => v.category).sum ≤ 8) (hf : cells ≤ R.cells ∧ slots ≤ R.slots) (hdg : decode cc pc = .ok (.invokestatic 7, 3)) (kk : ∀ (r : Int64) (H1 : Heap) (locs1 : List Loc), post r → wSt D Wd I A s x H1 locs1 → W p l e R s m args below meth c H1 locs1 cells slots Q (F0 m (pc + 3) ls (.long r :: rest))) : W p l e R s m args below meth c H locs cells slots Q (F0 m pc ls (.int p4 :: .long p2 :: .long p0 :: rest)) :=
  wCallSNl (As := [.long p0, .long p2, .int p4]) (rest := rest) hC (met_X0_part l p0 p2 p4 post hw) nw_q507 q509 q85 q508 ⟨⟨rfl, rfl⟩, hd_X0_part, hR, hf⟩ hS hl rfl hrest hdg kk
end
/-! LeastFrames_Volume.tells -/
def w_X6_tells (X : XS) (v : Vol) (p1 : Int32) (post : Int64 → Prop) : Prop :=
  (p1 = (0 : Int32) → (post v.2.1)) ∧ (¬ p1 = (0 : Int32) → (post v.2.2))
abbrev rmX6_tells : Room := { frames := 0, cells := 0, slots := 0, locals := 0 }
set_option maxHeartbeats 4000000 in
set_option maxRecDepth 100000 in
theorem k_X6_tells_0 {p : Program} {l : Launch} {e : Env} {s : State} {m : MethodId} {args : Array Value} {below : List Frame} {meth : Method} {c : Code} {D : va_G} {dT : Nat → ClassId} {a : Nat → Nat} {A : Nat → Prop} {vs0 : XE} {X : XS} {v : Vol} {p1 : Int32} {post : Int64 → Prop} (hC : wCx RX6 cX6_tells 2 (some .long) D dT p s m args meth c) (hA : wAz A s) (hv : volC v ∈ vs0) {H : Heap} {locs : List Loc} {ls : Array Slot} (hS : StX D dT a A s vs0 X vs0 H locs) (hl : lv_has ls 2 [(0, .ref v.1), (1, .int p1)])  (hw : w_X6_tells X v p1 post) : W p l e rmX6_tells s m args below meth c H locs 0 0 (MQ below (va_Ql (fun r u9 => u9 = (X, vs0) ∧ post r) (wB D (XW dT a) (XI vs0) A) A) args s 0 0 A) (F0 m 0 ls []) := by
  have hx := hC.1
  have hb := hC.2.1
  have hown := hC.2.2.2.1
  have hts := hC.2.2.2.2.1
  unfold w_X6_tells at hw
  refine lv_iload_n hx hb dX6_tells_0 rfl (lv_at hl 1 rfl) ?_
  refine lv_if_ne (tgt := 11) hx hb dX6_tells_1 (by decide) (fun c1 => ?_) (fun c1 => ?_)
  · have hw := hw.2 c1
    refine lv_aload_n hx hb dX6_tells_11 rfl (lv_at hl 0 rfl) ?_
    refine ld_q516 hC hS hv dX6_tells_12 ?_
    exact wRetl hC hS ⟨rfl, hw⟩ (Nat.le_refl _) (Nat.le_refl _) dX6_tells_15
  · have hw := hw.1 c1
    refine lv_aload_n hx hb dX6_tells_4 rfl (lv_at hl 0 rfl) ?_
    refine ld_q514 hC hS hv dX6_tells_5 ?_
    refine lv_goto (tgt := 15) hx hb dX6_tells_8 (by decide) ?_
    exact wRetl hC hS ⟨rfl, hw⟩ (Nat.le_refl _) (Nat.le_refl _) dX6_tells_15
abbrev v_X6_tells (X : XS) (v : Vol) (p1 : Int32) (post : Int64 → Prop) : Prop := w_X6_tells X v p1 post
set_option maxHeartbeats 4000000 in
set_option maxRecDepth 100000 in
theorem met_X6_tells (l : Launch) (D : va_G) (dT : Nat → ClassId) (a : Nat → Nat) (sz : Nat) (X : XS) (vs0 : XE) (v : Vol) (p1 : Int32) (hv : volC v ∈ vs0) (post : Int64 → Prop) (hw : v_X6_tells X v p1 post) : Met l yX6_tells (ws_ yX6_tells cX6_tells 2 (some .long)) rmX6_tells (wPc D dT (XW dT a) (XI vs0) sz (X, vs0) [.ref v.1, .int p1]) (va_Ql (fun r u9 => u9 = (X, vs0) ∧ post r) (wB D (XW dT a) (XI vs0) (va_A ((XW dT a) (X, vs0)) sz)) (va_A ((XW dT a) (X, vs0)) sz)) 0 0 (va_A ((XW dT a) (X, vs0)) sz) :=
  wEnt (Q := fun A => (va_Ql (fun r u9 => u9 = (X, vs0) ∧ post r) (wB D (XW dT a) (XI vs0) A) A)) (by decide) (Nat.le_of_ble_eq_true rfl) (fun p e s m below meth c A ls hC _ hA hS hl => k_X6_tells_0 hC hA hv hS hl hw) sz
theorem hd_X6_tells : yX6_tells.cls ≠ "java/lang/invoke/MethodHandle" ∧ yX6_tells.cls ≠ "java/lang/invoke/VarHandle" ∧ (parseMethodDescriptor yX6_tells.desc).map (fun d => d.parameters.length) = some 1 := by decide +kernel
section
variable {p : Program} {l : Launch} {e : Env} {R : Room} {s : State} {m : MethodId} {args : Array Value} {below : List Frame} {meth : Method} {c : Code} {H : Heap} {locs : List Loc} {cells slots : Nat} {Q : State → Prop} {cc : ByteArray} {nL : Nat} {ret : Option FieldType} {pc : Nat} {ls : Array Slot} {rest : List Value}
set_option maxHeartbeats 4000000 in
set_option maxRecDepth 100000 in
theorem inv_q535 {D : va_G} {dT : Nat → ClassId} {a : Nat → Nat} {A : Nat → Prop} {vs0 : XE} {vs : XE} {X : XS} {v : Vol} {p1 : Int32} {post : Int64 → Prop} (hC : wCx RX0 cc nL ret D dT p s m args meth c) (hA : wAz A s) (hS : StX D dT a A s vs0 X vs H locs) (hv : volC v ∈ vs) (hl : ls.size = nL) (hw : v_X6_tells X v p1 post) (hR : rmX6_tells.frames + 1 ≤ R.frames ∧ 8 + (2 + 11) + rmX6_tells.locals ≤ R.locals) (hrest : (rest.map fun v => v.category).sum ≤ 8) (hf : cells ≤ R.cells ∧ slots ≤ R.slots) (hdg : decode cc pc = .ok (.invokevirtual 209, 3)) (kk : ∀ (r : Int64) (H1 : Heap) (locs1 : List Loc), post r → StX D dT a A s vs0 X vs H1 locs1 → W p l e R s m args below meth c H1 locs1 cells slots Q (F0 m (pc + 3) ls (.long r :: rest))) : W p l e R s m args below meth c H locs cells slots Q (F0 m pc ls (.int p1 :: .ref v.1 :: rest)) := by
  obtain ⟨k9, hk9⟩ := XW_vol (dT := dT) (a := a) (u := (X, vs)) hv
  exact wCallVl (As := [.int p1]) (rest := rest) (mc := 0) (ms := 0) k9 hC (met_X6_tells l D dT a H.size X vs v p1 hv post hw) (lw_V q535 q536 q537 q94 q538) ⟨⟨rfl, rfl⟩, hd_X6_tells, hR, hf⟩ hk9 rfl rfl hA hS.self hl rfl hrest hdg (fun r u H1 locs1 hp hS1 => kk r H1 locs1 hp.2 (by have h9 := hS.back hS1; rw [hp.1] at h9; exact h9))
end
/-! LeastFrames.leastBy -/
def w_X0_leastBy (X : XS) (p1 : Int32) (post : Int64 → Prop) : Prop :=
  (X_least X = none → (v_X0_no ((-3) : Int32) (fun r2 => post r2))) ∧ (∀ v1, X_least X = some v1 → (∃ v3, X_least X = some v3 ∧ (v_X6_tells X v3 p1 (fun r4 => post r4))))
abbrev rmX0_leastBy : Room := { frames := 1, cells := 0, slots := 0, locals := 21 }
set_option maxHeartbeats 4000000 in
set_option maxRecDepth 100000 in
theorem k_X0_leastBy_0 {p : Program} {l : Launch} {e : Env} {s : State} {m : MethodId} {args : Array Value} {below : List Frame} {meth : Method} {c : Code} {D : va_G} {dT : Nat → ClassId} {a : Nat → Nat} {A : Nat → Prop} {vs0 : XE} {X : XS} {p1 : Int32} {post : Int64 → Prop} (hC : wCx RX0 cX0_leastBy 2 (some .long) D dT p s m args meth c) (hA : wAz A s) {H : Heap} {locs : List Loc} {ls : Array Slot} (hS : StX D dT a A s vs0 X vs0 H locs) (hl : lv_has ls 2 [(0, .ref (a 0)), (1, .int p1)])  (hw : w_X0_leastBy X p1 post) : W p l e rmX0_leastBy s m args below meth c H locs 0 0 (MQ below (va_Ql (fun r u9 => u9 = (X, vs0) ∧ post r) (wB D (XW dT a) (XI vs0) A) A) args s 0 0 A) (F0 m 0 ls []) := by
  have hx := hC.1
  have hb := hC.2.1
  have hown := hC.2.2.2.1
  have hts := hC.2.2.2.2.1
  unfold w_X0_leastBy at hw
  refine lv_aload_n hx hb dX0_leastBy_0 rfl (lv_at hl 0 rfl) ?_
  refine ld_q200 hC hS dX0_leastBy_1 ?_
  refine opt_nn (tgt := 15) hx hb dX0_leastBy_4 (by decide) (fun hv1 => ?_) (fun v1 hv1 => ?_)
  · have hw := hw.1 hv1
    refine lv_bipush (v := (-3)) hx hb dX0_leastBy_7 (by decide) ?_
    refine inv_q348 hC hS hl.1 hw ⟨Nat.le_of_ble_eq_true rfl, Nat.le_of_ble_eq_true rfl⟩ (Nat.le_of_ble_eq_true rfl) ⟨Nat.zero_le _, Nat.zero_le _⟩ dX0_leastBy_9 (fun r2 H locs hw hS => ?_)
    refine lv_goto (tgt := 23) hx hb dX0_leastBy_12 (by decide) ?_
    exact wRetl hC hS ⟨rfl, hw⟩ (Nat.le_refl _) (Nat.le_refl _) dX0_leastBy_23
  · have hw := hw.2 _ hv1
    refine lv_aload_n hx hb dX0_leastBy_15 rfl (lv_at hl 0 rfl) ?_
    obtain ⟨v3, hl_v3, hw⟩ := hw
    have f_v3 := hS.2.2.2.1 v3 hl_v3
    refine ld_q200 hC hS dX0_leastBy_16 ?_
    refine opt_ref hl_v3 ?_
    refine lv_iload_n hx hb dX0_leastBy_19 rfl (lv_at hl 1 rfl) ?_
    refine inv_q535 hC hA hS f_v3 hl.1 hw ⟨Nat.le_of_ble_eq_true rfl, Nat.le_of_ble_eq_true rfl⟩ (Nat.le_of_ble_eq_true rfl) ⟨Nat.zero_le _, Nat.zero_le _⟩ dX0_leastBy_20 (fun r4 H locs hw hS => ?_)
    exact wRetl hC hS ⟨rfl, hw⟩ (Nat.le_refl _) (Nat.le_refl _) dX0_leastBy_23
abbrev v_X0_leastBy (X : XS) (p1 : Int32) (post : Int64 → Prop) : Prop := w_X0_leastBy X p1 post
set_option maxHeartbeats 4000000 in
set_option maxRecDepth 100000 in
theorem met_X0_leastBy (l : Launch) (D : va_G) (dT : Nat → ClassId) (a : Nat → Nat) (sz : Nat) (X : XS) (vs0 : XE) (p1 : Int32) (post : Int64 → Prop) (hw : v_X0_leastBy X p1 post) : Met l yX0_leastBy (ws_ yX0_leastBy cX0_leastBy 2 (some .long)) rmX0_leastBy (wPc D dT (XW dT a) (XI vs0) sz (X, vs0) [.ref (a 0), .int p1]) (va_Ql (fun r u9 => u9 = (X, vs0) ∧ post r) (wB D (XW dT a) (XI vs0) (va_A ((XW dT a) (X, vs0)) sz)) (va_A ((XW dT a) (X, vs0)) sz)) 0 0 (va_A ((XW dT a) (X, vs0)) sz) :=
  wEnt (Q := fun A => (va_Ql (fun r u9 => u9 = (X, vs0) ∧ post r) (wB D (XW dT a) (XI vs0) A) A)) (by decide) (Nat.le_of_ble_eq_true rfl) (fun p e s m below meth c A ls hC _ hA hS hl => k_X0_leastBy_0 hC hA  hS hl hw) sz
theorem hd_X0_leastBy : yX0_leastBy.cls ≠ "java/lang/invoke/MethodHandle" ∧ yX0_leastBy.cls ≠ "java/lang/invoke/VarHandle" ∧ (parseMethodDescriptor yX0_leastBy.desc).map (fun d => d.parameters.length) = some 1 := by decide +kernel
section
variable {p : Program} {l : Launch} {e : Env} {R : Room} {s : State} {m : MethodId} {args : Array Value} {below : List Frame} {meth : Method} {c : Code} {H : Heap} {locs : List Loc} {cells slots : Nat} {Q : State → Prop} {cc : ByteArray} {nL : Nat} {ret : Option FieldType} {pc : Nat} {ls : Array Slot} {rest : List Value}
set_option maxHeartbeats 4000000 in
set_option maxRecDepth 100000 in
theorem inv_q531 {D : va_G} {dT : Nat → ClassId} {a : Nat → Nat} {A : Nat → Prop} {vs0 : XE} {vs : XE} {X : XS} {p1 : Int32} {post : Int64 → Prop} (hC : wCx RX0 cc nL ret D dT p s m args meth c) (hA : wAz A s) (hS : StX D dT a A s vs0 X vs H locs) (hl : ls.size = nL) (hw : v_X0_leastBy X p1 post) (hR : rmX0_leastBy.frames + 1 ≤ R.frames ∧ 8 + (2 + 11) + rmX0_leastBy.locals ≤ R.locals) (hrest : (rest.map fun v => v.category).sum ≤ 8) (hf : cells ≤ R.cells ∧ slots ≤ R.slots) (hdg : decode cc pc = .ok (.invokevirtual 215, 3)) (kk : ∀ (r : Int64) (H1 : Heap) (locs1 : List Loc), post r → StX D dT a A s vs0 X vs H1 locs1 → W p l e R s m args below meth c H1 locs1 cells slots Q (F0 m (pc + 3) ls (.long r :: rest))) : W p l e R s m args below meth c H locs cells slots Q (F0 m pc ls (.int p1 :: .ref (a 0) :: rest)) := by
  exact wCallVl (As := [.int p1]) (rest := rest) (mc := 0) (ms := 0) 0 hC (met_X0_leastBy l D dT a H.size X vs p1 post hw) (lw_V q531 q533 qs22 q85 q534) ⟨⟨rfl, rfl⟩, hd_X0_leastBy, hR, hf⟩ XW_0 rfl rfl hA hS.self hl rfl hrest hdg (fun r u H1 locs1 hp hS1 => kk r H1 locs1 hp.2 (by have h9 := hS.back hS1; rw [hp.1] at h9; exact h9))
end
/-! LeastFrames.pullBy -/
def w_X0_pullBy (X : XS) (p1 : Int32) (p2 : Int32) (post : Int64 → Prop) : Prop :=
  (X_least X = none → (v_X0_no ((-3) : Int32) (fun r2 => post r2))) ∧ (∀ v1, X_least X = some v1 → (vp_in p1 10 ∧ (v_X0_part (X_pulls X p1.toNatClampNeg) (X_pullsBelow X) p2 (fun r3 => post r3))))
abbrev rmX0_pullBy : Room := { frames := 3, cells := 0, slots := 0, locals := 74 }
set_option maxHeartbeats 4000000 in
set_option maxRecDepth 100000 in
theorem k_X0_pullBy_0 {p : Program} {l : Launch} {e : Env} {s : State} {m : MethodId} {args : Array Value} {below : List Frame} {meth : Method} {c : Code} {D : va_G} {dT : Nat → ClassId} {a : Nat → Nat} {A : Nat → Prop} {vs0 : XE} {X : XS} {p1 : Int32} {p2 : Int32} {post : Int64 → Prop} (hC : wCx RX0 cX0_pullBy 3 (some .long) D dT p s m args meth c) (hA : wAz A s) {H : Heap} {locs : List Loc} {ls : Array Slot} (hS : StX D dT a A s vs0 X vs0 H locs) (hl : lv_has ls 3 [(0, .ref (a 0)), (1, .int p1), (2, .int p2)])  (hw : w_X0_pullBy X p1 p2 post) : W p l e rmX0_pullBy s m args below meth c H locs 0 0 (MQ below (va_Ql (fun r u9 => u9 = (X, vs0) ∧ post r) (wB D (XW dT a) (XI vs0) A) A) args s 0 0 A) (F0 m 0 ls []) := by
  have hx := hC.1
  have hb := hC.2.1
  have hown := hC.2.2.2.1
  have hts := hC.2.2.2.2.1
  unfold w_X0_pullBy at hw
  refine lv_aload_n hx hb dX0_pullBy_0 rfl (lv_at hl 0 rfl) ?_
  refine ld_q200 hC hS dX0_pullBy_1 ?_
  refine opt_nn (tgt := 15) hx hb dX0_pullBy_4 (by decide) (fun hv1 => ?_) (fun v1 hv1 => ?_)
  · have hw := hw.1 hv1
    refine lv_bipush (v := (-3)) hx hb dX0_pullBy_7 (by decide) ?_
    refine inv_q348 hC hS hl.1 hw ⟨Nat.le_of_ble_eq_true rfl, Nat.le_of_ble_eq_true rfl⟩ (Nat.le_of_ble_eq_true rfl) ⟨Nat.zero_le _, Nat.zero_le _⟩ dX0_pullBy_9 (fun r2 H locs hw hS => ?_)
    refine lv_goto (tgt := 29) hx hb dX0_pullBy_12 (by decide) ?_
    exact wRetl hC hS ⟨rfl, hw⟩ (Nat.le_refl _) (Nat.le_refl _) dX0_pullBy_29
  · have hw := hw.2 _ hv1
    refine lv_aload_n hx hb dX0_pullBy_15 rfl (lv_at hl 0 rfl) ?_
    refine ld_q202 hC hS dX0_pullBy_16 ?_
    refine lv_iload_n hx hb dX0_pullBy_19 rfl (lv_at hl 1 rfl) ?_
    refine al_PU hC hS hw.1 dX0_pullBy_20 ?_
    have hw := hw.2
    refine lv_aload_n hx hb dX0_pullBy_21 rfl (lv_at hl 0 rfl) ?_
    refine ld_q203 hC hS dX0_pullBy_22 ?_
    refine lv_iload_n hx hb dX0_pullBy_25 rfl (lv_at hl 2 rfl) ?_
    refine inv_q555 hC hS hl.1 hw ⟨Nat.le_of_ble_eq_true rfl, Nat.le_of_ble_eq_true rfl⟩ (Nat.le_of_ble_eq_true rfl) ⟨Nat.zero_le _, Nat.zero_le _⟩ dX0_pullBy_26 (fun r3 H locs hw hS => ?_)
    exact wRetl hC hS ⟨rfl, hw⟩ (Nat.le_refl _) (Nat.le_refl _) dX0_pullBy_29
abbrev v_X0_pullBy (X : XS) (p1 : Int32) (p2 : Int32) (post : Int64 → Prop) : Prop := w_X0_pullBy X p1 p2 post
set_option maxHeartbeats 4000000 in
set_option maxRecDepth 100000 in
theorem met_X0_pullBy (l : Launch) (D : va_G) (dT : Nat → ClassId) (a : Nat → Nat) (sz : Nat) (X : XS) (vs0 : XE) (p1 : Int32) (p2 : Int32) (post : Int64 → Prop) (hw : v_X0_pullBy X p1 p2 post) : Met l yX0_pullBy (ws_ yX0_pullBy cX0_pullBy 3 (some .long)) rmX0_pullBy (wPc D dT (XW dT a) (XI vs0) sz (X, vs0) [.ref (a 0), .int p1, .int p2]) (va_Ql (fun r u9 => u9 = (X, vs0) ∧ post r) (wB D (XW dT a) (XI vs0) (va_A ((XW dT a) (X, vs0)) sz)) (va_A ((XW dT a) (X, vs0)) sz)) 0 0 (va_A ((XW dT a) (X, vs0)) sz) :=
  wEnt (Q := fun A => (va_Ql (fun r u9 => u9 = (X, vs0) ∧ post r) (wB D (XW dT a) (XI vs0) A) A)) (by decide) (Nat.le_of_ble_eq_true rfl) (fun p e s m below meth c A ls hC _ hA hS hl => k_X0_pullBy_0 hC hA  hS hl hw) sz
theorem hd_X0_pullBy : yX0_pullBy.cls ≠ "java/lang/invoke/MethodHandle" ∧ yX0_pullBy.cls ≠ "java/lang/invoke/VarHandle" ∧ (parseMethodDescriptor yX0_pullBy.desc).map (fun d => d.parameters.length) = some 2 := by decide +kernel
section
variable {p : Program} {l : Launch} {e : Env} {R : Room} {s : State} {m : MethodId} {args : Array Value} {below : List Frame} {meth : Method} {c : Code} {H : Heap} {locs : List Loc} {cells slots : Nat} {Q : State → Prop} {cc : ByteArray} {nL : Nat} {ret : Option FieldType} {pc : Nat} {ls : Array Slot} {rest : List Value}
set_option maxHeartbeats 4000000 in
set_option maxRecDepth 100000 in
theorem inv_q551 {D : va_G} {dT : Nat → ClassId} {a : Nat → Nat} {A : Nat → Prop} {vs0 : XE} {vs : XE} {X : XS} {p1 : Int32} {p2 : Int32} {post : Int64 → Prop} (hC : wCx RX0 cc nL ret D dT p s m args meth c) (hA : wAz A s) (hS : StX D dT a A s vs0 X vs H locs) (hl : ls.size = nL) (hw : v_X0_pullBy X p1 p2 post) (hR : rmX0_pullBy.frames + 1 ≤ R.frames ∧ 8 + (3 + 11) + rmX0_pullBy.locals ≤ R.locals) (hrest : (rest.map fun v => v.category).sum ≤ 8) (hf : cells ≤ R.cells ∧ slots ≤ R.slots) (hdg : decode cc pc = .ok (.invokevirtual 222, 3)) (kk : ∀ (r : Int64) (H1 : Heap) (locs1 : List Loc), post r → StX D dT a A s vs0 X vs H1 locs1 → W p l e R s m args below meth c H1 locs1 cells slots Q (F0 m (pc + 3) ls (.long r :: rest))) : W p l e R s m args below meth c H locs cells slots Q (F0 m pc ls (.int p2 :: .int p1 :: .ref (a 0) :: rest)) := by
  exact wCallVl (As := [.int p1, .int p2]) (rest := rest) (mc := 0) (ms := 0) 0 hC (met_X0_pullBy l D dT a H.size X vs p1 p2 post hw) (lw_V q551 q553 qs23 q85 q554) ⟨⟨rfl, rfl⟩, hd_X0_pullBy, hR, hf⟩ XW_0 rfl rfl hA hS.self hl rfl hrest hdg (fun r u H1 locs1 hp hS1 => kk r H1 locs1 hp.2 (by have h9 := hS.back hS1; rw [hp.1] at h9; exact h9))
end
/-! LeastFrames.isBar -/
def w_X0_isBar (X : XS) (p1 : Int32) (post : Int32 → Prop) : Prop :=
  v_X0_isPair X p1 (fun r1 => (r1 = (0 : Int32) → (post (0 : Int32))) ∧ (¬ r1 = (0 : Int32) → (v_X0_isIn (X_bars X) p1 (fun r3 => (r3 = (0 : Int32) → (post (0 : Int32))) ∧ (¬ r3 = (0 : Int32) → (post (1 : Int32)))))))
abbrev rmX0_isBar : Room := { frames := 2, cells := 0, slots := 0, locals := 46 }
set_option maxHeartbeats 4000000 in
set_option maxRecDepth 100000 in
theorem k_X0_isBar_0 {p : Program} {l : Launch} {e : Env} {s : State} {m : MethodId} {args : Array Value} {below : List Frame} {meth : Method} {c : Code} {D : va_G} {dT : Nat → ClassId} {a : Nat → Nat} {A : Nat → Prop} {vs0 : XE} {X : XS} {p1 : Int32} {post : Int32 → Prop} (hC : wCx RX0 cX0_isBar 2 (some .boolean) D dT p s m args meth c) (hA : wAz A s) {H : Heap} {locs : List Loc} {ls : Array Slot} (hS : StX D dT a A s vs0 X vs0 H locs) (hl : lv_has ls 2 [(0, .ref (a 0)), (1, .int p1)])  (hw : w_X0_isBar X p1 post) : W p l e rmX0_isBar s m args below meth c H locs 0 0 (MQ below (va_Qi (fun r u9 => u9 = (X, vs0) ∧ post r) (wB D (XW dT a) (XI vs0) A) A) args s 0 0 A) (F0 m 0 ls []) := by
  have hx := hC.1
  have hb := hC.2.1
  have hown := hC.2.2.2.1
  have hts := hC.2.2.2.2.1
  unfold w_X0_isBar at hw
  refine lv_aload_n hx hb dX0_isBar_0 rfl (lv_at hl 0 rfl) ?_
  refine lv_iload_n hx hb dX0_isBar_1 rfl (lv_at hl 1 rfl) ?_
  refine inv_q277 hC hA hS hl.1 hw ⟨Nat.le_of_ble_eq_true rfl, Nat.le_of_ble_eq_true rfl⟩ (Nat.le_of_ble_eq_true rfl) ⟨Nat.zero_le _, Nat.zero_le _⟩ dX0_isBar_2 (fun r1 H locs hw hS => ?_)
  refine lv_if_eq (tgt := 23) hx hb dX0_isBar_5 (by decide) (fun c2 => ?_) (fun c2 => ?_)
  · have hw := hw.1 c2
    refine lv_iconst (v := 0) hx hb dX0_isBar_23 (by decide) ?_
    exact wRetz hC hS (by decide) ⟨rfl, hw⟩ (Nat.le_refl _) (Nat.le_refl _) dX0_isBar_24
  · have hw := hw.2 c2
    refine lv_aload_n hx hb dX0_isBar_8 rfl (lv_at hl 0 rfl) ?_
    refine ld_q197 hC hS dX0_isBar_9 ?_
    refine lv_iload_n hx hb dX0_isBar_12 rfl (lv_at hl 1 rfl) ?_
    refine inv_q341 hC hS hl.1 hw ⟨Nat.le_of_ble_eq_true rfl, Nat.le_of_ble_eq_true rfl⟩ (Nat.le_of_ble_eq_true rfl) ⟨Nat.zero_le _, Nat.zero_le _⟩ dX0_isBar_13 (fun r3 H locs hw hS => ?_)
    refine lv_if_eq (tgt := 23) hx hb dX0_isBar_16 (by decide) (fun c4 => ?_) (fun c4 => ?_)
    · have hw := hw.1 c4
      refine lv_iconst (v := 0) hx hb dX0_isBar_23 (by decide) ?_
      exact wRetz hC hS (by decide) ⟨rfl, hw⟩ (Nat.le_refl _) (Nat.le_refl _) dX0_isBar_24
    · have hw := hw.2 c4
      refine lv_iconst (v := 1) hx hb dX0_isBar_19 (by decide) ?_
      refine lv_goto (tgt := 24) hx hb dX0_isBar_20 (by decide) ?_
      exact wRetz hC hS (by decide) ⟨rfl, hw⟩ (Nat.le_refl _) (Nat.le_refl _) dX0_isBar_24
abbrev v_X0_isBar (X : XS) (p1 : Int32) (post : Int32 → Prop) : Prop := w_X0_isBar X p1 post
set_option maxHeartbeats 4000000 in
set_option maxRecDepth 100000 in
theorem met_X0_isBar (l : Launch) (D : va_G) (dT : Nat → ClassId) (a : Nat → Nat) (sz : Nat) (X : XS) (vs0 : XE) (p1 : Int32) (post : Int32 → Prop) (hw : v_X0_isBar X p1 post) : Met l yX0_isBar (ws_ yX0_isBar cX0_isBar 2 (some .boolean)) rmX0_isBar (wPc D dT (XW dT a) (XI vs0) sz (X, vs0) [.ref (a 0), .int p1]) (va_Qi (fun r u9 => u9 = (X, vs0) ∧ post r) (wB D (XW dT a) (XI vs0) (va_A ((XW dT a) (X, vs0)) sz)) (va_A ((XW dT a) (X, vs0)) sz)) 0 0 (va_A ((XW dT a) (X, vs0)) sz) :=
  wEnt (Q := fun A => (va_Qi (fun r u9 => u9 = (X, vs0) ∧ post r) (wB D (XW dT a) (XI vs0) A) A)) (by decide) (Nat.le_of_ble_eq_true rfl) (fun p e s m below meth c A ls hC _ hA hS hl => k_X0_isBar_0 hC hA  hS hl hw) sz
theorem hd_X0_isBar : yX0_isBar.cls ≠ "java/lang/invoke/MethodHandle" ∧ yX0_isBar.cls ≠ "java/lang/invoke/VarHandle" ∧ (parseMethodDescriptor yX0_isBar.desc).map (fun d => d.parameters.length) = some 1 := by decide +kernel
section
variable {p : Program} {l : Launch} {e : Env} {R : Room} {s : State} {m : MethodId} {args : Array Value} {below : List Frame} {meth : Method} {c : Code} {H : Heap} {locs : List Loc} {cells slots : Nat} {Q : State → Prop} {cc : ByteArray} {nL : Nat} {ret : Option FieldType} {pc : Nat} {ls : Array Slot} {rest : List Value}
set_option maxHeartbeats 4000000 in
set_option maxRecDepth 100000 in
theorem inv_q560 {D : va_G} {dT : Nat → ClassId} {a : Nat → Nat} {A : Nat → Prop} {vs0 : XE} {vs : XE} {X : XS} {p1 : Int32} {post : Int32 → Prop} (hC : wCx RX0 cc nL ret D dT p s m args meth c) (hA : wAz A s) (hS : StX D dT a A s vs0 X vs H locs) (hl : ls.size = nL) (hw : v_X0_isBar X p1 post) (hR : rmX0_isBar.frames + 1 ≤ R.frames ∧ 8 + (2 + 11) + rmX0_isBar.locals ≤ R.locals) (hrest : (rest.map fun v => v.category).sum ≤ 8) (hf : cells ≤ R.cells ∧ slots ≤ R.slots) (hdg : decode cc pc = .ok (.invokevirtual 234, 3)) (kk : ∀ (r : Int32) (H1 : Heap) (locs1 : List Loc), post r → StX D dT a A s vs0 X vs H1 locs1 → W p l e R s m args below meth c H1 locs1 cells slots Q (F0 m (pc + 3) ls (.int r :: rest))) : W p l e R s m args below meth c H locs cells slots Q (F0 m pc ls (.int p1 :: .ref (a 0) :: rest)) := by
  exact wCallVi (As := [.int p1]) (rest := rest) (mc := 0) (ms := 0) 0 hC (met_X0_isBar l D dT a H.size X vs p1 post hw) (lw_V q560 q562 qs24 q85 q563) ⟨⟨rfl, rfl⟩, hd_X0_isBar, hR, hf⟩ XW_0 rfl rfl hA hS.self hl rfl hrest hdg (fun r u H1 locs1 hp hS1 => kk r H1 locs1 hp.2 (by have h9 := hS.back hS1; rw [hp.1] at h9; exact h9))
end
/-! LeastFrames.shift -/
def w_X0_shift (p1 : Int32) (p2 : Int32) (p3 : Int32) (post : Int32 → XS → Prop) (X : XS) : Prop :=
  v_X0_isPoint X p1 (fun r1 => (r1 = (0 : Int32) → (post ((-2147483648) : Int32) X)) ∧ (¬ r1 = (0 : Int32) → (v_X0_isTwo p2 (fun r3 => (r3 = (0 : Int32) → (post ((-2147483648) : Int32) X)) ∧ (¬ r3 = (0 : Int32) → (v_X0_in p3.toInt64 ((-999) : Int64) (999 : Int64) (fun r5 => (r5 = (0 : Int32) → (post ((-2147483648) : Int32) X)) ∧ (¬ r5 = (0 : Int32) → (vp_in p1 5 ∧ (vp_in p2 2 ∧ (∀ v8 : Int32, v8 = X_ps X p1.toNatClampNeg p2.toNatClampNeg → (vp_in p1 5 ∧ (vp_in p2 2 ∧ (∀ X10 : XS, X10 = sX_ps X (upd2 (X_ps X) p1.toNatClampNeg p2.toNatClampNeg p3) → (post v8 X10)))))))))))))))
abbrev rmX0_shift : Room := { frames := 2, cells := 0, slots := 0, locals := 46 }
set_option maxHeartbeats 4000000 in
set_option maxRecDepth 100000 in
theorem k_X0_shift_0 {p : Program} {l : Launch} {e : Env} {s : State} {m : MethodId} {args : Array Value} {below : List Frame} {meth : Method} {c : Code} {D : va_G} {dT : Nat → ClassId} {a : Nat → Nat} {A : Nat → Prop} {vs0 : XE} {p1 : Int32} {p2 : Int32} {p3 : Int32} {post : Int32 → XS → Prop} (hC : wCx RX0 cX0_shift 5 (some .int) D dT p s m args meth c) (hA : wAz A s) (X : XS) {vs : XE} {H : Heap} {locs : List Loc} {ls : Array Slot} (hS : StX D dT a A s vs0 X vs H locs) (hl : lv_has ls 5 [(0, .ref (a 0)), (1, .int p1), (2, .int p2), (3, .int p3)])  (hw : w_X0_shift p1 p2 p3 post X) : W p l e rmX0_shift s m args below meth c H locs 0 0 (MQ below (va_Qi (fun r u9 => post r u9.1) (wB D (XW dT a) (XI vs0) A) A) args s 0 0 A) (F0 m 0 ls []) := by
  have hx := hC.1
  have hb := hC.2.1
  have hown := hC.2.2.2.1
  have hts := hC.2.2.2.2.1
  unfold w_X0_shift at hw
  refine lv_aload_n hx hb dX0_shift_0 rfl (lv_at hl 0 rfl) ?_
  refine lv_iload_n hx hb dX0_shift_1 rfl (lv_at hl 1 rfl) ?_
  refine inv_q258 hC hA hS hl.1 hw ⟨Nat.le_of_ble_eq_true rfl, Nat.le_of_ble_eq_true rfl⟩ (Nat.le_of_ble_eq_true rfl) ⟨Nat.zero_le _, Nat.zero_le _⟩ dX0_shift_2 (fun r1 H locs hw hS => ?_)
  refine lv_if_eq (tgt := 29) hx hb dX0_shift_5 (by decide) (fun c2 => ?_) (fun c2 => ?_)
  · have hw := hw.1 c2
    refine lv_ldc (v := (-2147483648)) hx hb hown (hts _ q272) dX0_shift_29 ?_
    exact wReti hC hS hw (Nat.le_refl _) (Nat.le_refl _) dX0_shift_31
  · have hw := hw.2 c2
    refine lv_iload_n hx hb dX0_shift_8 rfl (lv_at hl 2 rfl) ?_
    refine inv_q267 hC hS hl.1 hw ⟨Nat.le_of_ble_eq_true rfl, Nat.le_of_ble_eq_true rfl⟩ (Nat.le_of_ble_eq_true rfl) ⟨Nat.zero_le _, Nat.zero_le _⟩ dX0_shift_9 (fun r3 H locs hw hS => ?_)
    refine lv_if_eq (tgt := 29) hx hb dX0_shift_12 (by decide) (fun c4 => ?_) (fun c4 => ?_)
    · have hw := hw.1 c4
      refine lv_ldc (v := (-2147483648)) hx hb hown (hts _ q272) dX0_shift_29 ?_
      exact wReti hC hS hw (Nat.le_refl _) (Nat.le_refl _) dX0_shift_31
    · have hw := hw.2 c4
      refine lv_iload_n hx hb dX0_shift_15 rfl (lv_at hl 3 rfl) ?_
      refine lv_i2l hx hb dX0_shift_16 rfl ?_
      refine lv_ldc2 (v := (-999)) hx hb hown (hts _ q679) dX0_shift_17 ?_
      refine lv_ldc2 (v := 999) hx hb hown (hts _ q680) dX0_shift_20 ?_
      refine inv_q239 hC hS hl.1 hw ⟨Nat.le_of_ble_eq_true rfl, Nat.le_of_ble_eq_true rfl⟩ (Nat.le_of_ble_eq_true rfl) ⟨Nat.zero_le _, Nat.zero_le _⟩ dX0_shift_23 (fun r5 H locs hw hS => ?_)
      refine lv_if_ne (tgt := 32) hx hb dX0_shift_26 (by decide) (fun c6 => ?_) (fun c6 => ?_)
      · have hw := hw.2 c6
        refine lv_aload_n hx hb dX0_shift_32 rfl (lv_at hl 0 rfl) ?_
        refine ld_q193 hC hS dX0_shift_33 ?_
        refine lv_iload_n hx hb dX0_shift_36 rfl (lv_at hl 1 rfl) ?_
        have hi7 := hw.1
        have hw := hw.2
        refine aa_PA hC hS hi7 dX0_shift_37 ?_
        refine ld_q132 hC hS (vp_lt hi7) dX0_shift_38 ?_
        refine lv_iload_n hx hb dX0_shift_41 rfl (lv_at hl 2 rfl) ?_
        refine al_PS hC hS (vp_lt hi7) hw.1 dX0_shift_42 ?_
        have hw := hw.2
        refine lv_topi (fun v8 ev8 => ?_)
        have hw := hw v8 ev8
        refine lv_istore (lv' := [(4, .int v8), (0, .ref (a 0)), (1, .int p1), (2, .int p2), (3, .int p3)]) hx hb dX0_shift_43 hl (by decide) rfl (fun ls hl => ?_)
        refine lv_aload_n hx hb dX0_shift_45 rfl (lv_at hl 1 rfl) ?_
        refine ld_q193 hC hS dX0_shift_46 ?_
        refine lv_iload_n hx hb dX0_shift_49 rfl (lv_at hl 2 rfl) ?_
        have hi9 := hw.1
        have hw := hw.2
        refine aa_PA hC hS hi9 dX0_shift_50 ?_
        refine ld_q132 hC hS (vp_lt hi9) dX0_shift_51 ?_
        refine lv_iload_n hx hb dX0_shift_54 rfl (lv_at hl 3 rfl) ?_
        refine lv_iload_n hx hb dX0_shift_55 rfl (lv_at hl 4 rfl) ?_
        have hi := hw.1
        have hw := hw.2
        refine as_PS hC hS (vp_lt hi9) hi dX0_shift_56 (fun H locs hS => ?_)
        have hw := hw (sX_ps X (upd2 (X_ps X) p1.toNatClampNeg p2.toNatClampNeg p3)) rfl
        generalize sX_ps X (upd2 (X_ps X) p1.toNatClampNeg p2.toNatClampNeg p3) = X10 at hS hw
        refine lv_iload hx hb dX0_shift_57 (lv_at hl 0 rfl) ?_
        exact wReti hC hS hw (Nat.le_refl _) (Nat.le_refl _) dX0_shift_59
      · have hw := hw.1 c6
        refine lv_ldc (v := (-2147483648)) hx hb hown (hts _ q272) dX0_shift_29 ?_
        exact wReti hC hS hw (Nat.le_refl _) (Nat.le_refl _) dX0_shift_31
abbrev v_X0_shift (X : XS) (p1 : Int32) (p2 : Int32) (p3 : Int32) (post : Int32 → XS → Prop) : Prop := w_X0_shift p1 p2 p3 post X
set_option maxHeartbeats 4000000 in
set_option maxRecDepth 100000 in
theorem met_X0_shift (l : Launch) (D : va_G) (dT : Nat → ClassId) (a : Nat → Nat) (sz : Nat) (X : XS) (vs0 : XE) (p1 : Int32) (p2 : Int32) (p3 : Int32) (post : Int32 → XS → Prop) (hw : v_X0_shift X p1 p2 p3 post) : Met l yX0_shift (ws_ yX0_shift cX0_shift 5 (some .int)) rmX0_shift (wPc D dT (XW dT a) (XI vs0) sz (X, vs0) [.ref (a 0), .int p1, .int p2, .int p3]) (va_Qi (fun r u9 => post r u9.1) (wB D (XW dT a) (XI vs0) (va_A ((XW dT a) (X, vs0)) sz)) (va_A ((XW dT a) (X, vs0)) sz)) 0 0 (va_A ((XW dT a) (X, vs0)) sz) :=
  wEnt (Q := fun A => (va_Qi (fun r u9 => post r u9.1) (wB D (XW dT a) (XI vs0) A) A)) (by decide) (Nat.le_of_ble_eq_true rfl) (fun p e s m below meth c A ls hC _ hA hS hl => k_X0_shift_0 hC hA _ hS hl hw) sz
theorem hd_X0_shift : yX0_shift.cls ≠ "java/lang/invoke/MethodHandle" ∧ yX0_shift.cls ≠ "java/lang/invoke/VarHandle" ∧ (parseMethodDescriptor yX0_shift.desc).map (fun d => d.parameters.length) = some 3 := by decide +kernel
/-! LeastFrames_Point.isHeld -/
def w_X1_isHeld (X : XS) (j : Nat) (p1 : Int32) (post : Int32 → Prop) : Prop :=
  v_X0_isIn (X_ph X j) p1 (fun r1 => (r1 &&& 1 = r1) ∧ (post r1))
abbrev rmX1_isHeld : Room := { frames := 1, cells := 0, slots := 0, locals := 21 }
set_option maxHeartbeats 4000000 in
set_option maxRecDepth 100000 in
theorem k_X1_isHeld_0 {p : Program} {l : Launch} {e : Env} {s : State} {m : MethodId} {args : Array Value} {below : List Frame} {meth : Method} {c : Code} {D : va_G} {dT : Nat → ClassId} {a : Nat → Nat} {A : Nat → Prop} {vs0 : XE} {X : XS} {j : Nat} {p1 : Int32} {post : Int32 → Prop} (hC : wCx RX1 cX1_isHeld 2 (some .boolean) D dT p s m args meth c) (hA : wAz A s) (hj : j < 5) {H : Heap} {locs : List Loc} {ls : Array Slot} (hS : StX D dT a A s vs0 X vs0 H locs) (hl : lv_has ls 2 [(0, .ref (a (2 + j))), (1, .int p1)])  (hw : w_X1_isHeld X j p1 post) : W p l e rmX1_isHeld s m args below meth c H locs 0 0 (MQ below (va_Qi (fun r u9 => u9 = (X, vs0) ∧ post r) (wB D (XW dT a) (XI vs0) A) A) args s 0 0 A) (F0 m 0 ls []) := by
  have hx := hC.1
  have hb := hC.2.1
  have hown := hC.2.2.2.1
  have hts := hC.2.2.2.2.1
  unfold w_X1_isHeld at hw
  refine lv_aload_n hx hb dX1_isHeld_0 rfl (lv_at hl 0 rfl) ?_
  refine ld_q126 hC hS hj dX1_isHeld_1 ?_
  refine lv_iload_n hx hb dX1_isHeld_4 rfl (lv_at hl 1 rfl) ?_
  refine inv_q381 hC hS hl.1 hw ⟨Nat.le_of_ble_eq_true rfl, Nat.le_of_ble_eq_true rfl⟩ (Nat.le_of_ble_eq_true rfl) ⟨Nat.zero_le _, Nat.zero_le _⟩ dX1_isHeld_5 (fun r1 H locs hw hS => ?_)
  exact wRetz hC hS hw.1 ⟨rfl, hw.2⟩ (Nat.le_refl _) (Nat.le_refl _) dX1_isHeld_8
abbrev v_X1_isHeld (X : XS) (j : Nat) (p1 : Int32) (post : Int32 → Prop) : Prop := w_X1_isHeld X j p1 post
set_option maxHeartbeats 4000000 in
set_option maxRecDepth 100000 in
theorem met_X1_isHeld (l : Launch) (D : va_G) (dT : Nat → ClassId) (a : Nat → Nat) (sz : Nat) (X : XS) (vs0 : XE) (j : Nat) (p1 : Int32) (hj : j < 5) (post : Int32 → Prop) (hw : v_X1_isHeld X j p1 post) : Met l yX1_isHeld (ws_ yX1_isHeld cX1_isHeld 2 (some .boolean)) rmX1_isHeld (wPc D dT (XW dT a) (XI vs0) sz (X, vs0) [.ref (a (2 + j)), .int p1]) (va_Qi (fun r u9 => u9 = (X, vs0) ∧ post r) (wB D (XW dT a) (XI vs0) (va_A ((XW dT a) (X, vs0)) sz)) (va_A ((XW dT a) (X, vs0)) sz)) 0 0 (va_A ((XW dT a) (X, vs0)) sz) :=
  wEnt (Q := fun A => (va_Qi (fun r u9 => u9 = (X, vs0) ∧ post r) (wB D (XW dT a) (XI vs0) A) A)) (by decide) (Nat.le_of_ble_eq_true rfl) (fun p e s m below meth c A ls hC _ hA hS hl => k_X1_isHeld_0 hC hA hj hS hl hw) sz
theorem hd_X1_isHeld : yX1_isHeld.cls ≠ "java/lang/invoke/MethodHandle" ∧ yX1_isHeld.cls ≠ "java/lang/invoke/VarHandle" ∧ (parseMethodDescriptor yX1_isHeld.desc).map (fun d => d.parameters.length) = some 1 := by decide +kernel
section
variable {p : Program} {l : Launch} {e : Env} {R : Room} {s : State} {m : MethodId} {args : Array Value} {below : List Frame} {meth : Method} {c : Code} {H : Heap} {locs : List Loc} {cells slots : Nat} {Q : State → Prop} {cc : ByteArray} {nL : Nat} {ret : Option FieldType} {pc : Nat} {ls : Array Slot} {rest : List Value}
set_option maxHeartbeats 4000000 in
set_option maxRecDepth 100000 in
theorem inv_q693 {D : va_G} {dT : Nat → ClassId} {a : Nat → Nat} {A : Nat → Prop} {vs0 : XE} {vs : XE} {X : XS} {j : Nat} {p1 : Int32} {post : Int32 → Prop} (hC : wCx RX1 cc nL ret D dT p s m args meth c) (hA : wAz A s) (hS : StX D dT a A s vs0 X vs H locs) (hj : j < 5) (hl : ls.size = nL) (hw : v_X1_isHeld X j p1 post) (hR : rmX1_isHeld.frames + 1 ≤ R.frames ∧ 8 + (2 + 11) + rmX1_isHeld.locals ≤ R.locals) (hrest : (rest.map fun v => v.category).sum ≤ 8) (hf : cells ≤ R.cells ∧ slots ≤ R.slots) (hdg : decode cc pc = .ok (.invokevirtual 32, 3)) (kk : ∀ (r : Int32) (H1 : Heap) (locs1 : List Loc), post r → StX D dT a A s vs0 X vs H1 locs1 → W p l e R s m args below meth c H1 locs1 cells slots Q (F0 m (pc + 3) ls (.int r :: rest))) : W p l e R s m args below meth c H locs cells slots Q (F0 m pc ls (.int p1 :: .ref (a (2 + j)) :: rest)) := by
  exact wCallVi (As := [.int p1]) (rest := rest) (mc := 0) (ms := 0) (2 + j) hC (met_X1_isHeld l D dT a H.size X vs j p1 hj post hw) (lw_V q693 q378 q379 q86 q380) ⟨⟨rfl, rfl⟩, hd_X1_isHeld, hR, hf⟩ (XW_P hj) rfl rfl hA hS.self hl rfl hrest hdg (fun r u H1 locs1 hp hS1 => kk r H1 locs1 hp.2 (by have h9 := hS.back hS1; rw [hp.1] at h9; exact h9))
end
section
variable {p : Program} {l : Launch} {e : Env} {R : Room} {s : State} {m : MethodId} {args : Array Value} {below : List Frame} {meth : Method} {c : Code} {H : Heap} {locs : List Loc} {cells slots : Nat} {Q : State → Prop} {cc : ByteArray} {nL : Nat} {ret : Option FieldType} {pc : Nat} {ls : Array Slot} {rest : List Value}
set_option maxHeartbeats 4000000 in
set_option maxRecDepth 100000 in
theorem inv_q377 {D : va_G} {dT : Nat → ClassId} {a : Nat → Nat} {A : Nat → Prop} {vs0 : XE} {vs : XE} {X : XS} {j : Nat} {p1 : Int32} {post : Int32 → Prop} (hC : wCx RX2 cc nL ret D dT p s m args meth c) (hA : wAz A s) (hS : StX D dT a A s vs0 X vs H locs) (hj : j < 5) (hl : ls.size = nL) (hw : v_X1_isHeld X j p1 post) (hR : rmX1_isHeld.frames + 1 ≤ R.frames ∧ 8 + (2 + 11) + rmX1_isHeld.locals ≤ R.locals) (hrest : (rest.map fun v => v.category).sum ≤ 8) (hf : cells ≤ R.cells ∧ slots ≤ R.slots) (hdg : decode cc pc = .ok (.invokevirtual 45, 3)) (kk : ∀ (r : Int32) (H1 : Heap) (locs1 : List Loc), post r → StX D dT a A s vs0 X vs H1 locs1 → W p l e R s m args below meth c H1 locs1 cells slots Q (F0 m (pc + 3) ls (.int r :: rest))) : W p l e R s m args below meth c H locs cells slots Q (F0 m pc ls (.int p1 :: .ref (a (2 + j)) :: rest)) := by
  exact wCallVi (As := [.int p1]) (rest := rest) (mc := 0) (ms := 0) (2 + j) hC (met_X1_isHeld l D dT a H.size X vs j p1 hj post hw) (lw_V q377 q378 q379 q86 q380) ⟨⟨rfl, rfl⟩, hd_X1_isHeld, hR, hf⟩ (XW_P hj) rfl rfl hA hS.self hl rfl hrest hdg (fun r u H1 locs1 hp hS1 => kk r H1 locs1 hp.2 (by have h9 := hS.back hS1; rw [hp.1] at h9; exact h9))
end
/-! LeastFrames_Point.shift -/
def w_X1_shift (X : XS) (j : Nat) (p1 : Int32) (post : Int32 → Prop) : Prop :=
  v_X1_isHeld X j p1 (fun r1 => (r1 = (0 : Int32) → (vp_in p1 2 ∧ (post (X_ps X j p1.toNatClampNeg)))) ∧ (¬ r1 = (0 : Int32) → (post (0 : Int32))))
abbrev rmX1_shift : Room := { frames := 2, cells := 0, slots := 0, locals := 42 }
set_option maxHeartbeats 4000000 in
set_option maxRecDepth 100000 in
theorem k_X1_shift_0 {p : Program} {l : Launch} {e : Env} {s : State} {m : MethodId} {args : Array Value} {below : List Frame} {meth : Method} {c : Code} {D : va_G} {dT : Nat → ClassId} {a : Nat → Nat} {A : Nat → Prop} {vs0 : XE} {X : XS} {j : Nat} {p1 : Int32} {post : Int32 → Prop} (hC : wCx RX1 cX1_shift 2 (some .int) D dT p s m args meth c) (hA : wAz A s) (hj : j < 5) {H : Heap} {locs : List Loc} {ls : Array Slot} (hS : StX D dT a A s vs0 X vs0 H locs) (hl : lv_has ls 2 [(0, .ref (a (2 + j))), (1, .int p1)])  (hw : w_X1_shift X j p1 post) : W p l e rmX1_shift s m args below meth c H locs 0 0 (MQ below (va_Qi (fun r u9 => u9 = (X, vs0) ∧ post r) (wB D (XW dT a) (XI vs0) A) A) args s 0 0 A) (F0 m 0 ls []) := by
  have hx := hC.1
  have hb := hC.2.1
  have hown := hC.2.2.2.1
  have hts := hC.2.2.2.2.1
  unfold w_X1_shift at hw
  refine lv_aload_n hx hb dX1_shift_0 rfl (lv_at hl 0 rfl) ?_
  refine lv_iload_n hx hb dX1_shift_1 rfl (lv_at hl 1 rfl) ?_
  refine inv_q693 hC hA hS hj hl.1 hw ⟨Nat.le_of_ble_eq_true rfl, Nat.le_of_ble_eq_true rfl⟩ (Nat.le_of_ble_eq_true rfl) ⟨Nat.zero_le _, Nat.zero_le _⟩ dX1_shift_2 (fun r1 H locs hw hS => ?_)
  refine lv_if_eq (tgt := 12) hx hb dX1_shift_5 (by decide) (fun c2 => ?_) (fun c2 => ?_)
  · have hw := hw.1 c2
    refine lv_aload_n hx hb dX1_shift_12 rfl (lv_at hl 0 rfl) ?_
    refine ld_q131 hC hS hj dX1_shift_13 ?_
    refine lv_iload_n hx hb dX1_shift_16 rfl (lv_at hl 1 rfl) ?_
    refine al_PS hC hS hj hw.1 dX1_shift_17 ?_
    have hw := hw.2
    exact wReti hC hS ⟨rfl, hw⟩ (Nat.le_refl _) (Nat.le_refl _) dX1_shift_18
  · have hw := hw.2 c2
    refine lv_iconst (v := 0) hx hb dX1_shift_8 (by decide) ?_
    refine lv_goto (tgt := 18) hx hb dX1_shift_9 (by decide) ?_
    exact wReti hC hS ⟨rfl, hw⟩ (Nat.le_refl _) (Nat.le_refl _) dX1_shift_18
abbrev v_X1_shift (X : XS) (j : Nat) (p1 : Int32) (post : Int32 → Prop) : Prop := w_X1_shift X j p1 post
set_option maxHeartbeats 4000000 in
set_option maxRecDepth 100000 in
theorem met_X1_shift (l : Launch) (D : va_G) (dT : Nat → ClassId) (a : Nat → Nat) (sz : Nat) (X : XS) (vs0 : XE) (j : Nat) (p1 : Int32) (hj : j < 5) (post : Int32 → Prop) (hw : v_X1_shift X j p1 post) : Met l yX1_shift (ws_ yX1_shift cX1_shift 2 (some .int)) rmX1_shift (wPc D dT (XW dT a) (XI vs0) sz (X, vs0) [.ref (a (2 + j)), .int p1]) (va_Qi (fun r u9 => u9 = (X, vs0) ∧ post r) (wB D (XW dT a) (XI vs0) (va_A ((XW dT a) (X, vs0)) sz)) (va_A ((XW dT a) (X, vs0)) sz)) 0 0 (va_A ((XW dT a) (X, vs0)) sz) :=
  wEnt (Q := fun A => (va_Qi (fun r u9 => u9 = (X, vs0) ∧ post r) (wB D (XW dT a) (XI vs0) A) A)) (by decide) (Nat.le_of_ble_eq_true rfl) (fun p e s m below meth c A ls hC _ hA hS hl => k_X1_shift_0 hC hA hj hS hl hw) sz
theorem hd_X1_shift : yX1_shift.cls ≠ "java/lang/invoke/MethodHandle" ∧ yX1_shift.cls ≠ "java/lang/invoke/VarHandle" ∧ (parseMethodDescriptor yX1_shift.desc).map (fun d => d.parameters.length) = some 1 := by decide +kernel
section
variable {p : Program} {l : Launch} {e : Env} {R : Room} {s : State} {m : MethodId} {args : Array Value} {below : List Frame} {meth : Method} {c : Code} {H : Heap} {locs : List Loc} {cells slots : Nat} {Q : State → Prop} {cc : ByteArray} {nL : Nat} {ret : Option FieldType} {pc : Nat} {ls : Array Slot} {rest : List Value}
set_option maxHeartbeats 4000000 in
set_option maxRecDepth 100000 in
theorem inv_q689 {D : va_G} {dT : Nat → ClassId} {a : Nat → Nat} {A : Nat → Prop} {vs0 : XE} {vs : XE} {X : XS} {j : Nat} {p1 : Int32} {post : Int32 → Prop} (hC : wCx RX0 cc nL ret D dT p s m args meth c) (hA : wAz A s) (hS : StX D dT a A s vs0 X vs H locs) (hj : j < 5) (hl : ls.size = nL) (hw : v_X1_shift X j p1 post) (hR : rmX1_shift.frames + 1 ≤ R.frames ∧ 8 + (2 + 11) + rmX1_shift.locals ≤ R.locals) (hrest : (rest.map fun v => v.category).sum ≤ 8) (hf : cells ≤ R.cells ∧ slots ≤ R.slots) (hdg : decode cc pc = .ok (.invokevirtual 281, 3)) (kk : ∀ (r : Int32) (H1 : Heap) (locs1 : List Loc), post r → StX D dT a A s vs0 X vs H1 locs1 → W p l e R s m args below meth c H1 locs1 cells slots Q (F0 m (pc + 3) ls (.int r :: rest))) : W p l e R s m args below meth c H locs cells slots Q (F0 m pc ls (.int p1 :: .ref (a (2 + j)) :: rest)) := by
  exact wCallVi (As := [.int p1]) (rest := rest) (mc := 0) (ms := 0) (2 + j) hC (met_X1_shift l D dT a H.size X vs j p1 hj post hw) (lw_V q689 q690 q691 q86 q692) ⟨⟨rfl, rfl⟩, hd_X1_shift, hR, hf⟩ (XW_P hj) rfl rfl hA hS.self hl rfl hrest hdg (fun r u H1 locs1 hp hS1 => kk r H1 locs1 hp.2 (by have h9 := hS.back hS1; rw [hp.1] at h9; exact h9))
end
