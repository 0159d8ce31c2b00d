/-! LeastFrames.needed -/
def w_X0_needed (post : Int32 → XS → Prop) (X : XS) : Prop :=
  v_X0_looks X (fun r1 X2 => (r1 = (0 : Int32) → (post ((-3) : Int32) X2)) ∧ (¬ r1 = (0 : Int32) → (v_X0_neededNow X2 (fun r4 X5 => post r4 X5))))
abbrev rmX0_needed : Room := { frames := 12, cells := 58, slots := 291, locals := 273 }
set_option maxHeartbeats 4000000 in
set_option maxRecDepth 100000 in
theorem k_X0_needed_0 {p : Program} {l : Launch} {e : Env} {s : State} {m : MethodId} {args : Array Value} {below : List Frame} {meth : Method} {c : Code} {D : va_G} {dT : Nat → ClassId} {a : Nat → Nat} {A : Nat → Prop} {vs0 : XE} {post : Int32 → XS → Prop} (hC : wCx RX0 cX0_needed 1 (some .int) D dT p s m args meth c) (hA : wAz A s) (hfl : l.stackTraces = false) (X : XS) {vs : XE} {H : Heap} {locs : List Loc} {ls : Array Slot} {cells slots : Nat} (hS : StX D dT a A s vs0 X vs H locs) (hl : lv_has ls 1 [(0, .ref (a 0))]) (hc : cells + 58 ≤ 58 ∧ slots + 291 ≤ 291) (hw : w_X0_needed post X) : W p l e rmX0_needed s m args below meth c H locs cells slots (MQ below (va_Qi (fun r u9 => post r u9.1) (wB D (XW dT a) (XI vs0) A) A) args s 58 291 A) (F0 m 0 ls []) := by
  have hx := hC.1
  have hb := hC.2.1
  have hown := hC.2.2.2.1
  have hts := hC.2.2.2.2.1
  unfold w_X0_needed at hw
  obtain ⟨hc1, hc2⟩ := hc
  refine lv_aload_n hx hb dX0_needed_0 rfl (lv_at hl 0 rfl) ?_
  refine inv_q352 hC hA hfl hS hl.1 hw ⟨Nat.le_of_ble_eq_true rfl, Nat.le_of_ble_eq_true rfl⟩ (Nat.le_of_ble_eq_true rfl) ⟨(by show _ ≤ 58; omega), (by show _ ≤ 291; omega)⟩ dX0_needed_1 (fun r1 X2 vs H locs hw hv9 hS => ?_)
  refine lv_if_eq (tgt := 14) hx hb dX0_needed_4 (by decide) (fun c3 => ?_) (fun c3 => ?_)
  · have hw := hw.1 c3
    refine lv_bipush (v := (-3)) hx hb dX0_needed_14 (by decide) ?_
    exact wReti hC hS hw (by omega) (by omega) dX0_needed_16
  · have hw := hw.2 c3
    refine lv_aload_n hx hb dX0_needed_7 rfl (lv_at hl 0 rfl) ?_
    refine inv_q619 hC hA hfl hS hl.1 hw ⟨Nat.le_of_ble_eq_true rfl, Nat.le_of_ble_eq_true rfl⟩ (Nat.le_of_ble_eq_true rfl) ⟨(by show _ ≤ 58; omega), (by show _ ≤ 291; omega)⟩ dX0_needed_8 (fun r4 X5 vs H locs hw hv9 hS => ?_)
    refine lv_goto (tgt := 16) hx hb dX0_needed_11 (by decide) ?_
    exact wReti hC hS hw (by omega) (by omega) dX0_needed_16
abbrev v_X0_needed (X : XS) (post : Int32 → XS → Prop) : Prop := w_X0_needed post X
set_option maxHeartbeats 4000000 in
set_option maxRecDepth 100000 in
theorem met_X0_needed (l : Launch) (hfl : l.stackTraces = false) (D : va_G) (dT : Nat → ClassId) (a : Nat → Nat) (sz : Nat) (X : XS) (vs0 : XE) (post : Int32 → XS → Prop) (hw : v_X0_needed X post) : Met l yX0_needed (ws_ yX0_needed cX0_needed 1 (some .int)) rmX0_needed (wPc D dT (XW dT a) (XI vs0) sz (X, vs0) [.ref (a 0)]) (va_Qi (fun r u9 => post r u9.1) (wB D (XW dT a) (XI vs0) (va_A ((XW dT a) (X, vs0)) sz)) (va_A ((XW dT a) (X, vs0)) sz)) 58 291 (va_A ((XW dT a) (X, vs0)) sz) :=
  wEnt (Q := fun A => (va_Qi (fun r u9 => post r u9.1) (wB D (XW dT a) (XI vs0) A) A)) (by decide) (Nat.le_of_ble_eq_true rfl) (fun p e s m below meth c A ls hC _ hA hS hl => k_X0_needed_0 hC hA hfl _ hS hl ⟨by omega, by omega⟩ hw) sz
theorem hd_X0_needed : yX0_needed.cls ≠ "java/lang/invoke/MethodHandle" ∧ yX0_needed.cls ≠ "java/lang/invoke/VarHandle" ∧ (parseMethodDescriptor yX0_needed.desc).map (fun d => d.parameters.length) = some 0 := by decide +kernel
/-! LeastFrames.dearestNow -/
def w_X0_dearestNow_52 (K9 : XS → Int32 → Vol → Int32 → Prop) (post : Int32 → XS → Prop) (X : XS) (x1 : Int32) (x2 : Vol) (x3 : Int32) : Prop :=
  ∀ v1 : Int32, v1 = x3 + 1 → (K9 X x1 x2 v1)
def w_X0_dearestNow_9b (K9 : XS → Int32 → Vol → Int32 → Prop) (post : Int32 → XS → Prop) (X : XS) (x1 : Int32) (x2 : Vol) (x3 : Int32) : Prop :=
  v_X0_pairs X (fun r1 => (r1 ≤ x3 → (post x1 X)) ∧ (¬ r1 ≤ x3 → (v_X0_isIn (X_bars X) x3 (fun r3 => (r3 = (0 : Int32) → (∀ v10 : Int32, v10 = x3 + 1 → (K9 X x1 x2 v10))) ∧ (¬ r3 = (0 : Int32) → (v_X0_lacking X x3 (fun r5 X6 => v_X6_isLess X6 x2 r5 (fun r8 => (r8 = (0 : Int32) → (w_X0_dearestNow_52 K9 post X6 x1 x2 x3)) ∧ (¬ r8 = (0 : Int32) → (w_X0_dearestNow_52 K9 post X6 x3 r5 x3)))) (fun x7 X6 => post x7.2.1 X6)))))))
def w_X0_dearestNow_9 (post : Int32 → XS → Prop) : Nat → XS → Int32 → Vol → Int32 → Prop
  | 0, _, _, _, _ => False
  | n + 1, X, x1, x2, x3 => w_X0_dearestNow_9b  (w_X0_dearestNow_9 post n) post X x1 x2 x3
def w_X0_dearestNow (post : Int32 → XS → Prop) (X : XS) : Prop :=
  ∃ v1, X_least X = some v1 ∧ (∃ n, n ≤ 11 ∧ w_X0_dearestNow_9 post n X (-1) v1 0)
abbrev rmX0_dearestNow : Room := { frames := 10, cells := 33, slots := 176, locals := 230 }
set_option maxHeartbeats 4000000 in
set_option maxRecDepth 100000 in
theorem k_X0_dearestNow_52 {p : Program} {l : Launch} {e : Env} {s : State} {m : MethodId} {args : Array Value} {below : List Frame} {meth : Method} {c : Code} {D : va_G} {dT : Nat → ClassId} {a : Nat → Nat} {A : Nat → Prop} {vs0 : XE} {nK : Nat} {K9 : XS → Int32 → Vol → Int32 → Prop} {post : Int32 → XS → Prop} (hC : wCx RX0 cX0_dearestNow 5 (some .int) D dT p s m args meth c) (hA : wAz A s) (hfl : l.stackTraces = false) (htb : c.exceptionTable.toList = tableOf [(31, 52, 55, 226)]) (hK9 : ∀ (X : XS) (x1 : Int32) (x2 : Vol) (x3 : Int32), K9 X x1 x2 x3 → ∀ {vs : XE} {H : Heap} {locs : List Loc} {ls : Array Slot} {cells slots : Nat}, volC x2 ∈ vs → StX D dT a A s vs0 X vs H locs → lv_has ls 5 [(0, .ref (a 0)), (1, .int x1), (2, .ref x2.1), (3, .int x3)] → cells + (nK * 3 + 0) ≤ 33 ∧ slots + (nK * 16 + 0) ≤ 176 → W p l e rmX0_dearestNow s m args below meth c H locs cells slots (MQ below (va_Qi (fun r u9 => post r u9.1) (wB D (XW dT a) (XI vs0) A) A) args s 33 176 A) (F0 m 9 ls [])) (X : XS) (x1 : Int32) (x2 : Vol) (x3 : Int32) {vs : XE} {H : Heap} {locs : List Loc} {ls : Array Slot} {cells slots : Nat} (f_x2 : volC x2 ∈ vs) (hS : StX D dT a A s vs0 X vs H locs) (hl : lv_has ls 5 [(0, .ref (a 0)), (1, .int x1), (2, .ref x2.1), (3, .int x3)]) (hc : cells + (0 + (nK * 3 + 0)) ≤ 33 ∧ slots + (0 + (nK * 16 + 0)) ≤ 176) (hw : w_X0_dearestNow_52 K9 post X x1 x2 x3) : W p l e rmX0_dearestNow s m args below meth c H locs cells slots (MQ below (va_Qi (fun r u9 => post r u9.1) (wB D (XW dT a) (XI vs0) A) A) args s 33 176 A) (F0 m 52 ls []) := by
  have hx := hC.1
  have hb := hC.2.1
  have hown := hC.2.2.2.1
  have hts := hC.2.2.2.2.1
  unfold w_X0_dearestNow_52 at hw
  obtain ⟨hc1, hc2⟩ := hc
  refine lv_goto (tgt := 63) hx hb dX0_dearestNow_52 (by decide) ?_
  obtain ⟨v1, ev1⟩ : ∃ y : Int32, y = x3 + 1 := ⟨_, rfl⟩
  have hw := hw v1 ev1
  refine lv_iinc (v := v1) (lv' := [(3, .int v1), (0, .ref (a 0)), (1, .int x1), (2, .ref x2.1)]) hx hb dX0_dearestNow_63 hl (k := 3) rfl (by rw [ev1]; rfl) (by decide) rfl (fun ls hl => ?_)
  refine lv_goto (tgt := 9) hx hb dX0_dearestNow_66 (by decide) ?_
  exact hK9 _ _ _ _ hw f_x2 hS (lv_sub hl [1, 2, 3, 0] rfl) ⟨by omega, by omega⟩
set_option maxHeartbeats 4000000 in
set_option maxRecDepth 100000 in
theorem k_X0_dearestNow_9b {p : Program} {l : Launch} {e : Env} {s : State} {m : MethodId} {args : Array Value} {below : List Frame} {meth : Method} {c : Code} {D : va_G} {dT : Nat → ClassId} {a : Nat → Nat} {A : Nat → Prop} {vs0 : XE} {nK : Nat} {K9 : XS → Int32 → Vol → Int32 → Prop} {post : Int32 → XS → Prop} (hC : wCx RX0 cX0_dearestNow 5 (some .int) D dT p s m args meth c) (hA : wAz A s) (hfl : l.stackTraces = false) (htb : c.exceptionTable.toList = tableOf [(31, 52, 55, 226)]) (hK9 : ∀ (X : XS) (x1 : Int32) (x2 : Vol) (x3 : Int32), K9 X x1 x2 x3 → ∀ {vs : XE} {H : Heap} {locs : List Loc} {ls : Array Slot} {cells slots : Nat}, volC x2 ∈ vs → StX D dT a A s vs0 X vs H locs → lv_has ls 5 [(0, .ref (a 0)), (1, .int x1), (2, .ref x2.1), (3, .int x3)] → cells + (nK * 3 + 0) ≤ 33 ∧ slots + (nK * 16 + 0) ≤ 176 → W p l e rmX0_dearestNow s m args below meth c H locs cells slots (MQ below (va_Qi (fun r u9 => post r u9.1) (wB D (XW dT a) (XI vs0) A) A) args s 33 176 A) (F0 m 9 ls [])) (X : XS) (x1 : Int32) (x2 : Vol) (x3 : Int32) {vs : XE} {H : Heap} {locs : List Loc} {ls : Array Slot} {cells slots : Nat} (f_x2 : volC x2 ∈ vs) (hS : StX D dT a A s vs0 X vs H locs) (hl : lv_has ls 5 [(0, .ref (a 0)), (1, .int x1), (2, .ref x2.1), (3, .int x3)]) (hc : cells + (3 + (nK * 3 + 0)) ≤ 33 ∧ slots + (16 + (nK * 16 + 0)) ≤ 176) (hw : w_X0_dearestNow_9b K9 post X x1 x2 x3) : W p l e rmX0_dearestNow s m args below meth c H locs cells slots (MQ below (va_Qi (fun r u9 => post r u9.1) (wB D (XW dT a) (XI vs0) A) A) args s 33 176 A) (F0 m 9 ls []) := by
  have hx := hC.1
  have hb := hC.2.1
  have hown := hC.2.2.2.1
  have hts := hC.2.2.2.2.1
  unfold w_X0_dearestNow_9b at hw
  obtain ⟨hc1, hc2⟩ := hc
  refine lv_iload_n hx hb dX0_dearestNow_9 rfl (lv_at hl 3 rfl) ?_
  refine lv_aload_n hx hb dX0_dearestNow_10 rfl (lv_at hl 0 rfl) ?_
  refine inv_q250 hC hA hS hl.1 hw ⟨Nat.le_of_ble_eq_true rfl, Nat.le_of_ble_eq_true rfl⟩ (Nat.le_of_ble_eq_true rfl) ⟨(by show _ ≤ 33; omega), (by show _ ≤ 176; omega)⟩ dX0_dearestNow_11 (fun r1 H locs hw hS => ?_)
  refine lv_icmp_ge (tgt := 69) hx hb dX0_dearestNow_14 (by decide) (fun c2 => ?_) (fun c2 => ?_)
  · have hw := hw.1 c2
    refine lv_iload_n hx hb dX0_dearestNow_69 rfl (lv_at hl 1 rfl) ?_
    exact wReti hC hS hw (by omega) (by omega) dX0_dearestNow_70
  · have hw := hw.2 c2
    refine lv_aload_n hx hb dX0_dearestNow_17 rfl (lv_at hl 0 rfl) ?_
    refine ld_q197 hC hS dX0_dearestNow_18 ?_
    refine lv_iload_n hx hb dX0_dearestNow_21 rfl (lv_at hl 3 rfl) ?_
    refine inv_q341 hC hS hl.1 hw ⟨Nat.le_of_ble_eq_true rfl, Nat.le_of_ble_eq_true rfl⟩ (Nat.le_of_ble_eq_true rfl) ⟨(by show _ ≤ 33; omega), (by show _ ≤ 176; omega)⟩ dX0_dearestNow_22 (fun r3 H locs hw hS => ?_)
    refine lv_if_ne (tgt := 31) hx hb dX0_dearestNow_25 (by decide) (fun c4 => ?_) (fun c4 => ?_)
    · have hw := hw.2 c4
      refine lv_aload_n hx hb dX0_dearestNow_31 rfl (lv_at hl 0 rfl) ?_
      refine lv_iload_n hx hb dX0_dearestNow_32 rfl (lv_at hl 3 rfl) ?_
      refine inv_q569 hC hA hfl hS hl.1 hw ⟨Nat.le_of_ble_eq_true rfl, Nat.le_of_ble_eq_true rfl⟩ (Nat.le_of_ble_eq_true rfl) ⟨(by show _ ≤ 33; omega), (by show _ ≤ 176; omega)⟩ dX0_dearestNow_33 (fun x7 X6 vs H locs hw hv9 hS f_x7 m_x7 => ?_) (fun r5 X6 vs H locs hw hv9 hS f_r5 => ?_)
      · have f_x2 := hv9 _ f_x2
        obtain ⟨ce9, g1, g2, g3⟩ := xUnt_cell hC hS f_x7
        refine vx_catch (name := "LeastFrames$Untried") (E := "LeastFrames$Untried") hown [] ⟨31, 52, 55, 226⟩ [] (by rw [htb]; rfl) (fun z hz => absurd hz List.not_mem_nil) (by decide) (by decide) (hts _ q568) (va_Nw.use rfl (hC.2.2.2.2.2.2.2.2.1 _ nw_q574)) g1 g2 g3 ?_
        refine lv_astore (lv' := [(4, .ref x7.1), (0, .ref (a 0)), (1, .int x1), (2, .ref x2.1), (3, .int x3)]) hx hb dX0_dearestNow_55 hl (by decide) rfl (fun ls hl => ?_)
        refine lv_aload hx hb dX0_dearestNow_57 (lv_at hl 0 rfl) ?_
        refine ldb hC hS f_x7 dX0_dearestNow_59 ?_
        exact wReti hC hS hw (by omega) (by omega) dX0_dearestNow_62
      · have f_x2 := hv9 _ f_x2
        refine lv_astore (lv' := [(4, .ref r5.1), (0, .ref (a 0)), (1, .int x1), (2, .ref x2.1), (3, .int x3)]) hx hb dX0_dearestNow_36 hl (by decide) rfl (fun ls hl => ?_)
        refine lv_aload_n hx hb dX0_dearestNow_38 rfl (lv_at hl 3 rfl) ?_
        refine lv_aload hx hb dX0_dearestNow_39 (lv_at hl 0 rfl) ?_
        refine inv_q527 hC hA hS f_x2 f_r5 hl.1 hw ⟨Nat.le_of_ble_eq_true rfl, Nat.le_of_ble_eq_true rfl⟩ (Nat.le_of_ble_eq_true rfl) ⟨(by show _ ≤ 33; omega), (by show _ ≤ 176; omega)⟩ dX0_dearestNow_41 (fun r8 H locs hw hS => ?_)
        refine lv_if_eq (tgt := 52) hx hb dX0_dearestNow_44 (by decide) (fun c9 => ?_) (fun c9 => ?_)
        · have hw := hw.1 c9
          exact k_X0_dearestNow_52 hC hA hfl htb hK9 _ _ _ _ f_x2 hS (lv_sub hl [1, 2, 3, 4] rfl) ⟨by omega, by omega⟩ hw
        · have hw := hw.2 c9
          refine lv_aload hx hb dX0_dearestNow_47 (lv_at hl 0 rfl) ?_
          refine lv_astore_n (lv' := [(2, .ref r5.1), (4, .ref r5.1), (0, .ref (a 0)), (1, .int x1), (3, .int x3)]) hx hb dX0_dearestNow_49 rfl hl (by decide) rfl (fun ls hl => ?_)
          refine lv_iload_n hx hb dX0_dearestNow_50 rfl (lv_at hl 4 rfl) ?_
          refine lv_istore_n (lv' := [(1, .int x3), (2, .ref r5.1), (4, .ref r5.1), (0, .ref (a 0)), (3, .int x3)]) hx hb dX0_dearestNow_51 rfl hl (by decide) rfl (fun ls hl => ?_)
          exact k_X0_dearestNow_52 hC hA hfl htb hK9 _ _ _ _ f_r5 hS (lv_sub hl [3, 0, 1, 4] rfl) ⟨by omega, by omega⟩ hw
    · have hw := hw.1 c4
      refine lv_goto (tgt := 63) hx hb dX0_dearestNow_28 (by decide) ?_
      obtain ⟨v10, ev10⟩ : ∃ y : Int32, y = x3 + 1 := ⟨_, rfl⟩
      have hw := hw v10 ev10
      refine lv_iinc (v := v10) (lv' := [(3, .int v10), (0, .ref (a 0)), (1, .int x1), (2, .ref x2.1)]) hx hb dX0_dearestNow_63 hl (k := 3) rfl (by rw [ev10]; rfl) (by decide) rfl (fun ls hl => ?_)
      refine lv_goto (tgt := 9) hx hb dX0_dearestNow_66 (by decide) ?_
      exact hK9 _ _ _ _ hw f_x2 hS (lv_sub hl [1, 2, 3, 0] rfl) ⟨by omega, by omega⟩
set_option maxHeartbeats 4000000 in
set_option maxRecDepth 100000 in
theorem k_X0_dearestNow_9 {p : Program} {l : Launch} {e : Env} {s : State} {m : MethodId} {args : Array Value} {below : List Frame} {meth : Method} {c : Code} {D : va_G} {dT : Nat → ClassId} {a : Nat → Nat} {A : Nat → Prop} {vs0 : XE} {post : Int32 → XS → Prop} (hC : wCx RX0 cX0_dearestNow 5 (some .int) D dT p s m args meth c) (hA : wAz A s) (hfl : l.stackTraces = false) (htb : c.exceptionTable.toList = tableOf [(31, 52, 55, 226)]) : ∀ (X : XS) (x1 : Int32) (x2 : Vol) (x3 : Int32) (n : Nat), ∀ {vs : XE} {H : Heap} {locs : List Loc} {ls : Array Slot} {cells slots : Nat}, volC x2 ∈ vs → StX D dT a A s vs0 X vs H locs → lv_has ls 5 [(0, .ref (a 0)), (1, .int x1), (2, .ref x2.1), (3, .int x3)] → cells + (n * 3 + 0) ≤ 33 ∧ slots + (n * 16 + 0) ≤ 176 → w_X0_dearestNow_9 post n X x1 x2 x3 → W p l e rmX0_dearestNow s m args below meth c H locs cells slots (MQ below (va_Qi (fun r u9 => post r u9.1) (wB D (XW dT a) (XI vs0) A) A) args s 33 176 A) (F0 m 9 ls []) := by
  intro X x1 x2 x3 n
  induction n generalizing X x1 x2 x3 with
  | zero => intro vs H locs ls cells slots f_x2 hS hl hc hw; exact hw.elim
  | succ n ih =>
    intro vs H locs ls cells slots f_x2 hS hl hc hw
    exact k_X0_dearestNow_9b hC hA hfl htb (fun X x1 x2 x3 hk {vs} {H} {locs} {ls} {cells} {slots} f_x2 hS hl hc => ih X x1 x2 x3 f_x2 hS hl hc hk) X x1 x2 x3 f_x2 hS hl ⟨by omega, by omega⟩ hw
set_option maxHeartbeats 4000000 in
set_option maxRecDepth 100000 in
theorem k_X0_dearestNow_0 {p : Program} {l : Launch} {e : Env} {s : State} {m : MethodId} {args : Array Value} {below : List Frame} {meth : Method} {c : Code} {D : va_G} {dT : Nat → ClassId} {a : Nat → Nat} {A : Nat → Prop} {vs0 : XE} {post : Int32 → XS → Prop} (hC : wCx RX0 cX0_dearestNow 5 (some .int) D dT p s m args meth c) (hA : wAz A s) (hfl : l.stackTraces = false) (htb : c.exceptionTable.toList = tableOf [(31, 52, 55, 226)]) (X : XS) {vs : XE} {H : Heap} {locs : List Loc} {ls : Array Slot} {cells slots : Nat} (hS : StX D dT a A s vs0 X vs H locs) (hl : lv_has ls 5 [(0, .ref (a 0))]) (hc : cells + 33 ≤ 33 ∧ slots + 176 ≤ 176) (hw : w_X0_dearestNow post X) : W p l e rmX0_dearestNow s m args below meth c H locs cells slots (MQ below (va_Qi (fun r u9 => post r u9.1) (wB D (XW dT a) (XI vs0) A) A) args s 33 176 A) (F0 m 0 ls []) := by
  have hx := hC.1
  have hb := hC.2.1
  have hown := hC.2.2.2.1
  have hts := hC.2.2.2.2.1
  unfold w_X0_dearestNow at hw
  obtain ⟨hc1, hc2⟩ := hc
  refine lv_iconst (v := (-1)) hx hb dX0_dearestNow_0 (by decide) ?_
  refine lv_istore_n (lv' := [(1, .int (-1)), (0, .ref (a 0))]) hx hb dX0_dearestNow_1 rfl hl (by decide) rfl (fun ls hl => ?_)
  refine lv_aload_n hx hb dX0_dearestNow_2 rfl (lv_at hl 1 rfl) ?_
  obtain ⟨v1, hl_v1, hw⟩ := hw
  have f_v1 := hS.2.2.2.1 v1 hl_v1
  refine ld_q200 hC hS dX0_dearestNow_3 ?_
  refine opt_ref hl_v1 ?_
  refine lv_astore_n (lv' := [(2, .ref v1.1), (1, .int (-1)), (0, .ref (a 0))]) hx hb dX0_dearestNow_6 rfl hl (by decide) rfl (fun ls hl => ?_)
  refine lv_iconst (v := 0) hx hb dX0_dearestNow_7 (by decide) ?_
  refine lv_istore_n (lv' := [(3, .int 0), (2, .ref v1.1), (1, .int (-1)), (0, .ref (a 0))]) hx hb dX0_dearestNow_8 rfl hl (by decide) rfl (fun ls hl => ?_)
  obtain ⟨n, hn9, hw⟩ := hw
  exact k_X0_dearestNow_9 hC hA hfl htb _ _ _ _ n f_v1 hS (lv_sub hl [3, 2, 1, 0] rfl) ⟨by omega, by omega⟩ hw
abbrev v_X0_dearestNow (X : XS) (post : Int32 → XS → Prop) : Prop := w_X0_dearestNow post X
set_option maxHeartbeats 4000000 in
set_option maxRecDepth 100000 in
theorem met_X0_dearestNow (l : Launch) (hfl : l.stackTraces = false) (D : va_G) (dT : Nat → ClassId) (a : Nat → Nat) (sz : Nat) (X : XS) (vs0 : XE) (post : Int32 → XS → Prop) (hw : v_X0_dearestNow X post) : Met l yX0_dearestNow (wsW_ yX0_dearestNow cX0_dearestNow 5 (some .int) [(31, 52, 55, 226)]) rmX0_dearestNow (wPc D dT (XW dT a) (XI vs0) sz (X, vs0) [.ref (a 0)]) (va_Qi (fun r u9 => post r u9.1) (wB D (XW dT a) (XI vs0) (va_A ((XW dT a) (X, vs0)) sz)) (va_A ((XW dT a) (X, vs0)) sz)) 33 176 (va_A ((XW dT a) (X, vs0)) sz) :=
  wEntH (Q := fun A => (va_Qi (fun r u9 => post r u9.1) (wB D (XW dT a) (XI vs0) A) A)) (by decide) (Nat.le_of_ble_eq_true rfl) (fun p e s m below meth c A ls hC htb hA hS hl => k_X0_dearestNow_0 hC hA hfl htb _ hS hl ⟨by omega, by omega⟩ hw) sz
theorem hd_X0_dearestNow : yX0_dearestNow.cls ≠ "java/lang/invoke/MethodHandle" ∧ yX0_dearestNow.cls ≠ "java/lang/invoke/VarHandle" ∧ (parseMethodDescriptor yX0_dearestNow.desc).map (fun d => d.parameters.length) = some 0 := by decide +kernel
section
variable {p : Program} {l : Launch} {e : Env} {R : Room} {s : State} {m : MethodId} {args : Array Value} {below : List Frame} {meth : Method} {c : Code} {H : Heap} {locs : List Loc} {cells slots : Nat} {Q : State → Prop} {cc : ByteArray} {nL : Nat} {ret : Option FieldType} {pc : Nat} {ls : Array Slot} {rest : List Value}
set_option maxHeartbeats 4000000 in
set_option maxRecDepth 100000 in
theorem inv_q627 {D : va_G} {dT : Nat → ClassId} {a : Nat → Nat} {A : Nat → Prop} {vs0 : XE} {vs : XE} {X : XS} {post : Int32 → XS → Prop} (hC : wCx RX0 cc nL ret D dT p s m args meth c) (hA : wAz A s) (hfl : l.stackTraces = false) (hS : StX D dT a A s vs0 X vs H locs) (hl : ls.size = nL) (hw : v_X0_dearestNow X post) (hR : rmX0_dearestNow.frames + 1 ≤ R.frames ∧ 8 + (5 + 11) + rmX0_dearestNow.locals ≤ R.locals) (hrest : (rest.map fun v => v.category).sum ≤ 8) (hf : cells + 33 ≤ R.cells ∧ slots + 176 ≤ R.slots) (hdg : decode cc pc = .ok (.invokevirtual 251, 3))  (kk : ∀ (r : Int32) (X1 : XS) (vs1 : XE) (H1 : Heap) (locs1 : List Loc), post r X1 → (∀ v ∈ vs, v ∈ vs1) → StX D dT a A s vs0 X1 vs1 H1 locs1 → W p l e R s m args below meth c H1 locs1 (cells + 33) (slots + 176) Q (F0 m (pc + 3) ls (.int r :: rest))) : W p l e R s m args below meth c H locs cells slots Q (F0 m pc ls (.ref (a 0) :: rest)) := by
  exact xNi hA hS (wRunVW (As := []) (rest := rest) (mc := 33) (ms := 176) 0 hC (met_X0_dearestNow l hfl D dT a H.size X vs post hw) (lw_VW q627 q629 qs29 q85 q630) ⟨⟨rfl, rfl⟩, hd_X0_dearestNow, hR, hf⟩ XW_0 rfl rfl hA hS.self hl rfl hrest hdg) kk
end
/-! LeastFrames.dearest -/
def w_X0_dearest (post : Int32 → XS → Prop) (X : XS) : Prop :=
  v_X0_looks X (fun r1 X2 => (r1 = (0 : Int32) → (post ((-3) : Int32) X2)) ∧ (¬ r1 = (0 : Int32) → (v_X0_dearestNow X2 (fun r4 X5 => post r4 X5))))
abbrev rmX0_dearest : Room := { frames := 12, cells := 58, slots := 291, locals := 273 }
set_option maxHeartbeats 4000000 in
set_option maxRecDepth 100000 in
theorem k_X0_dearest_0 {p : Program} {l : Launch} {e : Env} {s : State} {m : MethodId} {args : Array Value} {below : List Frame} {meth : Method} {c : Code} {D : va_G} {dT : Nat → ClassId} {a : Nat → Nat} {A : Nat → Prop} {vs0 : XE} {post : Int32 → XS → Prop} (hC : wCx RX0 cX0_dearest 1 (some .int) D dT p s m args meth c) (hA : wAz A s) (hfl : l.stackTraces = false) (X : XS) {vs : XE} {H : Heap} {locs : List Loc} {ls : Array Slot} {cells slots : Nat} (hS : StX D dT a A s vs0 X vs H locs) (hl : lv_has ls 1 [(0, .ref (a 0))]) (hc : cells + 58 ≤ 58 ∧ slots + 291 ≤ 291) (hw : w_X0_dearest post X) : W p l e rmX0_dearest s m args below meth c H locs cells slots (MQ below (va_Qi (fun r u9 => post r u9.1) (wB D (XW dT a) (XI vs0) A) A) args s 58 291 A) (F0 m 0 ls []) := by
  have hx := hC.1
  have hb := hC.2.1
  have hown := hC.2.2.2.1
  have hts := hC.2.2.2.2.1
  unfold w_X0_dearest at hw
  obtain ⟨hc1, hc2⟩ := hc
  refine lv_aload_n hx hb dX0_dearest_0 rfl (lv_at hl 0 rfl) ?_
  refine inv_q352 hC hA hfl hS hl.1 hw ⟨Nat.le_of_ble_eq_true rfl, Nat.le_of_ble_eq_true rfl⟩ (Nat.le_of_ble_eq_true rfl) ⟨(by show _ ≤ 58; omega), (by show _ ≤ 291; omega)⟩ dX0_dearest_1 (fun r1 X2 vs H locs hw hv9 hS => ?_)
  refine lv_if_eq (tgt := 14) hx hb dX0_dearest_4 (by decide) (fun c3 => ?_) (fun c3 => ?_)
  · have hw := hw.1 c3
    refine lv_bipush (v := (-3)) hx hb dX0_dearest_14 (by decide) ?_
    exact wReti hC hS hw (by omega) (by omega) dX0_dearest_16
  · have hw := hw.2 c3
    refine lv_aload_n hx hb dX0_dearest_7 rfl (lv_at hl 0 rfl) ?_
    refine inv_q627 hC hA hfl hS hl.1 hw ⟨Nat.le_of_ble_eq_true rfl, Nat.le_of_ble_eq_true rfl⟩ (Nat.le_of_ble_eq_true rfl) ⟨(by show _ ≤ 58; omega), (by show _ ≤ 291; omega)⟩ dX0_dearest_8 (fun r4 X5 vs H locs hw hv9 hS => ?_)
    refine lv_goto (tgt := 16) hx hb dX0_dearest_11 (by decide) ?_
    exact wReti hC hS hw (by omega) (by omega) dX0_dearest_16
abbrev v_X0_dearest (X : XS) (post : Int32 → XS → Prop) : Prop := w_X0_dearest post X
set_option maxHeartbeats 4000000 in
set_option maxRecDepth 100000 in
theorem met_X0_dearest (l : Launch) (hfl : l.stackTraces = false) (D : va_G) (dT : Nat → ClassId) (a : Nat → Nat) (sz : Nat) (X : XS) (vs0 : XE) (post : Int32 → XS → Prop) (hw : v_X0_dearest X post) : Met l yX0_dearest (ws_ yX0_dearest cX0_dearest 1 (some .int)) rmX0_dearest (wPc D dT (XW dT a) (XI vs0) sz (X, vs0) [.ref (a 0)]) (va_Qi (fun r u9 => post r u9.1) (wB D (XW dT a) (XI vs0) (va_A ((XW dT a) (X, vs0)) sz)) (va_A ((XW dT a) (X, vs0)) sz)) 58 291 (va_A ((XW dT a) (X, vs0)) sz) :=
  wEnt (Q := fun A => (va_Qi (fun r u9 => post r u9.1) (wB D (XW dT a) (XI vs0) A) A)) (by decide) (Nat.le_of_ble_eq_true rfl) (fun p e s m below meth c A ls hC _ hA hS hl => k_X0_dearest_0 hC hA hfl _ hS hl ⟨by omega, by omega⟩ hw) sz
theorem hd_X0_dearest : yX0_dearest.cls ≠ "java/lang/invoke/MethodHandle" ∧ yX0_dearest.cls ≠ "java/lang/invoke/VarHandle" ∧ (parseMethodDescriptor yX0_dearest.desc).map (fun d => d.parameters.length) = some 0 := by decide +kernel
/-! LeastFrames.gained -/
def w_X0_gained (p1 : Int32) (post : Vol → XS → Prop) (postX : Exu → XS → Prop) (X : XS) : Prop :=
  v_X0_volumeOf X ((X_bars X) ||| (1 <<< (p1 &&& 31))) (fun r1 X2 => post r1 X2) (fun x3 X2 => ∀ q4 : Nat, (postX (q4, p1, x3.2) X2))
abbrev rmX0_gained : Room := { frames := 9, cells := 3, slots := 16, locals := 208 }
set_option maxHeartbeats 4000000 in
set_option maxRecDepth 100000 in
theorem k_X0_gained_0 {p : Program} {l : Launch} {e : Env} {s : State} {m : MethodId} {args : Array Value} {below : List Frame} {meth : Method} {c : Code} {D : va_G} {dT : Nat → ClassId} {a : Nat → Nat} {A : Nat → Prop} {vs0 : XE} {p1 : Int32} {post : Vol → XS → Prop} {postX : Exu → XS → Prop} (hC : wCx RX0 cX0_gained 3 (some (.object "LeastFrames$Volume")) D dT p s m args meth c) (hA : wAz A s) (hfl : l.stackTraces = false) (htb : c.exceptionTable.toList = tableOf [(0, 12, 13, 109)]) (X : XS) {vs : XE} {H : Heap} {locs : List Loc} {ls : Array Slot} {cells slots : Nat} (hS : StX D dT a A s vs0 X vs H locs) (hl : lv_has ls 3 [(0, .ref (a 0)), (1, .int p1)]) (hc : cells + 3 ≤ 3 ∧ slots + 16 ≤ 16) (hw : w_X0_gained p1 post postX X) : W p l e rmX0_gained s m args below meth c H locs cells slots (vx_MQ below (va_Qr (fun u9 : (XS × XE) × Vol => post u9.2 u9.1.1) (fun u9 a9 t9 => a9 = u9.2.1 ∧ volC u9.2 ∈ u9.1.2 ∧ wB D (XW dT a) (XI vs0) A u9.1 t9) A) (XCT D dT a vs0 postX A) args s 3 16 A) (F0 m 0 ls []) := by
  have hx := hC.1
  have hb := hC.2.1
  have hown := hC.2.2.2.1
  have hts := hC.2.2.2.2.1
  unfold w_X0_gained at hw
  obtain ⟨hc1, hc2⟩ := hc
  refine lv_aload_n hx hb dX0_gained_0 rfl (lv_at hl 0 rfl) ?_
  refine lv_aload_n hx hb dX0_gained_1 rfl (lv_at hl 0 rfl) ?_
  refine ld_q197 hC hS dX0_gained_2 ?_
  refine lv_iconst (v := 1) hx hb dX0_gained_5 (by decide) ?_
  refine lv_iload_n hx hb dX0_gained_6 rfl (lv_at hl 1 rfl) ?_
  refine lv_ishl hx hb dX0_gained_7 ?_
  refine lv_ior hx hb dX0_gained_8 ?_
  refine inv_q361 hC hA hfl hS hl.1 hw ⟨Nat.le_of_ble_eq_true rfl, Nat.le_of_ble_eq_true rfl⟩ (Nat.le_of_ble_eq_true rfl) ⟨(by show _ ≤ 3; omega), (by show _ ≤ 16; omega)⟩ dX0_gained_9 (fun x3 X2 vs H locs hw hv9 hS f_x3 => ?_) (fun r1 X2 vs H locs hw hv9 hS f_r1 => ?_)
  · obtain ⟨ce9, g1, g2, g3⟩ := xUnb_cell hC hS f_x3
    refine vx_catch (name := "LeastFrames$Unborne") (E := "LeastFrames$Unborne") hown [] ⟨0, 12, 13, 109⟩ [] (by rw [htb]; rfl) (fun z hz => absurd hz List.not_mem_nil) (by decide) (by decide) (hts _ q356) (va_Nw.use rfl (hC.2.2.2.2.2.2.2.2.1 _ nw_q397)) g1 g2 g3 ?_
    refine lv_astore_n (lv' := [(2, .ref x3.1), (0, .ref (a 0)), (1, .int p1)]) hx hb dX0_gained_13 rfl hl (by decide) rfl (fun ls hl => ?_)
    refine nwF_q568 hC hA hS ⟨(by show _ ≤ 3; omega), (by show _ ≤ 16; omega)⟩ dX0_gained_14 (fun q4 H hS hq_q4 => ?_)
    have hw := hw q4
    refine lv_dup hx hb dX0_gained_17 rfl ?_
    refine lv_iload_n hx hb dX0_gained_18 rfl (lv_at hl 2 rfl) ?_
    refine lv_aload_n hx hb dX0_gained_19 rfl (lv_at hl 0 rfl) ?_
    refine mkF_q581 hfl hC hA hS hq_q4 f_x3 hl.1 ⟨Nat.le_of_ble_eq_true rfl, Nat.le_of_ble_eq_true rfl⟩ (Nat.le_of_ble_eq_true rfl) ⟨(by show _ ≤ 3; omega), (by show _ ≤ 16; omega)⟩ dX0_gained_20 (fun vs H locs hS fx5 hkp hm9 => ?_)
    refine vx_athrow hx hb dX0_gained_23 ?_
    obtain ⟨ce9, g1, g2, g3⟩ := xUnt_cell hC hS fx5
    exact xOutT hC (by rw [htb]; decide) hw fx5 hm9 hS g1 g2 g3 (by omega) (by omega)
  · exact vx_ret (xRetV hC hS f_r1 hw (by omega) (by omega) dX0_gained_12)
abbrev v_X0_gained (X : XS) (p1 : Int32) (post : Vol → XS → Prop) (postX : Exu → XS → Prop) : Prop := w_X0_gained p1 post postX X
set_option maxHeartbeats 4000000 in
set_option maxRecDepth 100000 in
theorem met_X0_gained (l : Launch) (hfl : l.stackTraces = false) (D : va_G) (dT : Nat → ClassId) (a : Nat → Nat) (sz : Nat) (X : XS) (vs0 : XE) (p1 : Int32) (post : Vol → XS → Prop) (postX : Exu → XS → Prop) (hw : v_X0_gained X p1 post postX) : vx_Met l yX0_gained (wsW_ yX0_gained cX0_gained 3 (some (.object "LeastFrames$Volume")) [(0, 12, 13, 109)]) rmX0_gained (wPc D dT (XW dT a) (XI vs0) sz (X, vs0) [.ref (a 0), .int p1]) (va_Qr (fun u9 : (XS × XE) × Vol => post u9.2 u9.1.1) (fun u9 a9 t9 => a9 = u9.2.1 ∧ volC u9.2 ∈ u9.1.2 ∧ wB D (XW dT a) (XI vs0) (va_A ((XW dT a) (X, vs0)) sz) u9.1 t9) (va_A ((XW dT a) (X, vs0)) sz)) (XCT D dT a vs0 postX (va_A ((XW dT a) (X, vs0)) sz)) 3 16 (va_A ((XW dT a) (X, vs0)) sz) :=
  xEntH (Q := fun A => (va_Qr (fun u9 : (XS × XE) × Vol => post u9.2 u9.1.1) (fun u9 a9 t9 => a9 = u9.2.1 ∧ volC u9.2 ∈ u9.1.2 ∧ wB D (XW dT a) (XI vs0) A u9.1 t9) A)) (XC := fun A => (XCT D dT a vs0 postX A)) (by decide) (Nat.le_of_ble_eq_true rfl) (fun p e s m below meth c A ls hC htb hA hS hl => k_X0_gained_0 hC hA hfl htb _ hS hl ⟨by omega, by omega⟩ hw) sz
theorem hd_X0_gained : yX0_gained.cls ≠ "java/lang/invoke/MethodHandle" ∧ yX0_gained.cls ≠ "java/lang/invoke/VarHandle" ∧ (parseMethodDescriptor yX0_gained.desc).map (fun d => d.parameters.length) = some 1 := by decide +kernel
section
variable {p : Program} {l : Launch} {e : Env} {R : Room} {s : State} {m : MethodId} {args : Array Value} {below : List Frame} {meth : Method} {c : Code} {H : Heap} {locs : List Loc} {cells slots : Nat} {Q : State → Prop} {cc : ByteArray} {nL : Nat} {ret : Option FieldType} {pc : Nat} {ls : Array Slot} {rest : List Value}
set_option maxHeartbeats 4000000 in
set_option maxRecDepth 100000 in
theorem inv_q639 {D : va_G} {dT : Nat → ClassId} {a : Nat → Nat} {A : Nat → Prop} {vs0 : XE} {vs : XE} {X : XS} {p1 : Int32} {post : Vol → XS → Prop} {postX : Exu → XS → Prop} (hC : wCx RX0 cc nL ret D dT p s m args meth c) (hA : wAz A s) (hfl : l.stackTraces = false) (hS : StX D dT a A s vs0 X vs H locs) (hl : ls.size = nL) (hw : v_X0_gained X p1 post postX) (hR : rmX0_gained.frames + 1 ≤ R.frames ∧ 8 + (3 + 11) + rmX0_gained.locals ≤ R.locals) (hrest : (rest.map fun v => v.category).sum ≤ 8) (hf : cells + 3 ≤ R.cells ∧ slots + 16 ≤ R.slots) (hdg : decode cc pc = .ok (.invokevirtual 254, 3)) (kx : ∀ (x : Exu) (X1 : XS) (vs1 : XE) (H1 : Heap) (locs1 : List Loc), postX x X1 → (∀ v ∈ vs, v ∈ vs1) → StX D dT a A s vs0 X1 vs1 H1 locs1 → isUnt x vs1 → FM H1 x.1 → vx_W p l e R s m args below meth c H1 locs1 (cells + 3) (slots + 16) Q (F0 m pc ls rest) x.1) (kk : ∀ (r : Vol) (X1 : XS) (vs1 : XE) (H1 : Heap) (locs1 : List Loc), post r X1 → (∀ v ∈ vs, v ∈ vs1) → StX D dT a A s vs0 X1 vs1 H1 locs1 → volC r ∈ vs1 → W p l e R s m args below meth c H1 locs1 (cells + 3) (slots + 16) Q (F0 m (pc + 3) ls (.ref r.1 :: rest))) : W p l e R s m args below meth c H locs cells slots Q (F0 m pc ls (.int p1 :: .ref (a 0) :: rest)) := by
  exact xTr hA hS (xRunVX (As := [.int p1]) (rest := rest) (mc := 3) (ms := 16) 0 hC (met_X0_gained l hfl D dT a H.size X vs p1 post postX hw) (lw_VW q639 q641 qs31 q85 q642) ⟨⟨rfl, rfl⟩, hd_X0_gained, hR, hf⟩ XW_0 rfl rfl hA hS.self hl rfl hrest hdg) (fun x X1 vs1 H1 locs1 h1 h2 h3 h4 => kx x X1 vs1 H1 locs1 h1 h2 h3 h4.1 h4.2) kk
end
/-! LeastFrames_Volume.less -/
def w_X6_less (v : Vol) (w1 : Vol) (post : Vol → XS → Prop) (X : XS) : Prop :=
  ∀ q1 : Nat, (v_X6_init ((v.2.1 * w1.2.2) - (w1.2.1 * v.2.2)) (v.2.2 * w1.2.2) (fun r2 r3 => post (q1, r2, r3) X))
abbrev rmX6_less : Room := { frames := 4, cells := 1, slots := 2, locals := 98 }
set_option maxHeartbeats 4000000 in
set_option maxRecDepth 100000 in
theorem k_X6_less_0 {p : Program} {l : Launch} {e : Env} {s : State} {m : MethodId} {args : Array Value} {below : List Frame} {meth : Method} {c : Code} {D : va_G} {dT : Nat → ClassId} {a : Nat → Nat} {A : Nat → Prop} {vs0 : XE} {v : Vol} {w1 : Vol} {post : Vol → XS → Prop} (hC : wCx RX6 cX6_less 2 (some (.object "LeastFrames$Volume")) D dT p s m args meth c) (hA : wAz A s) (hfl : l.stackTraces = false) (X : XS) {vs : XE} {H : Heap} {locs : List Loc} {ls : Array Slot} {cells slots : Nat} (hv : volC v ∈ vs) (hw1 : volC w1 ∈ vs) (hS : StX D dT a A s vs0 X vs H locs) (hl : lv_has ls 2 [(0, .ref v.1), (1, .ref w1.1)]) (hc : cells + 1 ≤ 1 ∧ slots + 2 ≤ 2) (hw : w_X6_less v w1 post X) : W p l e rmX6_less s m args below meth c H locs cells slots (MQ below (va_Qr (fun u9 : (XS × XE) × Vol => post u9.2 u9.1.1) (fun u9 a9 t9 => a9 = u9.2.1 ∧ volC u9.2 ∈ u9.1.2 ∧ wB D (XW dT a) (XI vs0) A u9.1 t9) A) args s 1 2 A) (F0 m 0 ls []) := by
  have hx := hC.1
  have hb := hC.2.1
  have hown := hC.2.2.2.1
  have hts := hC.2.2.2.2.1
  unfold w_X6_less at hw
  obtain ⟨hc1, hc2⟩ := hc
  refine nw_new_q647 hC hA hS ⟨(by show _ ≤ 1; omega), (by show _ ≤ 2; omega)⟩ dX6_less_0 (fun q1 vs H hS hraw_q1 hv9 hf0_q1 hfL_q1 => ?_)
  have hw := hw q1
  have hv := hv9 _ hv
  have hw1 := hv9 _ hw1
  refine lv_dup hx hb dX6_less_3 rfl ?_
  refine lv_aload_n hx hb dX6_less_4 rfl (lv_at hl 0 rfl) ?_
  refine ld_q514 hC hS hv dX6_less_5 ?_
  refine lv_aload_n hx hb dX6_less_8 rfl (lv_at hl 1 rfl) ?_
  refine ld_q516 hC hS hw1 dX6_less_9 ?_
  refine lv_lmul hx hb dX6_less_12 ?_
  refine lv_aload_n hx hb dX6_less_13 rfl (lv_at hl 1 rfl) ?_
  refine ld_q514 hC hS hw1 dX6_less_14 ?_
  refine lv_aload_n hx hb dX6_less_17 rfl (lv_at hl 0 rfl) ?_
  refine ld_q516 hC hS hv dX6_less_18 ?_
  refine lv_lmul hx hb dX6_less_21 ?_
  refine lv_lsub hx hb dX6_less_22 ?_
  refine lv_aload_n hx hb dX6_less_23 rfl (lv_at hl 0 rfl) ?_
  refine ld_q516 hC hS hv dX6_less_24 ?_
  refine lv_aload_n hx hb dX6_less_27 rfl (lv_at hl 1 rfl) ?_
  refine ld_q516 hC hS hw1 dX6_less_28 ?_
  refine lv_lmul hx hb dX6_less_31 ?_
  refine mk_q648 hC hA hS hraw_q1 hfL_q1 hf0_q1 hl.1 hw ⟨Nat.le_of_ble_eq_true rfl, Nat.le_of_ble_eq_true rfl⟩ (Nat.le_of_ble_eq_true rfl) ⟨(by show _ ≤ 1; omega), (by show _ ≤ 2; omega)⟩ dX6_less_32 (fun r2 r3 vs H locs hw hS fv4 hkp => ?_)
  exact xRetV hC hS fv4 hw (by omega) (by omega) dX6_less_35
abbrev v_X6_less (X : XS) (v : Vol) (w1 : Vol) (post : Vol → XS → Prop) : Prop := w_X6_less v w1 post X
set_option maxHeartbeats 4000000 in
set_option maxRecDepth 100000 in
theorem met_X6_less (l : Launch) (hfl : l.stackTraces = false) (D : va_G) (dT : Nat → ClassId) (a : Nat → Nat) (sz : Nat) (X : XS) (vs0 : XE) (v : Vol) (w1 : Vol) (hv : volC v ∈ vs0) (hw1 : volC w1 ∈ vs0) (post : Vol → XS → Prop) (hw : v_X6_less X v w1 post) : Met l yX6_less (ws_ yX6_less cX6_less 2 (some (.object "LeastFrames$Volume"))) rmX6_less (wPc D dT (XW dT a) (XI vs0) sz (X, vs0) [.ref v.1, .ref w1.1]) (va_Qr (fun u9 : (XS × XE) × Vol => post u9.2 u9.1.1) (fun u9 a9 t9 => a9 = u9.2.1 ∧ volC u9.2 ∈ u9.1.2 ∧ wB D (XW dT a) (XI vs0) (va_A ((XW dT a) (X, vs0)) sz) u9.1 t9) (va_A ((XW dT a) (X, vs0)) sz)) 1 2 (va_A ((XW dT a) (X, vs0)) sz) :=
  wEnt (Q := fun A => (va_Qr (fun u9 : (XS × XE) × Vol => post u9.2 u9.1.1) (fun u9 a9 t9 => a9 = u9.2.1 ∧ volC u9.2 ∈ u9.1.2 ∧ wB D (XW dT a) (XI vs0) A u9.1 t9) A)) (by decide) (Nat.le_of_ble_eq_true rfl) (fun p e s m below meth c A ls hC _ hA hS hl => k_X6_less_0 hC hA hfl _ hv hw1 hS hl ⟨by omega, by omega⟩ hw) sz
theorem hd_X6_less : yX6_less.cls ≠ "java/lang/invoke/MethodHandle" ∧ yX6_less.cls ≠ "java/lang/invoke/VarHandle" ∧ (parseMethodDescriptor yX6_less.desc).map (fun d => d.parameters.length) = some 1 := by decide +kernel
section
variable {p : Program} {l : Launch} {e : Env} {R : Room} {s : State} {m : MethodId} {args : Array Value} {below : List Frame} {meth : Method} {c : Code} {H : Heap} {locs : List Loc} {cells slots : Nat} {Q : State → Prop} {cc : ByteArray} {nL : Nat} {ret : Option FieldType} {pc : Nat} {ls : Array Slot} {rest : List Value}
set_option maxHeartbeats 4000000 in
set_option maxRecDepth 100000 in
theorem inv_q643 {D : va_G} {dT : Nat → ClassId} {a : Nat → Nat} {A : Nat → Prop} {vs0 : XE} {vs : XE} {X : XS} {v : Vol} {w1 : Vol} {post : Vol → XS → Prop} (hC : wCx RX0 cc nL ret D dT p s m args meth c) (hA : wAz A s) (hfl : l.stackTraces = false) (hS : StX D dT a A s vs0 X vs H locs) (hv : volC v ∈ vs) (hw1 : volC w1 ∈ vs) (hl : ls.size = nL) (hw : v_X6_less X v w1 post) (hR : rmX6_less.frames + 1 ≤ R.frames ∧ 8 + (2 + 11) + rmX6_less.locals ≤ R.locals) (hrest : (rest.map fun v => v.category).sum ≤ 8) (hf : cells + 1 ≤ R.cells ∧ slots + 2 ≤ R.slots) (hdg : decode cc pc = .ok (.invokevirtual 257, 3))  (kk : ∀ (r : Vol) (X1 : XS) (vs1 : XE) (H1 : Heap) (locs1 : List Loc), post r X1 → (∀ v ∈ vs, v ∈ vs1) → StX D dT a A s vs0 X1 vs1 H1 locs1 → volC r ∈ vs1 → W p l e R s m args below meth c H1 locs1 (cells + 1) (slots + 2) Q (F0 m (pc + 3) ls (.ref r.1 :: rest))) : W p l e R s m args below meth c H locs cells slots Q (F0 m pc ls (.ref w1.1 :: .ref v.1 :: rest)) := by
  obtain ⟨k9, hk9⟩ := XW_vol (dT := dT) (a := a) (u := (X, vs)) hv
  exact xNr hA hS (wRunV (As := [.ref w1.1]) (rest := rest) (mc := 1) (ms := 2) k9 hC (met_X6_less l hfl D dT a H.size X vs v w1 hv hw1 post hw) (lw_V q643 q644 q645 q94 q646) ⟨⟨rfl, rfl⟩, hd_X6_less, hR, hf⟩ hk9 rfl rfl hA hS.self hl rfl hrest hdg) kk
end
/-! LeastFrames.gainBy -/
def w_X0_gainBy_23 (p1 : Int32) (p2 : Int32) (post : Int64 → XS → Prop) (X : XS) (y0 : Nat) : Prop :=
  v_X0_no ((-3) : Int32) (fun r1 => post r1 X)
def w_X0_gainBy (p1 : Int32) (p2 : Int32) (post : Int64 → XS → Prop) (X : XS) : Prop :=
  v_X0_volumeOf X (X_bars X) (fun r1 X2 => v_X0_gained X2 p1 (fun r4 X5 => v_X6_less X5 r1 r4 (fun r7 X8 => v_X6_tells X8 r7 p2 (fun r9 => post r9 X8))) (fun x6 X5 => w_X0_gainBy_23 p1 p2 post X5 x6.1)) (fun x3 X2 => w_X0_gainBy_23 p1 p2 post X2 x3.1)
abbrev rmX0_gainBy : Room := { frames := 10, cells := 6, slots := 27, locals := 230 }
set_option maxHeartbeats 4000000 in
set_option maxRecDepth 100000 in
theorem k_X0_gainBy_23 {p : Program} {l : Launch} {e : Env} {s : State} {m : MethodId} {args : Array Value} {below : List Frame} {meth : Method} {c : Code} {D : va_G} {dT : Nat → ClassId} {a : Nat → Nat} {A : Nat → Prop} {vs0 : XE} {p1 : Int32} {p2 : Int32} {post : Int64 → XS → Prop} (hC : wCx RX0 cX0_gainBy 4 (some .long) D dT p s m args meth c) (hA : wAz A s) (hfl : l.stackTraces = false) (htb : c.exceptionTable.toList = tableOf [(0, 22, 23, 109), (0, 22, 23, 226)]) (X : XS) (y0 : Nat) {vs : XE} {H : Heap} {locs : List Loc} {ls : Array Slot} {cells slots : Nat} (hS : StX D dT a A s vs0 X vs H locs) (hl : lv_has ls 4 []) (hc : cells + 0 ≤ 6 ∧ slots + 0 ≤ 27) (hw : w_X0_gainBy_23 p1 p2 post X y0) : W p l e rmX0_gainBy s m args below meth c H locs cells slots (MQ below (va_Ql (fun r u9 => post r u9.1) (wB D (XW dT a) (XI vs0) A) A) args s 6 27 A) (F0 m 23 ls [.ref y0]) := by
  have hx := hC.1
  have hb := hC.2.1
  have hown := hC.2.2.2.1
  have hts := hC.2.2.2.2.1
  unfold w_X0_gainBy_23 at hw
  obtain ⟨hc1, hc2⟩ := hc
  refine lv_astore_n (lv' := [(3, .ref y0)]) hx hb dX0_gainBy_23 rfl hl (by decide) rfl (fun ls hl => ?_)
  refine lv_bipush (v := (-3)) hx hb dX0_gainBy_24 (by decide) ?_
  refine inv_q348 hC hS hl.1 hw ⟨Nat.le_of_ble_eq_true rfl, Nat.le_of_ble_eq_true rfl⟩ (Nat.le_of_ble_eq_true rfl) ⟨(by show _ ≤ 6; omega), (by show _ ≤ 27; omega)⟩ dX0_gainBy_26 (fun r1 H locs hw hS => ?_)
  exact wRetl hC hS hw (by omega) (by omega) dX0_gainBy_29
set_option maxHeartbeats 4000000 in
set_option maxRecDepth 100000 in
theorem k_X0_gainBy_0 {p : Program} {l : Launch} {e : Env} {s : State} {m : MethodId} {args : Array Value} {below : List Frame} {meth : Method} {c : Code} {D : va_G} {dT : Nat → ClassId} {a : Nat → Nat} {A : Nat → Prop} {vs0 : XE} {p1 : Int32} {p2 : Int32} {post : Int64 → XS → Prop} (hC : wCx RX0 cX0_gainBy 4 (some .long) D dT p s m args meth c) (hA : wAz A s) (hfl : l.stackTraces = false) (htb : c.exceptionTable.toList = tableOf [(0, 22, 23, 109), (0, 22, 23, 226)]) (X : XS) {vs : XE} {H : Heap} {locs : List Loc} {ls : Array Slot} {cells slots : Nat} (hS : StX D dT a A s vs0 X vs H locs) (hl : lv_has ls 4 [(0, .ref (a 0)), (1, .int p1), (2, .int p2)]) (hc : cells + 6 ≤ 6 ∧ slots + 27 ≤ 27) (hw : w_X0_gainBy p1 p2 post X) : W p l e rmX0_gainBy s m args below meth c H locs cells slots (MQ below (va_Ql (fun r u9 => post r u9.1) (wB D (XW dT a) (XI vs0) A) A) args s 6 27 A) (F0 m 0 ls []) := by
  have hx := hC.1
  have hb := hC.2.1
  have hown := hC.2.2.2.1
  have hts := hC.2.2.2.2.1
  unfold w_X0_gainBy at hw
  obtain ⟨hc1, hc2⟩ := hc
  refine lv_aload_n hx hb dX0_gainBy_0 rfl (lv_at hl 0 rfl) ?_
  refine lv_aload_n hx hb dX0_gainBy_1 rfl (lv_at hl 0 rfl) ?_
  refine ld_q197 hC hS dX0_gainBy_2 ?_
  refine inv_q361 hC hA hfl hS hl.1 hw ⟨Nat.le_of_ble_eq_true rfl, Nat.le_of_ble_eq_true rfl⟩ (Nat.le_of_ble_eq_true rfl) ⟨(by show _ ≤ 6; omega), (by show _ ≤ 27; omega)⟩ dX0_gainBy_5 (fun x3 X2 vs H locs hw hv9 hS f_x3 => ?_) (fun r1 X2 vs H locs hw hv9 hS f_r1 => ?_)
  · obtain ⟨ce9, g1, g2, g3⟩ := xUnb_cell hC hS f_x3
    refine vx_catch (name := "LeastFrames$Unborne") (E := "LeastFrames$Unborne") hown [] ⟨0, 22, 23, 109⟩ [⟨0, 22, 23, 226⟩] (by rw [htb]; rfl) (fun z hz => absurd hz List.not_mem_nil) (by decide) (by decide) (hts _ q356) (va_Nw.use rfl (hC.2.2.2.2.2.2.2.2.1 _ nw_q397)) g1 g2 g3 ?_
    exact k_X0_gainBy_23 hC hA hfl htb _ _ hS (lv_sub hl [] rfl) ⟨by omega, by omega⟩ hw
  · refine lv_astore_n (lv' := [(3, .ref r1.1), (0, .ref (a 0)), (1, .int p1), (2, .int p2)]) hx hb dX0_gainBy_8 rfl hl (by decide) rfl (fun ls hl => ?_)
    refine lv_aload_n hx hb dX0_gainBy_9 rfl (lv_at hl 0 rfl) ?_
    refine lv_aload_n hx hb dX0_gainBy_10 rfl (lv_at hl 1 rfl) ?_
    refine lv_iload_n hx hb dX0_gainBy_11 rfl (lv_at hl 2 rfl) ?_
    refine inv_q639 hC hA hfl hS hl.1 hw ⟨Nat.le_of_ble_eq_true rfl, Nat.le_of_ble_eq_true rfl⟩ (Nat.le_of_ble_eq_true rfl) ⟨(by show _ ≤ 6; omega), (by show _ ≤ 27; omega)⟩ dX0_gainBy_12 (fun x6 X5 vs H locs hw hv9 hS f_x6 m_x6 => ?_) (fun r4 X5 vs H locs hw hv9 hS f_r4 => ?_)
    · have f_r1 := hv9 _ f_r1
      obtain ⟨ce9, g1, g2, g3⟩ := xUnt_cell hC hS f_x6
      refine vx_catch (name := "LeastFrames$Untried") (E := "LeastFrames$Untried") hown [⟨0, 22, 23, 109⟩] ⟨0, 22, 23, 226⟩ [] (by rw [htb]; rfl) (fun z hz => by cases List.mem_singleton.mp hz; exact Or.inr ⟨by decide, _, hts _ q356, hC.2.2.2.2.2.2.2.2.2.2.2 _ nc_2⟩) (by decide) (by decide) (hts _ q568) (va_Nw.use rfl (hC.2.2.2.2.2.2.2.2.1 _ nw_q574)) g1 g2 g3 ?_
      exact k_X0_gainBy_23 hC hA hfl htb _ _ hS (lv_sub hl [] rfl) ⟨by omega, by omega⟩ hw
    · have f_r1 := hv9 _ f_r1
      refine inv_q643 hC hA hfl hS f_r1 f_r4 hl.1 hw ⟨Nat.le_of_ble_eq_true rfl, Nat.le_of_ble_eq_true rfl⟩ (Nat.le_of_ble_eq_true rfl) ⟨(by show _ ≤ 6; omega), (by show _ ≤ 27; omega)⟩ dX0_gainBy_15 (fun r7 X8 vs H locs hw hv9 hS f_r7 => ?_)
      have f_r1 := hv9 _ f_r1
      refine lv_iload_n hx hb dX0_gainBy_18 rfl (lv_at hl 3 rfl) ?_
      refine inv_q535 hC hA hS f_r7 hl.1 hw ⟨Nat.le_of_ble_eq_true rfl, Nat.le_of_ble_eq_true rfl⟩ (Nat.le_of_ble_eq_true rfl) ⟨(by show _ ≤ 6; omega), (by show _ ≤ 27; omega)⟩ dX0_gainBy_19 (fun r9 H locs hw hS => ?_)
      exact wRetl hC hS hw (by omega) (by omega) dX0_gainBy_22
abbrev v_X0_gainBy (X : XS) (p1 : Int32) (p2 : Int32) (post : Int64 → XS → Prop) : Prop := w_X0_gainBy p1 p2 post X
set_option maxHeartbeats 4000000 in
set_option maxRecDepth 100000 in
theorem met_X0_gainBy (l : Launch) (hfl : l.stackTraces = false) (D : va_G) (dT : Nat → ClassId) (a : Nat → Nat) (sz : Nat) (X : XS) (vs0 : XE) (p1 : Int32) (p2 : Int32) (post : Int64 → XS → Prop) (hw : v_X0_gainBy X p1 p2 post) : Met l yX0_gainBy (wsW_ yX0_gainBy cX0_gainBy 4 (some .long) [(0, 22, 23, 109), (0, 22, 23, 226)]) rmX0_gainBy (wPc D dT (XW dT a) (XI vs0) sz (X, vs0) [.ref (a 0), .int p1, .int p2]) (va_Ql (fun r u9 => post r u9.1) (wB D (XW dT a) (XI vs0) (va_A ((XW dT a) (X, vs0)) sz)) (va_A ((XW dT a) (X, vs0)) sz)) 6 27 (va_A ((XW dT a) (X, vs0)) sz) :=
  wEntH (Q := fun A => (va_Ql (fun r u9 => post r u9.1) (wB D (XW dT a) (XI vs0) A) A)) (by decide) (Nat.le_of_ble_eq_true rfl) (fun p e s m below meth c A ls hC htb hA hS hl => k_X0_gainBy_0 hC hA hfl htb _ hS hl ⟨by omega, by omega⟩ hw) sz
theorem hd_X0_gainBy : yX0_gainBy.cls ≠ "java/lang/invoke/MethodHandle" ∧ yX0_gainBy.cls ≠ "java/lang/invoke/VarHandle" ∧ (parseMethodDescriptor yX0_gainBy.desc).map (fun d => d.parameters.length) = some 2 := by decide +kernel
section
variable {p : Program} {l : Launch} {e : Env} {R : Room} {s : State} {m : MethodId} {args : Array Value} {below : List Frame} {meth : Method} {c : Code} {H : Heap} {locs : List Loc} {cells slots : Nat} {Q : State → Prop} {cc : ByteArray} {nL : Nat} {ret : Option FieldType} {pc : Nat} {ls : Array Slot} {rest : List Value}
set_option maxHeartbeats 4000000 in
set_option maxRecDepth 100000 in
theorem inv_q635 {D : va_G} {dT : Nat → ClassId} {a : Nat → Nat} {A : Nat → Prop} {vs0 : XE} {vs : XE} {X : XS} {p1 : Int32} {p2 : Int32} {post : Int64 → XS → Prop} (hC : wCx RX0 cc nL ret D dT p s m args meth c) (hA : wAz A s) (hfl : l.stackTraces = false) (hS : StX D dT a A s vs0 X vs H locs) (hl : ls.size = nL) (hw : v_X0_gainBy X p1 p2 post) (hR : rmX0_gainBy.frames + 1 ≤ R.frames ∧ 8 + (4 + 11) + rmX0_gainBy.locals ≤ R.locals) (hrest : (rest.map fun v => v.category).sum ≤ 8) (hf : cells + 6 ≤ R.cells ∧ slots + 27 ≤ R.slots) (hdg : decode cc pc = .ok (.invokevirtual 261, 3))  (kk : ∀ (r : Int64) (X1 : XS) (vs1 : XE) (H1 : Heap) (locs1 : List Loc), post r X1 → (∀ v ∈ vs, v ∈ vs1) → StX D dT a A s vs0 X1 vs1 H1 locs1 → W p l e R s m args below meth c H1 locs1 (cells + 6) (slots + 27) Q (F0 m (pc + 3) ls (.long r :: rest))) : W p l e R s m args below meth c H locs cells slots Q (F0 m pc ls (.int p2 :: .int p1 :: .ref (a 0) :: rest)) := by
  exact xNl hA hS (wRunVW (As := [.int p1, .int p2]) (rest := rest) (mc := 6) (ms := 27) 0 hC (met_X0_gainBy l hfl D dT a H.size X vs p1 p2 post hw) (lw_VW q635 q637 qs30 q85 q638) ⟨⟨rfl, rfl⟩, hd_X0_gainBy, hR, hf⟩ XW_0 rfl rfl hA hS.self hl rfl hrest hdg) kk
end
/-! LeastFrames.gain -/
def w_X0_gain (p1 : Int32) (p2 : Int32) (post : Int64 → XS → Prop) (X : XS) : Prop :=
  v_X0_isPair X p1 (fun r1 => (r1 = (0 : Int32) → (v_X0_no ((-2) : Int32) (fun r3 => post r3 X))) ∧ (¬ r1 = (0 : Int32) → (v_X0_isIn (X_bars X) p1 (fun r4 => (r4 = (0 : Int32) → (v_X0_isTwo p2 (fun r7 => (r7 = (0 : Int32) → (v_X0_no ((-2) : Int32) (fun r9 => post r9 X))) ∧ (¬ r7 = (0 : Int32) → (v_X0_gainBy X p1 p2 (fun r10 X11 => post r10 X11)))))) ∧ (¬ r4 = (0 : Int32) → (v_X0_no ((-2) : Int32) (fun r6 => post r6 X)))))))
abbrev rmX0_gain : Room := { frames := 11, cells := 6, slots := 27, locals := 253 }
set_option maxHeartbeats 4000000 in
set_option maxRecDepth 100000 in
theorem k_X0_gain_0 {p : Program} {l : Launch} {e : Env} {s : State} {m : MethodId} {args : Array Value} {below : List Frame} {meth : Method} {c : Code} {D : va_G} {dT : Nat → ClassId} {a : Nat → Nat} {A : Nat → Prop} {vs0 : XE} {p1 : Int32} {p2 : Int32} {post : Int64 → XS → Prop} (hC : wCx RX0 cX0_gain 3 (some .long) D dT p s m args meth c) (hA : wAz A s) (hfl : l.stackTraces = false) (X : XS) {vs : XE} {H : Heap} {locs : List Loc} {ls : Array Slot} {cells slots : Nat} (hS : StX D dT a A s vs0 X vs H locs) (hl : lv_has ls 3 [(0, .ref (a 0)), (1, .int p1), (2, .int p2)]) (hc : cells + 6 ≤ 6 ∧ slots + 27 ≤ 27) (hw : w_X0_gain p1 p2 post X) : W p l e rmX0_gain s m args below meth c H locs cells slots (MQ below (va_Ql (fun r u9 => post r u9.1) (wB D (XW dT a) (XI vs0) A) A) args s 6 27 A) (F0 m 0 ls []) := by
  have hx := hC.1
  have hb := hC.2.1
  have hown := hC.2.2.2.1
  have hts := hC.2.2.2.2.1
  unfold w_X0_gain at hw
  obtain ⟨hc1, hc2⟩ := hc
  refine lv_aload_n hx hb dX0_gain_0 rfl (lv_at hl 0 rfl) ?_
  refine lv_iload_n hx hb dX0_gain_1 rfl (lv_at hl 1 rfl) ?_
  refine inv_q277 hC hA hS hl.1 hw ⟨Nat.le_of_ble_eq_true rfl, Nat.le_of_ble_eq_true rfl⟩ (Nat.le_of_ble_eq_true rfl) ⟨(by show _ ≤ 6; omega), (by show _ ≤ 27; omega)⟩ dX0_gain_2 (fun r1 H locs hw hS => ?_)
  refine lv_if_eq (tgt := 35) hx hb dX0_gain_5 (by decide) (fun c2 => ?_) (fun c2 => ?_)
  · have hw := hw.1 c2
    refine lv_bipush (v := (-2)) hx hb dX0_gain_35 (by decide) ?_
    refine inv_q348 hC hS hl.1 hw ⟨Nat.le_of_ble_eq_true rfl, Nat.le_of_ble_eq_true rfl⟩ (Nat.le_of_ble_eq_true rfl) ⟨(by show _ ≤ 6; omega), (by show _ ≤ 27; omega)⟩ dX0_gain_37 (fun r3 H locs hw hS => ?_)
    exact wRetl hC hS hw (by omega) (by omega) dX0_gain_40
  · have hw := hw.2 c2
    refine lv_aload_n hx hb dX0_gain_8 rfl (lv_at hl 0 rfl) ?_
    refine ld_q197 hC hS dX0_gain_9 ?_
    refine lv_iload_n hx hb dX0_gain_12 rfl (lv_at hl 1 rfl) ?_
    refine inv_q341 hC hS hl.1 hw ⟨Nat.le_of_ble_eq_true rfl, Nat.le_of_ble_eq_true rfl⟩ (Nat.le_of_ble_eq_true rfl) ⟨(by show _ ≤ 6; omega), (by show _ ≤ 27; omega)⟩ dX0_gain_13 (fun r4 H locs hw hS => ?_)
    refine lv_if_ne (tgt := 35) hx hb dX0_gain_16 (by decide) (fun c5 => ?_) (fun c5 => ?_)
    · have hw := hw.2 c5
      refine lv_bipush (v := (-2)) hx hb dX0_gain_35 (by decide) ?_
      refine inv_q348 hC hS hl.1 hw ⟨Nat.le_of_ble_eq_true rfl, Nat.le_of_ble_eq_true rfl⟩ (Nat.le_of_ble_eq_true rfl) ⟨(by show _ ≤ 6; omega), (by show _ ≤ 27; omega)⟩ dX0_gain_37 (fun r6 H locs hw hS => ?_)
      exact wRetl hC hS hw (by omega) (by omega) dX0_gain_40
    · have hw := hw.1 c5
      refine lv_iload_n hx hb dX0_gain_19 rfl (lv_at hl 2 rfl) ?_
      refine inv_q267 hC hS hl.1 hw ⟨Nat.le_of_ble_eq_true rfl, Nat.le_of_ble_eq_true rfl⟩ (Nat.le_of_ble_eq_true rfl) ⟨(by show _ ≤ 6; omega), (by show _ ≤ 27; omega)⟩ dX0_gain_20 (fun r7 H locs hw hS => ?_)
      refine lv_if_eq (tgt := 35) hx hb dX0_gain_23 (by decide) (fun c8 => ?_) (fun c8 => ?_)
      · have hw := hw.1 c8
        refine lv_bipush (v := (-2)) hx hb dX0_gain_35 (by decide) ?_
        refine inv_q348 hC hS hl.1 hw ⟨Nat.le_of_ble_eq_true rfl, Nat.le_of_ble_eq_true rfl⟩ (Nat.le_of_ble_eq_true rfl) ⟨(by show _ ≤ 6; omega), (by show _ ≤ 27; omega)⟩ dX0_gain_37 (fun r9 H locs hw hS => ?_)
        exact wRetl hC hS hw (by omega) (by omega) dX0_gain_40
      · have hw := hw.2 c8
        refine lv_aload_n hx hb dX0_gain_26 rfl (lv_at hl 0 rfl) ?_
        refine lv_iload_n hx hb dX0_gain_27 rfl (lv_at hl 1 rfl) ?_
        refine lv_iload_n hx hb dX0_gain_28 rfl (lv_at hl 2 rfl) ?_
        refine inv_q635 hC hA hfl hS hl.1 hw ⟨Nat.le_of_ble_eq_true rfl, Nat.le_of_ble_eq_true rfl⟩ (Nat.le_of_ble_eq_true rfl) ⟨(by show _ ≤ 6; omega), (by show _ ≤ 27; omega)⟩ dX0_gain_29 (fun r10 X11 vs H locs hw hv9 hS => ?_)
        refine lv_goto (tgt := 40) hx hb dX0_gain_32 (by decide) ?_
        exact wRetl hC hS hw (by omega) (by omega) dX0_gain_40
abbrev v_X0_gain (X : XS) (p1 : Int32) (p2 : Int32) (post : Int64 → XS → Prop) : Prop := w_X0_gain p1 p2 post X
set_option maxHeartbeats 4000000 in
set_option maxRecDepth 100000 in
theorem met_X0_gain (l : Launch) (hfl : l.stackTraces = false) (D : va_G) (dT : Nat → ClassId) (a : Nat → Nat) (sz : Nat) (X : XS) (vs0 : XE) (p1 : Int32) (p2 : Int32) (post : Int64 → XS → Prop) (hw : v_X0_gain X p1 p2 post) : Met l yX0_gain (ws_ yX0_gain cX0_gain 3 (some .long)) rmX0_gain (wPc D dT (XW dT a) (XI vs0) sz (X, vs0) [.ref (a 0), .int p1, .int p2]) (va_Ql (fun r u9 => post r u9.1) (wB D (XW dT a) (XI vs0) (va_A ((XW dT a) (X, vs0)) sz)) (va_A ((XW dT a) (X, vs0)) sz)) 6 27 (va_A ((XW dT a) (X, vs0)) sz) :=
  wEnt (Q := fun A => (va_Ql (fun r u9 => post r u9.1) (wB D (XW dT a) (XI vs0) A) A)) (by decide) (Nat.le_of_ble_eq_true rfl) (fun p e s m below meth c A ls hC _ hA hS hl => k_X0_gain_0 hC hA hfl _ hS hl ⟨by omega, by omega⟩ hw) sz
theorem hd_X0_gain : yX0_gain.cls ≠ "java/lang/invoke/MethodHandle" ∧ yX0_gain.cls ≠ "java/lang/invoke/VarHandle" ∧ (parseMethodDescriptor yX0_gain.desc).map (fun d => d.parameters.length) = some 2 := by decide +kernel
/-! LeastFrames.gainer -/
def w_X0_gainer_13b (K13 : XS → Int32 → Vol → Int32 → Prop) (post : Int32 → XS → Prop) (postX : Exn → XS → Prop) (X : XS) (x1 : Int32) (x2 : Vol) (x3 : Int32) : Prop :=
  v_X0_pairs X (fun r1 => (r1 ≤ x3 → (post x1 X)) ∧ (¬ r1 ≤ x3 → (v_X0_isIn (X_bars X) x3 (fun r3 => (r3 = (0 : Int32) → (v_X0_volumeOf X ((X_bars X) ||| (1 <<< (x3 &&& 31))) (fun r5 X6 => v_X6_isLess X6 r5 x2 (fun r8 => (r8 = (0 : Int32) → (∀ v10 : Int32, v10 = x3 + 1 → (K13 X6 x1 x2 v10))) ∧ (¬ r8 = (0 : Int32) → (∀ v11 : Int32, v11 = x3 + 1 → (K13 X6 x3 r5 v11))))) (fun x7 X6 => postX x7 X6))) ∧ (¬ r3 = (0 : Int32) → (∀ v12 : Int32, v12 = x3 + 1 → (K13 X x1 x2 v12)))))))
def w_X0_gainer_13 (post : Int32 → XS → Prop) (postX : Exn → XS → Prop) : Nat → XS → Int32 → Vol → Int32 → Prop
  | 0, _, _, _, _ => False
  | n + 1, X, x1, x2, x3 => w_X0_gainer_13b  (w_X0_gainer_13 post postX n) post postX X x1 x2 x3
def w_X0_gainer (post : Int32 → XS → Prop) (postX : Exn → XS → Prop) (X : XS) : Prop :=
  v_X0_volumeOf X (X_bars X) (fun r1 X2 => ∃ n, n ≤ 11 ∧ w_X0_gainer_13 post postX n X2 (-1) r1 0) (fun x3 X2 => postX x3 X2)
abbrev rmX0_gainer : Room := { frames := 9, cells := 24, slots := 108, locals := 208 }
set_option maxHeartbeats 4000000 in
set_option maxRecDepth 100000 in
theorem k_X0_gainer_13b {p : Program} {l : Launch} {e : Env} {s : State} {m : MethodId} {args : Array Value} {below : List Frame} {meth : Method} {c : Code} {D : va_G} {dT : Nat → ClassId} {a : Nat → Nat} {A : Nat → Prop} {vs0 : XE} {nK : Nat} {K13 : XS → Int32 → Vol → Int32 → Prop} {post : Int32 → XS → Prop} {postX : Exn → XS → Prop} (hC : wCx RX0 cX0_gainer 5 (some .int) D dT p s m args meth c) (hA : wAz A s) (hfl : l.stackTraces = false) (htb : ∀ z ∈ c.exceptionTable.toList, False) (hK13 : ∀ (X : XS) (x1 : Int32) (x2 : Vol) (x3 : Int32), K13 X x1 x2 x3 → ∀ {vs : XE} {H : Heap} {locs : List Loc} {ls : Array Slot} {cells slots : Nat}, volC x2 ∈ vs → StX D dT a A s vs0 X vs H locs → lv_has ls 5 [(0, .ref (a 0)), (1, .int x1), (2, .ref x2.1), (3, .int x3)] → cells + (nK * 2 + 0) ≤ 24 ∧ slots + (nK * 9 + 0) ≤ 108 → W p l e rmX0_gainer s m args below meth c H locs cells slots (vx_MQ below (va_Qi (fun r u9 => post r u9.1) (wB D (XW dT a) (XI vs0) A) A) (XCU D dT a vs0 postX A) args s 24 108 A) (F0 m 13 ls [])) (X : XS) (x1 : Int32) (x2 : Vol) (x3 : Int32) {vs : XE} {H : Heap} {locs : List Loc} {ls : Array Slot} {cells slots : Nat} (f_x2 : volC x2 ∈ vs) (hS : StX D dT a A s vs0 X vs H locs) (hl : lv_has ls 5 [(0, .ref (a 0)), (1, .int x1), (2, .ref x2.1), (3, .int x3)]) (hc : cells + (2 + (nK * 2 + 0)) ≤ 24 ∧ slots + (9 + (nK * 9 + 0)) ≤ 108) (hw : w_X0_gainer_13b K13 post postX X x1 x2 x3) : W p l e rmX0_gainer s m args below meth c H locs cells slots (vx_MQ below (va_Qi (fun r u9 => post r u9.1) (wB D (XW dT a) (XI vs0) A) A) (XCU D dT a vs0 postX A) args s 24 108 A) (F0 m 13 ls []) := by
  have hx := hC.1
  have hb := hC.2.1
  have hown := hC.2.2.2.1
  have hts := hC.2.2.2.2.1
  unfold w_X0_gainer_13b at hw
  obtain ⟨hc1, hc2⟩ := hc
  refine lv_iload_n hx hb dX0_gainer_13 rfl (lv_at hl 3 rfl) ?_
  refine lv_aload_n hx hb dX0_gainer_14 rfl (lv_at hl 0 rfl) ?_
  refine inv_q250 hC hA hS hl.1 hw ⟨Nat.le_of_ble_eq_true rfl, Nat.le_of_ble_eq_true rfl⟩ (Nat.le_of_ble_eq_true rfl) ⟨(by show _ ≤ 24; omega), (by show _ ≤ 108; omega)⟩ dX0_gainer_15 (fun r1 H locs hw hS => ?_)
  refine lv_icmp_ge (tgt := 69) hx hb dX0_gainer_18 (by decide) (fun c2 => ?_) (fun c2 => ?_)
  · have hw := hw.1 c2
    refine lv_iload_n hx hb dX0_gainer_69 rfl (lv_at hl 1 rfl) ?_
    exact vx_ret (wReti hC hS hw (by omega) (by omega) dX0_gainer_70)
  · have hw := hw.2 c2
    refine lv_aload_n hx hb dX0_gainer_21 rfl (lv_at hl 0 rfl) ?_
    refine ld_q197 hC hS dX0_gainer_22 ?_
    refine lv_iload_n hx hb dX0_gainer_25 rfl (lv_at hl 3 rfl) ?_
    refine inv_q341 hC hS hl.1 hw ⟨Nat.le_of_ble_eq_true rfl, Nat.le_of_ble_eq_true rfl⟩ (Nat.le_of_ble_eq_true rfl) ⟨(by show _ ≤ 24; omega), (by show _ ≤ 108; omega)⟩ dX0_gainer_26 (fun r3 H locs hw hS => ?_)
    refine lv_if_eq (tgt := 35) hx hb dX0_gainer_29 (by decide) (fun c4 => ?_) (fun c4 => ?_)
    · have hw := hw.1 c4
      refine lv_aload_n hx hb dX0_gainer_35 rfl (lv_at hl 0 rfl) ?_
      refine lv_aload_n hx hb dX0_gainer_36 rfl (lv_at hl 0 rfl) ?_
      refine ld_q197 hC hS dX0_gainer_37 ?_
      refine lv_iconst (v := 1) hx hb dX0_gainer_40 (by decide) ?_
      refine lv_iload_n hx hb dX0_gainer_41 rfl (lv_at hl 3 rfl) ?_
      refine lv_ishl hx hb dX0_gainer_42 ?_
      refine lv_ior hx hb dX0_gainer_43 ?_
      refine inv_q361 hC hA hfl hS hl.1 hw ⟨Nat.le_of_ble_eq_true rfl, Nat.le_of_ble_eq_true rfl⟩ (Nat.le_of_ble_eq_true rfl) ⟨(by show _ ≤ 24; omega), (by show _ ≤ 108; omega)⟩ dX0_gainer_44 (fun x7 X6 vs H locs hw hv9 hS f_x7 => ?_) (fun r5 X6 vs H locs hw hv9 hS f_r5 => ?_)
      · have f_x2 := hv9 _ f_x2
        obtain ⟨ce9, g1, g2, g3⟩ := xUnb_cell hC hS f_x7
        exact xOutU hC (fun z hz => (htb z hz).elim) hw f_x7 hS g1 g2 g3 (by omega) (by omega)
      · have f_x2 := hv9 _ f_x2
        refine lv_astore (lv' := [(4, .ref r5.1), (0, .ref (a 0)), (1, .int x1), (2, .ref x2.1), (3, .int x3)]) hx hb dX0_gainer_47 hl (by decide) rfl (fun ls hl => ?_)
        refine lv_aload hx hb dX0_gainer_49 (lv_at hl 0 rfl) ?_
        refine lv_aload_n hx hb dX0_gainer_51 rfl (lv_at hl 3 rfl) ?_
        refine inv_q527 hC hA hS f_r5 f_x2 hl.1 hw ⟨Nat.le_of_ble_eq_true rfl, Nat.le_of_ble_eq_true rfl⟩ (Nat.le_of_ble_eq_true rfl) ⟨(by show _ ≤ 24; omega), (by show _ ≤ 108; omega)⟩ dX0_gainer_52 (fun r8 H locs hw hS => ?_)
        refine lv_if_eq (tgt := 63) hx hb dX0_gainer_55 (by decide) (fun c9 => ?_) (fun c9 => ?_)
        · have hw := hw.1 c9
          obtain ⟨v10, ev10⟩ : ∃ y : Int32, y = x3 + 1 := ⟨_, rfl⟩
          have hw := hw v10 ev10
          refine lv_iinc (v := v10) (lv' := [(3, .int v10), (4, .ref r5.1), (0, .ref (a 0)), (1, .int x1), (2, .ref x2.1)]) hx hb dX0_gainer_63 hl (k := 4) rfl (by rw [ev10]; rfl) (by decide) rfl (fun ls hl => ?_)
          refine lv_goto (tgt := 13) hx hb dX0_gainer_66 (by decide) ?_
          exact hK13 _ _ _ _ hw f_x2 hS (lv_sub hl [2, 3, 4, 0] rfl) ⟨by omega, by omega⟩
        · have hw := hw.2 c9
          refine lv_aload hx hb dX0_gainer_58 (lv_at hl 0 rfl) ?_
          refine lv_astore_n (lv' := [(2, .ref r5.1), (4, .ref r5.1), (0, .ref (a 0)), (1, .int x1), (3, .int x3)]) hx hb dX0_gainer_60 rfl hl (by decide) rfl (fun ls hl => ?_)
          refine lv_iload_n hx hb dX0_gainer_61 rfl (lv_at hl 4 rfl) ?_
          refine lv_istore_n (lv' := [(1, .int x3), (2, .ref r5.1), (4, .ref r5.1), (0, .ref (a 0)), (3, .int x3)]) hx hb dX0_gainer_62 rfl hl (by decide) rfl (fun ls hl => ?_)
          obtain ⟨v11, ev11⟩ : ∃ y : Int32, y = x3 + 1 := ⟨_, rfl⟩
          have hw := hw v11 ev11
          refine lv_iinc (v := v11) (lv' := [(3, .int v11), (1, .int x3), (2, .ref r5.1), (4, .ref r5.1), (0, .ref (a 0))]) hx hb dX0_gainer_63 hl (k := 4) rfl (by rw [ev11]; rfl) (by decide) rfl (fun ls hl => ?_)
          refine lv_goto (tgt := 13) hx hb dX0_gainer_66 (by decide) ?_
          exact hK13 _ _ _ _ hw f_r5 hS (lv_sub hl [4, 1, 2, 0] rfl) ⟨by omega, by omega⟩
    · have hw := hw.2 c4
      refine lv_goto (tgt := 63) hx hb dX0_gainer_32 (by decide) ?_
      obtain ⟨v12, ev12⟩ : ∃ y : Int32, y = x3 + 1 := ⟨_, rfl⟩
      have hw := hw v12 ev12
      refine lv_iinc (v := v12) (lv' := [(3, .int v12), (0, .ref (a 0)), (1, .int x1), (2, .ref x2.1)]) hx hb dX0_gainer_63 hl (k := 3) rfl (by rw [ev12]; rfl) (by decide) rfl (fun ls hl => ?_)
      refine lv_goto (tgt := 13) hx hb dX0_gainer_66 (by decide) ?_
      exact hK13 _ _ _ _ hw f_x2 hS (lv_sub hl [1, 2, 3, 0] rfl) ⟨by omega, by omega⟩
set_option maxHeartbeats 4000000 in
set_option maxRecDepth 100000 in
theorem k_X0_gainer_13 {p : Program} {l : Launch} {e : Env} {s : State} {m : MethodId} {args : Array Value} {below : List Frame} {meth : Method} {c : Code} {D : va_G} {dT : Nat → ClassId} {a : Nat → Nat} {A : Nat → Prop} {vs0 : XE} {post : Int32 → XS → Prop} {postX : Exn → XS → Prop} (hC : wCx RX0 cX0_gainer 5 (some .int) D dT p s m args meth c) (hA : wAz A s) (hfl : l.stackTraces = false) (htb : ∀ z ∈ c.exceptionTable.toList, False) : ∀ (X : XS) (x1 : Int32) (x2 : Vol) (x3 : Int32) (n : Nat), ∀ {vs : XE} {H : Heap} {locs : List Loc} {ls : Array Slot} {cells slots : Nat}, volC x2 ∈ vs → StX D dT a A s vs0 X vs H locs → lv_has ls 5 [(0, .ref (a 0)), (1, .int x1), (2, .ref x2.1), (3, .int x3)] → cells + (n * 2 + 0) ≤ 24 ∧ slots + (n * 9 + 0) ≤ 108 → w_X0_gainer_13 post postX n X x1 x2 x3 → W p l e rmX0_gainer s m args below meth c H locs cells slots (vx_MQ below (va_Qi (fun r u9 => post r u9.1) (wB D (XW dT a) (XI vs0) A) A) (XCU D dT a vs0 postX A) args s 24 108 A) (F0 m 13 ls []) := by
  intro X x1 x2 x3 n
  induction n generalizing X x1 x2 x3 with
  | zero => intro vs H locs ls cells slots f_x2 hS hl hc hw; exact hw.elim
  | succ n ih =>
    intro vs H locs ls cells slots f_x2 hS hl hc hw
    exact k_X0_gainer_13b hC hA hfl htb (fun X x1 x2 x3 hk {vs} {H} {locs} {ls} {cells} {slots} f_x2 hS hl hc => ih X x1 x2 x3 f_x2 hS hl hc hk) X x1 x2 x3 f_x2 hS hl ⟨by omega, by omega⟩ hw
set_option maxHeartbeats 4000000 in
set_option maxRecDepth 100000 in
theorem k_X0_gainer_0 {p : Program} {l : Launch} {e : Env} {s : State} {m : MethodId} {args : Array Value} {below : List Frame} {meth : Method} {c : Code} {D : va_G} {dT : Nat → ClassId} {a : Nat → Nat} {A : Nat → Prop} {vs0 : XE} {post : Int32 → XS → Prop} {postX : Exn → XS → Prop} (hC : wCx RX0 cX0_gainer 5 (some .int) D dT p s m args meth c) (hA : wAz A s) (hfl : l.stackTraces = false) (htb : ∀ z ∈ c.exceptionTable.toList, False) (X : XS) {vs : XE} {H : Heap} {locs : List Loc} {ls : Array Slot} {cells slots : Nat} (hS : StX D dT a A s vs0 X vs H locs) (hl : lv_has ls 5 [(0, .ref (a 0))]) (hc : cells + 24 ≤ 24 ∧ slots + 108 ≤ 108) (hw : w_X0_gainer post postX X) : W p l e rmX0_gainer s m args below meth c H locs cells slots (vx_MQ below (va_Qi (fun r u9 => post r u9.1) (wB D (XW dT a) (XI vs0) A) A) (XCU D dT a vs0 postX A) args s 24 108 A) (F0 m 0 ls []) := by
  have hx := hC.1
  have hb := hC.2.1
  have hown := hC.2.2.2.1
  have hts := hC.2.2.2.2.1
  unfold w_X0_gainer at hw
  obtain ⟨hc1, hc2⟩ := hc
  refine lv_iconst (v := (-1)) hx hb dX0_gainer_0 (by decide) ?_
  refine lv_istore_n (lv' := [(1, .int (-1)), (0, .ref (a 0))]) hx hb dX0_gainer_1 rfl hl (by decide) rfl (fun ls hl => ?_)
  refine lv_aload_n hx hb dX0_gainer_2 rfl (lv_at hl 1 rfl) ?_
  refine lv_aload_n hx hb dX0_gainer_3 rfl (lv_at hl 1 rfl) ?_
  refine ld_q197 hC hS dX0_gainer_4 ?_
  refine inv_q361 hC hA hfl hS hl.1 hw ⟨Nat.le_of_ble_eq_true rfl, Nat.le_of_ble_eq_true rfl⟩ (Nat.le_of_ble_eq_true rfl) ⟨(by show _ ≤ 24; omega), (by show _ ≤ 108; omega)⟩ dX0_gainer_7 (fun x3 X2 vs H locs hw hv9 hS f_x3 => ?_) (fun r1 X2 vs H locs hw hv9 hS f_r1 => ?_)
  · obtain ⟨ce9, g1, g2, g3⟩ := xUnb_cell hC hS f_x3
    exact xOutU hC (fun z hz => (htb z hz).elim) hw f_x3 hS g1 g2 g3 (by omega) (by omega)
  · refine lv_astore_n (lv' := [(2, .ref r1.1), (1, .int (-1)), (0, .ref (a 0))]) hx hb dX0_gainer_10 rfl hl (by decide) rfl (fun ls hl => ?_)
    refine lv_iconst (v := 0) hx hb dX0_gainer_11 (by decide) ?_
    refine lv_istore_n (lv' := [(3, .int 0), (2, .ref r1.1), (1, .int (-1)), (0, .ref (a 0))]) hx hb dX0_gainer_12 rfl hl (by decide) rfl (fun ls hl => ?_)
    obtain ⟨n, hn9, hw⟩ := hw
    exact k_X0_gainer_13 hC hA hfl htb _ _ _ _ n f_r1 hS (lv_sub hl [3, 2, 1, 0] rfl) ⟨by omega, by omega⟩ hw
abbrev v_X0_gainer (X : XS) (post : Int32 → XS → Prop) (postX : Exn → XS → Prop) : Prop := w_X0_gainer post postX X
set_option maxHeartbeats 4000000 in
set_option maxRecDepth 100000 in
theorem met_X0_gainer (l : Launch) (hfl : l.stackTraces = false) (D : va_G) (dT : Nat → ClassId) (a : Nat → Nat) (sz : Nat) (X : XS) (vs0 : XE) (post : Int32 → XS → Prop) (postX : Exn → XS → Prop) (hw : v_X0_gainer X post postX) : vx_Met l yX0_gainer (ws_ yX0_gainer cX0_gainer 5 (some .int)) rmX0_gainer (wPc D dT (XW dT a) (XI vs0) sz (X, vs0) [.ref (a 0)]) (va_Qi (fun r u9 => post r u9.1) (wB D (XW dT a) (XI vs0) (va_A ((XW dT a) (X, vs0)) sz)) (va_A ((XW dT a) (X, vs0)) sz)) (XCU D dT a vs0 postX (va_A ((XW dT a) (X, vs0)) sz)) 24 108 (va_A ((XW dT a) (X, vs0)) sz) :=
  xEnt (Q := fun A => (va_Qi (fun r u9 => post r u9.1) (wB D (XW dT a) (XI vs0) A) A)) (XC := fun A => (XCU D dT a vs0 postX A)) (by decide) (Nat.le_of_ble_eq_true rfl) (fun p e s m below meth c A ls hC htb hA hS hl => k_X0_gainer_0 hC hA hfl htb _ hS hl ⟨by omega, by omega⟩ hw) sz
theorem hd_X0_gainer : yX0_gainer.cls ≠ "java/lang/invoke/MethodHandle" ∧ yX0_gainer.cls ≠ "java/lang/invoke/VarHandle" ∧ (parseMethodDescriptor yX0_gainer.desc).map (fun d => d.parameters.length) = some 0 := by decide +kernel
section
variable {p : Program} {l : Launch} {e : Env} {R : Room} {s : State} {m : MethodId} {args : Array Value} {below : List Frame} {meth : Method} {c : Code} {H : Heap} {locs : List Loc} {cells slots : Nat} {Q : State → Prop} {cc : ByteArray} {nL : Nat} {ret : Option FieldType} {pc : Nat} {ls : Array Slot} {rest : List Value}
set_option maxHeartbeats 4000000 in
set_option maxRecDepth 100000 in
theorem inv_q653 {D : va_G} {dT : Nat → ClassId} {a : Nat → Nat} {A : Nat → Prop} {vs0 : XE} {vs : XE} {X : XS} {post : Int32 → XS → Prop} {postX : Exn → XS → Prop} (hC : wCx RX0 cc nL ret D dT p s m args meth c) (hA : wAz A s) (hfl : l.stackTraces = false) (hS : StX D dT a A s vs0 X vs H locs) (hl : ls.size = nL) (hw : v_X0_gainer X post postX) (hR : rmX0_gainer.frames + 1 ≤ R.frames ∧ 8 + (5 + 11) + rmX0_gainer.locals ≤ R.locals) (hrest : (rest.map fun v => v.category).sum ≤ 8) (hf : cells + 24 ≤ R.cells ∧ slots + 108 ≤ R.slots) (hdg : decode cc pc = .ok (.invokevirtual 264, 3)) (kx : ∀ (x : Exn) (X1 : XS) (vs1 : XE) (H1 : Heap) (locs1 : List Loc), postX x X1 → (∀ v ∈ vs, v ∈ vs1) → StX D dT a A s vs0 X1 vs1 H1 locs1 → isUnb x vs1 → vx_W p l e R s m args below meth c H1 locs1 (cells + 24) (slots + 108) Q (F0 m pc ls rest) x.1) (kk : ∀ (r : Int32) (X1 : XS) (vs1 : XE) (H1 : Heap) (locs1 : List Loc), post r X1 → (∀ v ∈ vs, v ∈ vs1) → StX D dT a A s vs0 X1 vs1 H1 locs1 → W p l e R s m args below meth c H1 locs1 (cells + 24) (slots + 108) Q (F0 m (pc + 3) ls (.int r :: rest))) : W p l e R s m args below meth c H locs cells slots Q (F0 m pc ls (.ref (a 0) :: rest)) := by
  exact xTi hA hS (xRunV (As := []) (rest := rest) (mc := 24) (ms := 108) 0 hC (met_X0_gainer l hfl D dT a H.size X vs post postX hw) (lw_V q653 q655 qs32 q85 q656) ⟨⟨rfl, rfl⟩, hd_X0_gainer, hR, hf⟩ XW_0 rfl rfl hA hS.self hl rfl hrest hdg) kx kk
end
/-! LeastFrames.grow -/
def w_X0_grow_7b (K7 : XS → Int32 → Int32 → Prop) (post : Int32 → XS → Prop) (X : XS) (x1 : Int32) (x2 : Int32) : Prop :=
  (x2 = ((-1) : Int32) → (post x1 X)) ∧ (¬ x2 = ((-1) : Int32) → (∀ X2 : XS, X2 = sX_bars X ((X_bars X) ||| (1 <<< (x2 &&& 31))) → (∀ v3 : Int32, v3 = x1 + 1 → (v_X0_gainer X2 (fun r4 X5 => K7 X5 v3 r4) (fun x6 X5 => post ((-3) : Int32) X5)))))
def w_X0_grow_7 (post : Int32 → XS → Prop) : Nat → XS → Int32 → Int32 → Prop
  | 0, _, _, _ => False
  | n + 1, X, x1, x2 => w_X0_grow_7b  (w_X0_grow_7 post n) post X x1 x2
def w_X0_grow (post : Int32 → XS → Prop) (X : XS) : Prop :=
  v_X0_gainer X (fun r1 X2 => ∃ n, n ≤ 11 ∧ w_X0_grow_7 post n X2 0 r1) (fun x3 X2 => post ((-3) : Int32) X2)
abbrev rmX0_grow : Room := { frames := 10, cells := 288, slots := 1296, locals := 232 }
set_option maxHeartbeats 4000000 in
set_option maxRecDepth 100000 in
theorem k_X0_grow_7b {p : Program} {l : Launch} {e : Env} {s : State} {m : MethodId} {args : Array Value} {below : List Frame} {meth : Method} {c : Code} {D : va_G} {dT : Nat → ClassId} {a : Nat → Nat} {A : Nat → Prop} {vs0 : XE} {nK : Nat} {K7 : XS → Int32 → Int32 → Prop} {post : Int32 → XS → Prop} (hC : wCx RX0 cX0_grow 3 (some .int) D dT p s m args meth c) (hA : wAz A s) (hfl : l.stackTraces = false) (htb : c.exceptionTable.toList = tableOf [(2, 36, 37, 109)]) (hK7 : ∀ (X : XS) (x1 : Int32) (x2 : Int32), K7 X x1 x2 → ∀ {vs : XE} {H : Heap} {locs : List Loc} {ls : Array Slot} {cells slots : Nat}, StX D dT a A s vs0 X vs H locs → lv_has ls 3 [(0, .ref (a 0)), (1, .int x1), (2, .int x2)] → cells + (nK * 24 + 0) ≤ 288 ∧ slots + (nK * 108 + 0) ≤ 1296 → W p l e rmX0_grow s m args below meth c H locs cells slots (MQ below (va_Qi (fun r u9 => post r u9.1) (wB D (XW dT a) (XI vs0) A) A) args s 288 1296 A) (F0 m 7 ls [])) (X : XS) (x1 : Int32) (x2 : Int32) {vs : XE} {H : Heap} {locs : List Loc} {ls : Array Slot} {cells slots : Nat} (hS : StX D dT a A s vs0 X vs H locs) (hl : lv_has ls 3 [(0, .ref (a 0)), (1, .int x1), (2, .int x2)]) (hc : cells + (24 + (nK * 24 + 0)) ≤ 288 ∧ slots + (108 + (nK * 108 + 0)) ≤ 1296) (hw : w_X0_grow_7b K7 post X x1 x2) : W p l e rmX0_grow s m args below meth c H locs cells slots (MQ below (va_Qi (fun r u9 => post r u9.1) (wB D (XW dT a) (XI vs0) A) A) args s 288 1296 A) (F0 m 7 ls []) := by
  have hx := hC.1
  have hb := hC.2.1
  have hown := hC.2.2.2.1
  have hts := hC.2.2.2.2.1
  unfold w_X0_grow_7b at hw
  obtain ⟨hc1, hc2⟩ := hc
  refine lv_iload_n hx hb dX0_grow_7 rfl (lv_at hl 2 rfl) ?_
  refine lv_iconst (v := (-1)) hx hb dX0_grow_8 (by decide) ?_
  refine lv_icmp_eq (tgt := 35) hx hb dX0_grow_9 (by decide) (fun c1 => ?_) (fun c1 => ?_)
  · have hw := hw.1 c1
    refine lv_iload_n hx hb dX0_grow_35 rfl (lv_at hl 1 rfl) ?_
    exact wReti hC hS hw (by omega) (by omega) dX0_grow_36
  · have hw := hw.2 c1
    refine lv_aload_n hx hb dX0_grow_12 rfl (lv_at hl 0 rfl) ?_
    refine lv_dup hx hb dX0_grow_13 rfl ?_
    refine ld_q197 hC hS dX0_grow_14 ?_
    refine lv_iconst (v := 1) hx hb dX0_grow_17 (by decide) ?_
    refine lv_iload_n hx hb dX0_grow_18 rfl (lv_at hl 2 rfl) ?_
    refine lv_ishl hx hb dX0_grow_19 ?_
    refine lv_ior hx hb dX0_grow_20 ?_
    refine st_q197 hC hS dX0_grow_21 (fun H locs hS => ?_)
    have hw := hw (sX_bars X ((X_bars X) ||| (1 <<< (x2 &&& 31)))) rfl
    generalize sX_bars X ((X_bars X) ||| (1 <<< (x2 &&& 31))) = X2 at hS hw
    obtain ⟨v3, ev3⟩ : ∃ y : Int32, y = x1 + 1 := ⟨_, rfl⟩
    have hw := hw v3 ev3
    refine lv_iinc (v := v3) (lv' := [(1, .int v3), (0, .ref (a 0)), (2, .int x2)]) hx hb dX0_grow_24 hl (k := 1) rfl (by rw [ev3]; rfl) (by decide) rfl (fun ls hl => ?_)
    refine lv_aload_n hx hb dX0_grow_27 rfl (lv_at hl 1 rfl) ?_
    refine inv_q653 hC hA hfl hS hl.1 hw ⟨Nat.le_of_ble_eq_true rfl, Nat.le_of_ble_eq_true rfl⟩ (Nat.le_of_ble_eq_true rfl) ⟨(by show _ ≤ 288; omega), (by show _ ≤ 1296; omega)⟩ dX0_grow_28 (fun x6 X5 vs H locs hw hv9 hS f_x6 => ?_) (fun r4 X5 vs H locs hw hv9 hS => ?_)
    · obtain ⟨ce9, g1, g2, g3⟩ := xUnb_cell hC hS f_x6
      refine vx_catch (name := "LeastFrames$Unborne") (E := "LeastFrames$Unborne") hown [] ⟨2, 36, 37, 109⟩ [] (by rw [htb]; rfl) (fun z hz => absurd hz List.not_mem_nil) (by decide) (by decide) (hts _ q356) (va_Nw.use rfl (hC.2.2.2.2.2.2.2.2.1 _ nw_q397)) g1 g2 g3 ?_
      refine lv_astore_n (lv' := [(2, .ref x6.1), (1, .int v3), (0, .ref (a 0))]) hx hb dX0_grow_37 rfl hl (by decide) rfl (fun ls hl => ?_)
      refine lv_bipush (v := (-3)) hx hb dX0_grow_38 (by decide) ?_
      exact wReti hC hS hw (by omega) (by omega) dX0_grow_40
    · refine lv_istore_n (lv' := [(2, .int r4), (1, .int v3), (0, .ref (a 0))]) hx hb dX0_grow_31 rfl hl (by decide) rfl (fun ls hl => ?_)
      refine lv_goto (tgt := 7) hx hb dX0_grow_32 (by decide) ?_
      exact hK7 _ _ _ hw hS (lv_sub hl [2, 1, 0] rfl) ⟨by omega, by omega⟩
set_option maxHeartbeats 4000000 in
set_option maxRecDepth 100000 in
theorem k_X0_grow_7 {p : Program} {l : Launch} {e : Env} {s : State} {m : MethodId} {args : Array Value} {below : List Frame} {meth : Method} {c : Code} {D : va_G} {dT : Nat → ClassId} {a : Nat → Nat} {A : Nat → Prop} {vs0 : XE} {post : Int32 → XS → Prop} (hC : wCx RX0 cX0_grow 3 (some .int) D dT p s m args meth c) (hA : wAz A s) (hfl : l.stackTraces = false) (htb : c.exceptionTable.toList = tableOf [(2, 36, 37, 109)]) : ∀ (X : XS) (x1 : Int32) (x2 : Int32) (n : Nat), ∀ {vs : XE} {H : Heap} {locs : List Loc} {ls : Array Slot} {cells slots : Nat}, StX D dT a A s vs0 X vs H locs → lv_has ls 3 [(0, .ref (a 0)), (1, .int x1), (2, .int x2)] → cells + (n * 24 + 0) ≤ 288 ∧ slots + (n * 108 + 0) ≤ 1296 → w_X0_grow_7 post n X x1 x2 → W p l e rmX0_grow s m args below meth c H locs cells slots (MQ below (va_Qi (fun r u9 => post r u9.1) (wB D (XW dT a) (XI vs0) A) A) args s 288 1296 A) (F0 m 7 ls []) := by
  intro X x1 x2 n
  induction n generalizing X x1 x2 with
  | zero => intro vs H locs ls cells slots  hS hl hc hw; exact hw.elim
  | succ n ih =>
    intro vs H locs ls cells slots  hS hl hc hw
    exact k_X0_grow_7b hC hA hfl htb (fun X x1 x2 hk {vs} {H} {locs} {ls} {cells} {slots}  hS hl hc => ih X x1 x2  hS hl hc hk) X x1 x2  hS hl ⟨by omega, by omega⟩ hw
set_option maxHeartbeats 4000000 in
set_option maxRecDepth 100000 in
theorem k_X0_grow_0 {p : Program} {l : Launch} {e : Env} {s : State} {m : MethodId} {args : Array Value} {below : List Frame} {meth : Method} {c : Code} {D : va_G} {dT : Nat → ClassId} {a : Nat → Nat} {A : Nat → Prop} {vs0 : XE} {post : Int32 → XS → Prop} (hC : wCx RX0 cX0_grow 3 (some .int) D dT p s m args meth c) (hA : wAz A s) (hfl : l.stackTraces = false) (htb : c.exceptionTable.toList = tableOf [(2, 36, 37, 109)]) (X : XS) {vs : XE} {H : Heap} {locs : List Loc} {ls : Array Slot} {cells slots : Nat} (hS : StX D dT a A s vs0 X vs H locs) (hl : lv_has ls 3 [(0, .ref (a 0))]) (hc : cells + 288 ≤ 288 ∧ slots + 1296 ≤ 1296) (hw : w_X0_grow post X) : W p l e rmX0_grow s m args below meth c H locs cells slots (MQ below (va_Qi (fun r u9 => post r u9.1) (wB D (XW dT a) (XI vs0) A) A) args s 288 1296 A) (F0 m 0 ls []) := by
  have hx := hC.1
  have hb := hC.2.1
  have hown := hC.2.2.2.1
  have hts := hC.2.2.2.2.1
  unfold w_X0_grow at hw
  obtain ⟨hc1, hc2⟩ := hc
  refine lv_iconst (v := 0) hx hb dX0_grow_0 (by decide) ?_
  refine lv_istore_n (lv' := [(1, .int 0), (0, .ref (a 0))]) hx hb dX0_grow_1 rfl hl (by decide) rfl (fun ls hl => ?_)
  refine lv_aload_n hx hb dX0_grow_2 rfl (lv_at hl 1 rfl) ?_
  refine inv_q653 hC hA hfl hS hl.1 hw ⟨Nat.le_of_ble_eq_true rfl, Nat.le_of_ble_eq_true rfl⟩ (Nat.le_of_ble_eq_true rfl) ⟨(by show _ ≤ 288; omega), (by show _ ≤ 1296; omega)⟩ dX0_grow_3 (fun x3 X2 vs H locs hw hv9 hS f_x3 => ?_) (fun r1 X2 vs H locs hw hv9 hS => ?_)
  · obtain ⟨ce9, g1, g2, g3⟩ := xUnb_cell hC hS f_x3
    refine vx_catch (name := "LeastFrames$Unborne") (E := "LeastFrames$Unborne") hown [] ⟨2, 36, 37, 109⟩ [] (by rw [htb]; rfl) (fun z hz => absurd hz List.not_mem_nil) (by decide) (by decide) (hts _ q356) (va_Nw.use rfl (hC.2.2.2.2.2.2.2.2.1 _ nw_q397)) g1 g2 g3 ?_
    refine lv_astore_n (lv' := [(2, .ref x3.1), (1, .int 0), (0, .ref (a 0))]) hx hb dX0_grow_37 rfl hl (by decide) rfl (fun ls hl => ?_)
    refine lv_bipush (v := (-3)) hx hb dX0_grow_38 (by decide) ?_
    exact wReti hC hS hw (by omega) (by omega) dX0_grow_40
  · refine lv_istore_n (lv' := [(2, .int r1), (1, .int 0), (0, .ref (a 0))]) hx hb dX0_grow_6 rfl hl (by decide) rfl (fun ls hl => ?_)
    obtain ⟨n, hn9, hw⟩ := hw
    exact k_X0_grow_7 hC hA hfl htb _ _ _ n hS (lv_sub hl [2, 1, 0] rfl) ⟨by omega, by omega⟩ hw
abbrev v_X0_grow (X : XS) (post : Int32 → XS → Prop) : Prop := w_X0_grow post X
set_option maxHeartbeats 4000000 in
set_option maxRecDepth 100000 in
theorem met_X0_grow (l : Launch) (hfl : l.stackTraces = false) (D : va_G) (dT : Nat → ClassId) (a : Nat → Nat) (sz : Nat) (X : XS) (vs0 : XE) (post : Int32 → XS → Prop) (hw : v_X0_grow X post) : Met l yX0_grow (wsW_ yX0_grow cX0_grow 3 (some .int) [(2, 36, 37, 109)]) rmX0_grow (wPc D dT (XW dT a) (XI vs0) sz (X, vs0) [.ref (a 0)]) (va_Qi (fun r u9 => post r u9.1) (wB D (XW dT a) (XI vs0) (va_A ((XW dT a) (X, vs0)) sz)) (va_A ((XW dT a) (X, vs0)) sz)) 288 1296 (va_A ((XW dT a) (X, vs0)) sz) :=
  wEntH (Q := fun A => (va_Qi (fun r u9 => post r u9.1) (wB D (XW dT a) (XI vs0) A) A)) (by decide) (Nat.le_of_ble_eq_true rfl) (fun p e s m below meth c A ls hC htb hA hS hl => k_X0_grow_0 hC hA hfl htb _ hS hl ⟨by omega, by omega⟩ hw) sz
theorem hd_X0_grow : yX0_grow.cls ≠ "java/lang/invoke/MethodHandle" ∧ yX0_grow.cls ≠ "java/lang/invoke/VarHandle" ∧ (parseMethodDescriptor yX0_grow.desc).map (fun d => d.parameters.length) = some 0 := by decide +kernel
/-! LeastFrames.prune -/
def w_X0_prune (post : Int32 → XS → Prop) (X : XS) : Prop :=
  v_X0_looks X (fun r1 X2 => (r1 = (0 : Int32) → (post ((-3) : Int32) X2)) ∧ (¬ r1 = (0 : Int32) → (v_J3_bitCount ((X_bars X2) &&& ((X_frame X2) ^^^ (-1))) (fun r4 => ∀ X5 : XS, X5 = sX_bars X2 (X_frame X2) → (post r4 X5)))))
abbrev rmX0_prune : Room := { frames := 12, cells := 25, slots := 115, locals := 273 }
set_option maxHeartbeats 4000000 in
set_option maxRecDepth 100000 in
theorem k_X0_prune_0 {p : Program} {l : Launch} {e : Env} {s : State} {m : MethodId} {args : Array Value} {below : List Frame} {meth : Method} {c : Code} {D : va_G} {dT : Nat → ClassId} {a : Nat → Nat} {A : Nat → Prop} {vs0 : XE} {post : Int32 → XS → Prop} (hC : wCx RX0 cX0_prune 2 (some .int) D dT p s m args meth c) (hA : wAz A s) (hfl : l.stackTraces = false) (X : XS) {vs : XE} {H : Heap} {locs : List Loc} {ls : Array Slot} {cells slots : Nat} (hS : StX D dT a A s vs0 X vs H locs) (hl : lv_has ls 2 [(0, .ref (a 0))]) (hc : cells + 25 ≤ 25 ∧ slots + 115 ≤ 115) (hw : w_X0_prune post X) : W p l e rmX0_prune s m args below meth c H locs cells slots (MQ below (va_Qi (fun r u9 => post r u9.1) (wB D (XW dT a) (XI vs0) A) A) args s 25 115 A) (F0 m 0 ls []) := by
  have hx := hC.1
  have hb := hC.2.1
  have hown := hC.2.2.2.1
  have hts := hC.2.2.2.2.1
  unfold w_X0_prune at hw
  obtain ⟨hc1, hc2⟩ := hc
  refine lv_aload_n hx hb dX0_prune_0 rfl (lv_at hl 0 rfl) ?_
  refine inv_q352 hC hA hfl hS hl.1 hw ⟨Nat.le_of_ble_eq_true rfl, Nat.le_of_ble_eq_true rfl⟩ (Nat.le_of_ble_eq_true rfl) ⟨(by show _ ≤ 25; omega), (by show _ ≤ 115; omega)⟩ dX0_prune_1 (fun r1 X2 vs H locs hw hv9 hS => ?_)
  refine lv_if_ne (tgt := 10) hx hb dX0_prune_4 (by decide) (fun c3 => ?_) (fun c3 => ?_)
  · have hw := hw.2 c3
    refine lv_aload_n hx hb dX0_prune_10 rfl (lv_at hl 0 rfl) ?_
    refine ld_q197 hC hS dX0_prune_11 ?_
    refine lv_aload_n hx hb dX0_prune_14 rfl (lv_at hl 0 rfl) ?_
    refine ld_q201 hC hS dX0_prune_15 ?_
    refine lv_iconst (v := (-1)) hx hb dX0_prune_18 (by decide) ?_
    refine lv_ixor hx hb dX0_prune_19 ?_
    refine lv_iand hx hb dX0_prune_20 ?_
    refine inv_q661 hC hS hl.1 hw ⟨Nat.le_of_ble_eq_true rfl, Nat.le_of_ble_eq_true rfl⟩ (Nat.le_of_ble_eq_true rfl) ⟨(by show _ ≤ 25; omega), (by show _ ≤ 115; omega)⟩ dX0_prune_21 (fun r4 H locs hw hS => ?_)
    refine lv_istore_n (lv' := [(1, .int r4), (0, .ref (a 0))]) hx hb dX0_prune_24 rfl hl (by decide) rfl (fun ls hl => ?_)
    refine lv_aload_n hx hb dX0_prune_25 rfl (lv_at hl 1 rfl) ?_
    refine lv_aload_n hx hb dX0_prune_26 rfl (lv_at hl 1 rfl) ?_
    refine ld_q201 hC hS dX0_prune_27 ?_
    refine st_q197 hC hS dX0_prune_30 (fun H locs hS => ?_)
    have hw := hw (sX_bars X2 (X_frame X2)) rfl
    generalize sX_bars X2 (X_frame X2) = X5 at hS hw
    refine lv_iload_n hx hb dX0_prune_33 rfl (lv_at hl 0 rfl) ?_
    exact wReti hC hS hw (by omega) (by omega) dX0_prune_34
  · have hw := hw.1 c3
    refine lv_bipush (v := (-3)) hx hb dX0_prune_7 (by decide) ?_
    exact wReti hC hS hw (by omega) (by omega) dX0_prune_9
abbrev v_X0_prune (X : XS) (post : Int32 → XS → Prop) : Prop := w_X0_prune post X
set_option maxHeartbeats 4000000 in
set_option maxRecDepth 100000 in
theorem met_X0_prune (l : Launch) (hfl : l.stackTraces = false) (D : va_G) (dT : Nat → ClassId) (a : Nat → Nat) (sz : Nat) (X : XS) (vs0 : XE) (post : Int32 → XS → Prop) (hw : v_X0_prune X post) : Met l yX0_prune (ws_ yX0_prune cX0_prune 2 (some .int)) rmX0_prune (wPc D dT (XW dT a) (XI vs0) sz (X, vs0) [.ref (a 0)]) (va_Qi (fun r u9 => post r u9.1) (wB D (XW dT a) (XI vs0) (va_A ((XW dT a) (X, vs0)) sz)) (va_A ((XW dT a) (X, vs0)) sz)) 25 115 (va_A ((XW dT a) (X, vs0)) sz) :=
  wEnt (Q := fun A => (va_Qi (fun r u9 => post r u9.1) (wB D (XW dT a) (XI vs0) A) A)) (by decide) (Nat.le_of_ble_eq_true rfl) (fun p e s m below meth c A ls hC _ hA hS hl => k_X0_prune_0 hC hA hfl _ hS hl ⟨by omega, by omega⟩ hw) sz
theorem hd_X0_prune : yX0_prune.cls ≠ "java/lang/invoke/MethodHandle" ∧ yX0_prune.cls ≠ "java/lang/invoke/VarHandle" ∧ (parseMethodDescriptor yX0_prune.desc).map (fun d => d.parameters.length) = some 0 := by decide +kernel
/-! LeastFrames.wouldBy -/
def w_X0_wouldBy (p1 : Int32) (p2 : Int32) (p3 : Int32) (p4 : Int32) (post : Int64 → XS → Prop) (X : XS) : Prop :=
  vp_in p1 5 ∧ (vp_in p2 2 ∧ (∀ v2 : Int32, v2 = X_pl X p1.toNatClampNeg p2.toNatClampNeg → (vp_in p1 5 ∧ (vp_in p2 2 ∧ (∀ X4 : XS, X4 = sX_pl X (upd2 (X_pl X) p1.toNatClampNeg p2.toNatClampNeg p3) → (v_X0_volumeOf X4 (X_bars X4) (fun r5 X6 => v_X6_tells X6 r5 p4 (fun r8 => vp_in p1 5 ∧ (vp_in p2 2 ∧ (∀ X10 : XS, X10 = sX_pl X6 (upd2 (X_pl X6) p1.toNatClampNeg p2.toNatClampNeg v2) → (post r8 X10))))) (fun x7 X6 => v_X0_no ((-3) : Int32) (fun r11 => vp_in p1 5 ∧ (vp_in p2 2 ∧ (∀ X13 : XS, X13 = sX_pl X6 (upd2 (X_pl X6) p1.toNatClampNeg p2.toNatClampNeg v2) → (post r11 X13)))))))))))
abbrev rmX0_wouldBy : Room := { frames := 9, cells := 2, slots := 9, locals := 208 }
set_option maxHeartbeats 4000000 in
set_option maxRecDepth 100000 in
theorem k_X0_wouldBy_0 {p : Program} {l : Launch} {e : Env} {s : State} {m : MethodId} {args : Array Value} {below : List Frame} {meth : Method} {c : Code} {D : va_G} {dT : Nat → ClassId} {a : Nat → Nat} {A : Nat → Prop} {vs0 : XE} {p1 : Int32} {p2 : Int32} {p3 : Int32} {p4 : Int32} {post : Int64 → XS → Prop} (hC : wCx RX0 cX0_wouldBy 10 (some .long) D dT p s m args meth c) (hA : wAz A s) (hfl : l.stackTraces = false) (htb : c.exceptionTable.toList = tableOf [(13, 40, 56, 109), (13, 40, 81, 0), (56, 65, 81, 0), (81, 83, 81, 0)]) (X : XS) {vs : XE} {H : Heap} {locs : List Loc} {ls : Array Slot} {cells slots : Nat} (hS : StX D dT a A s vs0 X vs H locs) (hl : lv_has ls 10 [(0, .ref (a 0)), (1, .int p1), (2, .int p2), (3, .int p3), (4, .int p4)]) (hc : cells + 2 ≤ 2 ∧ slots + 9 ≤ 9) (hw : w_X0_wouldBy p1 p2 p3 p4 post X) : W p l e rmX0_wouldBy s m args below meth c H locs cells slots (MQ below (va_Ql (fun r u9 => post r u9.1) (wB D (XW dT a) (XI vs0) A) A) args s 2 9 A) (F0 m 0 ls []) := by
  have hx := hC.1
  have hb := hC.2.1
  have hown := hC.2.2.2.1
  have hts := hC.2.2.2.2.1
  unfold w_X0_wouldBy at hw
  obtain ⟨hc1, hc2⟩ := hc
  refine lv_aload_n hx hb dX0_wouldBy_0 rfl (lv_at hl 0 rfl) ?_
  refine ld_q193 hC hS dX0_wouldBy_1 ?_
  refine lv_iload_n hx hb dX0_wouldBy_4 rfl (lv_at hl 1 rfl) ?_
  have hi1 := hw.1
  have hw := hw.2
  refine aa_PA hC hS hi1 dX0_wouldBy_5 ?_
  refine ld_q130 hC hS (vp_lt hi1) dX0_wouldBy_6 ?_
  refine lv_iload_n hx hb dX0_wouldBy_9 rfl (lv_at hl 2 rfl) ?_
  refine al_PL hC hS (vp_lt hi1) hw.1 dX0_wouldBy_10 ?_
  have hw := hw.2
  refine lv_topi (fun v2 ev2 => ?_)
  have hw := hw v2 ev2
  refine lv_istore (lv' := [(5, .int v2), (0, .ref (a 0)), (1, .int p1), (2, .int p2), (3, .int p3), (4, .int p4)]) hx hb dX0_wouldBy_11 hl (by decide) rfl (fun ls hl => ?_)
  refine lv_aload_n hx hb dX0_wouldBy_13 rfl (lv_at hl 1 rfl) ?_
  refine ld_q193 hC hS dX0_wouldBy_14 ?_
  refine lv_iload_n hx hb dX0_wouldBy_17 rfl (lv_at hl 2 rfl) ?_
  have hi3 := hw.1
  have hw := hw.2
  refine aa_PA hC hS hi3 dX0_wouldBy_18 ?_
  refine ld_q130 hC hS (vp_lt hi3) dX0_wouldBy_19 ?_
  refine lv_iload_n hx hb dX0_wouldBy_22 rfl (lv_at hl 3 rfl) ?_
  refine lv_iload_n hx hb dX0_wouldBy_23 rfl (lv_at hl 4 rfl) ?_
  have hi := hw.1
  have hw := hw.2
  refine as_PL hC hS (vp_lt hi3) hi dX0_wouldBy_24 (fun H locs hS => ?_)
  have hw := hw (sX_pl X (upd2 (X_pl X) p1.toNatClampNeg p2.toNatClampNeg p3)) rfl
  generalize sX_pl X (upd2 (X_pl X) p1.toNatClampNeg p2.toNatClampNeg p3) = X4 at hS hw
  refine lv_aload_n hx hb dX0_wouldBy_25 rfl (lv_at hl 1 rfl) ?_
  refine lv_aload_n hx hb dX0_wouldBy_26 rfl (lv_at hl 1 rfl) ?_
  refine ld_q197 hC hS dX0_wouldBy_27 ?_
  refine inv_q361 hC hA hfl hS hl.1 hw ⟨Nat.le_of_ble_eq_true rfl, Nat.le_of_ble_eq_true rfl⟩ (Nat.le_of_ble_eq_true rfl) ⟨(by show _ ≤ 2; omega), (by show _ ≤ 9; omega)⟩ dX0_wouldBy_30 (fun x7 X6 vs H locs hw hv9 hS f_x7 => ?_) (fun r5 X6 vs H locs hw hv9 hS f_r5 => ?_)
  · obtain ⟨ce9, g1, g2, g3⟩ := xUnb_cell hC hS f_x7
    refine vx_catch (name := "LeastFrames$Unborne") (E := "LeastFrames$Unborne") hown [] ⟨13, 40, 56, 109⟩ [⟨13, 40, 81, 0⟩, ⟨56, 65, 81, 0⟩, ⟨81, 83, 81, 0⟩] (by rw [htb]; rfl) (fun z hz => absurd hz List.not_mem_nil) (by decide) (by decide) (hts _ q356) (va_Nw.use rfl (hC.2.2.2.2.2.2.2.2.1 _ nw_q397)) g1 g2 g3 ?_
    refine lv_astore (lv' := [(6, .ref x7.1), (5, .int v2), (0, .ref (a 0)), (1, .int p1), (2, .int p2), (3, .int p3), (4, .int p4)]) hx hb dX0_wouldBy_56 hl (by decide) rfl (fun ls hl => ?_)
    refine lv_bipush (v := (-3)) hx hb dX0_wouldBy_58 (by decide) ?_
    refine inv_q348 hC hS hl.1 hw ⟨Nat.le_of_ble_eq_true rfl, Nat.le_of_ble_eq_true rfl⟩ (Nat.le_of_ble_eq_true rfl) ⟨(by show _ ≤ 2; omega), (by show _ ≤ 9; omega)⟩ dX0_wouldBy_60 (fun r11 H locs hw hS => ?_)
    refine lv_lstore (lv' := [(7, .long r11), (6, .ref x7.1), (5, .int v2), (0, .ref (a 0)), (1, .int p1), (2, .int p2), (3, .int p3), (4, .int p4)]) hx hb dX0_wouldBy_63 hl (by decide) rfl (fun ls hl => ?_)
    refine lv_aload_n hx hb dX0_wouldBy_65 rfl (lv_at hl 3 rfl) ?_
    refine ld_q193 hC hS dX0_wouldBy_66 ?_
    refine lv_iload_n hx hb dX0_wouldBy_69 rfl (lv_at hl 4 rfl) ?_
    have hi12 := hw.1
    have hw := hw.2
    refine aa_PA hC hS hi12 dX0_wouldBy_70 ?_
    refine ld_q130 hC hS (vp_lt hi12) dX0_wouldBy_71 ?_
    refine lv_iload_n hx hb dX0_wouldBy_74 rfl (lv_at hl 5 rfl) ?_
    refine lv_iload hx hb dX0_wouldBy_75 (lv_at hl 2 rfl) ?_
    have hi := hw.1
    have hw := hw.2
    refine as_PL hC hS (vp_lt hi12) hi dX0_wouldBy_77 (fun H locs hS => ?_)
    have hw := hw (sX_pl X6 (upd2 (X_pl X6) p1.toNatClampNeg p2.toNatClampNeg v2)) rfl
    generalize sX_pl X6 (upd2 (X_pl X6) p1.toNatClampNeg p2.toNatClampNeg v2) = X13 at hS hw
    refine lv_lload hx hb dX0_wouldBy_78 (lv_at hl 0 rfl) ?_
    exact wRetl hC hS hw (by omega) (by omega) dX0_wouldBy_80
  · refine lv_iload hx hb dX0_wouldBy_33 (lv_at hl 5 rfl) ?_
    refine inv_q535 hC hA hS f_r5 hl.1 hw ⟨Nat.le_of_ble_eq_true rfl, Nat.le_of_ble_eq_true rfl⟩ (Nat.le_of_ble_eq_true rfl) ⟨(by show _ ≤ 2; omega), (by show _ ≤ 9; omega)⟩ dX0_wouldBy_35 (fun r8 H locs hw hS => ?_)
    refine lv_lstore (lv' := [(6, .long r8), (5, .int v2), (0, .ref (a 0)), (1, .int p1), (2, .int p2), (3, .int p3), (4, .int p4)]) hx hb dX0_wouldBy_38 hl (by decide) rfl (fun ls hl => ?_)
    refine lv_aload_n hx hb dX0_wouldBy_40 rfl (lv_at hl 2 rfl) ?_
    refine ld_q193 hC hS dX0_wouldBy_41 ?_
    refine lv_iload_n hx hb dX0_wouldBy_44 rfl (lv_at hl 3 rfl) ?_
    have hi9 := hw.1
    have hw := hw.2
    refine aa_PA hC hS hi9 dX0_wouldBy_45 ?_
    refine ld_q130 hC hS (vp_lt hi9) dX0_wouldBy_46 ?_
    refine lv_iload_n hx hb dX0_wouldBy_49 rfl (lv_at hl 4 rfl) ?_
    refine lv_iload hx hb dX0_wouldBy_50 (lv_at hl 1 rfl) ?_
    have hi := hw.1
    have hw := hw.2
    refine as_PL hC hS (vp_lt hi9) hi dX0_wouldBy_52 (fun H locs hS => ?_)
    have hw := hw (sX_pl X6 (upd2 (X_pl X6) p1.toNatClampNeg p2.toNatClampNeg v2)) rfl
    generalize sX_pl X6 (upd2 (X_pl X6) p1.toNatClampNeg p2.toNatClampNeg v2) = X10 at hS hw
    refine lv_lload hx hb dX0_wouldBy_53 (lv_at hl 0 rfl) ?_
    exact wRetl hC hS hw (by omega) (by omega) dX0_wouldBy_55
abbrev v_X0_wouldBy (X : XS) (p1 : Int32) (p2 : Int32) (p3 : Int32) (p4 : Int32) (post : Int64 → XS → Prop) : Prop := w_X0_wouldBy p1 p2 p3 p4 post X
set_option maxHeartbeats 4000000 in
set_option maxRecDepth 100000 in
theorem met_X0_wouldBy (l : Launch) (hfl : l.stackTraces = false) (D : va_G) (dT : Nat → ClassId) (a : Nat → Nat) (sz : Nat) (X : XS) (vs0 : XE) (p1 : Int32) (p2 : Int32) (p3 : Int32) (p4 : Int32) (post : Int64 → XS → Prop) (hw : v_X0_wouldBy X p1 p2 p3 p4 post) : Met l yX0_wouldBy (wsW_ yX0_wouldBy cX0_wouldBy 10 (some .long) [(13, 40, 56, 109), (13, 40, 81, 0), (56, 65, 81, 0), (81, 83, 81, 0)]) rmX0_wouldBy (wPc D dT (XW dT a) (XI vs0) sz (X, vs0) [.ref (a 0), .int p1, .int p2, .int p3, .int p4]) (va_Ql (fun r u9 => post r u9.1) (wB D (XW dT a) (XI vs0) (va_A ((XW dT a) (X, vs0)) sz)) (va_A ((XW dT a) (X, vs0)) sz)) 2 9 (va_A ((XW dT a) (X, vs0)) sz) :=
  wEntH (Q := fun A => (va_Ql (fun r u9 => post r u9.1) (wB D (XW dT a) (XI vs0) A) A)) (by decide) (Nat.le_of_ble_eq_true rfl) (fun p e s m below meth c A ls hC htb hA hS hl => k_X0_wouldBy_0 hC hA hfl htb _ hS hl ⟨by omega, by omega⟩ hw) sz
theorem hd_X0_wouldBy : yX0_wouldBy.cls ≠ "java/lang/invoke/MethodHandle" ∧ yX0_wouldBy.cls ≠ "java/lang/invoke/VarHandle" ∧ (parseMethodDescriptor yX0_wouldBy.desc).map (fun d => d.parameters.length) = some 4 := by decide +kernel
section
variable {p : Program} {l : Launch} {e : Env} {R : Room} {s : State} {m : MethodId} {args : Array Value} {below : List Frame} {meth : Method} {c : Code} {H : Heap} {locs : List Loc} {cells slots : Nat} {Q : State → Prop} {cc : ByteArray} {nL : Nat} {ret : Option FieldType} {pc : Nat} {ls : Array Slot} {rest : List Value}
set_option maxHeartbeats 4000000 in
set_option maxRecDepth 100000 in
theorem inv_q671 {D : va_G} {dT : Nat → ClassId} {a : Nat → Nat} {A : Nat → Prop} {vs0 : XE} {vs : XE} {X : XS} {p1 : Int32} {p2 : Int32} {p3 : Int32} {p4 : Int32} {post : Int64 → XS → Prop} (hC : wCx RX0 cc nL ret D dT p s m args meth c) (hA : wAz A s) (hfl : l.stackTraces = false) (hS : StX D dT a A s vs0 X vs H locs) (hl : ls.size = nL) (hw : v_X0_wouldBy X p1 p2 p3 p4 post) (hR : rmX0_wouldBy.frames + 1 ≤ R.frames ∧ 8 + (10 + 11) + rmX0_wouldBy.locals ≤ R.locals) (hrest : (rest.map fun v => v.category).sum ≤ 8) (hf : cells + 2 ≤ R.cells ∧ slots + 9 ≤ R.slots) (hdg : decode cc pc = .ok (.invokevirtual 270, 3))  (kk : ∀ (r : Int64) (X1 : XS) (vs1 : XE) (H1 : Heap) (locs1 : List Loc), post r X1 → (∀ v ∈ vs, v ∈ vs1) → StX D dT a A s vs0 X1 vs1 H1 locs1 → W p l e R s m args below meth c H1 locs1 (cells + 2) (slots + 9) Q (F0 m (pc + 3) ls (.long r :: rest))) : W p l e R s m args below meth c H locs cells slots Q (F0 m pc ls (.int p4 :: .int p3 :: .int p2 :: .int p1 :: .ref (a 0) :: rest)) := by
  exact xNl hA hS (wRunVW (As := [.int p1, .int p2, .int p3, .int p4]) (rest := rest) (mc := 2) (ms := 9) 0 hC (met_X0_wouldBy l hfl D dT a H.size X vs p1 p2 p3 p4 post hw) (lw_VW q671 q673 qs33 q85 q674) ⟨⟨rfl, rfl⟩, hd_X0_wouldBy, hR, hf⟩ XW_0 rfl rfl hA hS.self hl rfl hrest hdg) kk
end
/-! LeastFrames.would -/
def w_X0_would (p1 : Int32) (p2 : Int32) (p3 : Int32) (p4 : Int32) (post : Int64 → XS → Prop) (X : XS) : Prop :=
  v_X0_isPoint X p1 (fun r1 => (r1 = (0 : Int32) → (v_X0_no ((-2) : Int32) (fun r3 => post r3 X))) ∧ (¬ r1 = (0 : Int32) → (v_X0_isTwo p2 (fun r4 => (r4 = (0 : Int32) → (v_X0_no ((-2) : Int32) (fun r6 => post r6 X))) ∧ (¬ r4 = (0 : Int32) → (v_X0_in p3.toInt64 ((-9) : Int64) (9 : Int64) (fun r7 => (r7 = (0 : Int32) → (v_X0_no ((-2) : Int32) (fun r9 => post r9 X))) ∧ (¬ r7 = (0 : Int32) → (v_X0_isTwo p4 (fun r10 => (r10 = (0 : Int32) → (v_X0_no ((-2) : Int32) (fun r12 => post r12 X))) ∧ (¬ r10 = (0 : Int32) → (v_X0_wouldBy X p1 p2 p3 p4 (fun r13 X14 => post r13 X14)))))))))))))
abbrev rmX0_would : Room := { frames := 10, cells := 2, slots := 9, locals := 237 }
set_option maxHeartbeats 4000000 in
set_option maxRecDepth 100000 in
theorem k_X0_would_0 {p : Program} {l : Launch} {e : Env} {s : State} {m : MethodId} {args : Array Value} {below : List Frame} {meth : Method} {c : Code} {D : va_G} {dT : Nat → ClassId} {a : Nat → Nat} {A : Nat → Prop} {vs0 : XE} {p1 : Int32} {p2 : Int32} {p3 : Int32} {p4 : Int32} {post : Int64 → XS → Prop} (hC : wCx RX0 cX0_would 5 (some .long) D dT p s m args meth c) (hA : wAz A s) (hfl : l.stackTraces = false) (X : XS) {vs : XE} {H : Heap} {locs : List Loc} {ls : Array Slot} {cells slots : Nat} (hS : StX D dT a A s vs0 X vs H locs) (hl : lv_has ls 5 [(0, .ref (a 0)), (1, .int p1), (2, .int p2), (3, .int p3), (4, .int p4)]) (hc : cells + 2 ≤ 2 ∧ slots + 9 ≤ 9) (hw : w_X0_would p1 p2 p3 p4 post X) : W p l e rmX0_would s m args below meth c H locs cells slots (MQ below (va_Ql (fun r u9 => post r u9.1) (wB D (XW dT a) (XI vs0) A) A) args s 2 9 A) (F0 m 0 ls []) := by
  have hx := hC.1
  have hb := hC.2.1
  have hown := hC.2.2.2.1
  have hts := hC.2.2.2.2.1
  unfold w_X0_would at hw
  obtain ⟨hc1, hc2⟩ := hc
  refine lv_aload_n hx hb dX0_would_0 rfl (lv_at hl 0 rfl) ?_
  refine lv_iload_n hx hb dX0_would_1 rfl (lv_at hl 1 rfl) ?_
  refine inv_q258 hC hA hS hl.1 hw ⟨Nat.le_of_ble_eq_true rfl, Nat.le_of_ble_eq_true rfl⟩ (Nat.le_of_ble_eq_true rfl) ⟨(by show _ ≤ 2; omega), (by show _ ≤ 9; omega)⟩ dX0_would_2 (fun r1 H locs hw hS => ?_)
  refine lv_if_eq (tgt := 49) hx hb dX0_would_5 (by decide) (fun c2 => ?_) (fun c2 => ?_)
  · have hw := hw.1 c2
    refine lv_bipush (v := (-2)) hx hb dX0_would_49 (by decide) ?_
    refine inv_q348 hC hS hl.1 hw ⟨Nat.le_of_ble_eq_true rfl, Nat.le_of_ble_eq_true rfl⟩ (Nat.le_of_ble_eq_true rfl) ⟨(by show _ ≤ 2; omega), (by show _ ≤ 9; omega)⟩ dX0_would_51 (fun r3 H locs hw hS => ?_)
    exact wRetl hC hS hw (by omega) (by omega) dX0_would_54
  · have hw := hw.2 c2
    refine lv_iload_n hx hb dX0_would_8 rfl (lv_at hl 2 rfl) ?_
    refine inv_q267 hC hS hl.1 hw ⟨Nat.le_of_ble_eq_true rfl, Nat.le_of_ble_eq_true rfl⟩ (Nat.le_of_ble_eq_true rfl) ⟨(by show _ ≤ 2; omega), (by show _ ≤ 9; omega)⟩ dX0_would_9 (fun r4 H locs hw hS => ?_)
    refine lv_if_eq (tgt := 49) hx hb dX0_would_12 (by decide) (fun c5 => ?_) (fun c5 => ?_)
    · have hw := hw.1 c5
      refine lv_bipush (v := (-2)) hx hb dX0_would_49 (by decide) ?_
      refine inv_q348 hC hS hl.1 hw ⟨Nat.le_of_ble_eq_true rfl, Nat.le_of_ble_eq_true rfl⟩ (Nat.le_of_ble_eq_true rfl) ⟨(by show _ ≤ 2; omega), (by show _ ≤ 9; omega)⟩ dX0_would_51 (fun r6 H locs hw hS => ?_)
      exact wRetl hC hS hw (by omega) (by omega) dX0_would_54
    · have hw := hw.2 c5
      refine lv_iload_n hx hb dX0_would_15 rfl (lv_at hl 3 rfl) ?_
      refine lv_i2l hx hb dX0_would_16 rfl ?_
      refine lv_ldc2 (v := (-9)) hx hb hown (hts _ q270) dX0_would_17 ?_
      refine lv_ldc2 (v := 9) hx hb hown (hts _ q271) dX0_would_20 ?_
      refine inv_q239 hC hS hl.1 hw ⟨Nat.le_of_ble_eq_true rfl, Nat.le_of_ble_eq_true rfl⟩ (Nat.le_of_ble_eq_true rfl) ⟨(by show _ ≤ 2; omega), (by show _ ≤ 9; omega)⟩ dX0_would_23 (fun r7 H locs hw hS => ?_)
      refine lv_if_eq (tgt := 49) hx hb dX0_would_26 (by decide) (fun c8 => ?_) (fun c8 => ?_)
      · have hw := hw.1 c8
        refine lv_bipush (v := (-2)) hx hb dX0_would_49 (by decide) ?_
        refine inv_q348 hC hS hl.1 hw ⟨Nat.le_of_ble_eq_true rfl, Nat.le_of_ble_eq_true rfl⟩ (Nat.le_of_ble_eq_true rfl) ⟨(by show _ ≤ 2; omega), (by show _ ≤ 9; omega)⟩ dX0_would_51 (fun r9 H locs hw hS => ?_)
        exact wRetl hC hS hw (by omega) (by omega) dX0_would_54
      · have hw := hw.2 c8
        refine lv_iload hx hb dX0_would_29 (lv_at hl 4 rfl) ?_
        refine inv_q267 hC hS hl.1 hw ⟨Nat.le_of_ble_eq_true rfl, Nat.le_of_ble_eq_true rfl⟩ (Nat.le_of_ble_eq_true rfl) ⟨(by show _ ≤ 2; omega), (by show _ ≤ 9; omega)⟩ dX0_would_31 (fun r10 H locs hw hS => ?_)
        refine lv_if_eq (tgt := 49) hx hb dX0_would_34 (by decide) (fun c11 => ?_) (fun c11 => ?_)
        · have hw := hw.1 c11
          refine lv_bipush (v := (-2)) hx hb dX0_would_49 (by decide) ?_
          refine inv_q348 hC hS hl.1 hw ⟨Nat.le_of_ble_eq_true rfl, Nat.le_of_ble_eq_true rfl⟩ (Nat.le_of_ble_eq_true rfl) ⟨(by show _ ≤ 2; omega), (by show _ ≤ 9; omega)⟩ dX0_would_51 (fun r12 H locs hw hS => ?_)
          exact wRetl hC hS hw (by omega) (by omega) dX0_would_54
        · have hw := hw.2 c11
          refine lv_aload_n hx hb dX0_would_37 rfl (lv_at hl 0 rfl) ?_
          refine lv_iload_n hx hb dX0_would_38 rfl (lv_at hl 1 rfl) ?_
          refine lv_iload_n hx hb dX0_would_39 rfl (lv_at hl 2 rfl) ?_
          refine lv_iload_n hx hb dX0_would_40 rfl (lv_at hl 3 rfl) ?_
          refine lv_iload hx hb dX0_would_41 (lv_at hl 4 rfl) ?_
          refine inv_q671 hC hA hfl hS hl.1 hw ⟨Nat.le_of_ble_eq_true rfl, Nat.le_of_ble_eq_true rfl⟩ (Nat.le_of_ble_eq_true rfl) ⟨(by show _ ≤ 2; omega), (by show _ ≤ 9; omega)⟩ dX0_would_43 (fun r13 X14 vs H locs hw hv9 hS => ?_)
          refine lv_goto (tgt := 54) hx hb dX0_would_46 (by decide) ?_
          exact wRetl hC hS hw (by omega) (by omega) dX0_would_54
abbrev v_X0_would (X : XS) (p1 : Int32) (p2 : Int32) (p3 : Int32) (p4 : Int32) (post : Int64 → XS → Prop) : Prop := w_X0_would p1 p2 p3 p4 post X
set_option maxHeartbeats 4000000 in
set_option maxRecDepth 100000 in
theorem met_X0_would (l : Launch) (hfl : l.stackTraces = false) (D : va_G) (dT : Nat → ClassId) (a : Nat → Nat) (sz : Nat) (X : XS) (vs0 : XE) (p1 : Int32) (p2 : Int32) (p3 : Int32) (p4 : Int32) (post : Int64 → XS → Prop) (hw : v_X0_would X p1 p2 p3 p4 post) : Met l yX0_would (ws_ yX0_would cX0_would 5 (some .long)) rmX0_would (wPc D dT (XW dT a) (XI vs0) sz (X, vs0) [.ref (a 0), .int p1, .int p2, .int p3, .int p4]) (va_Ql (fun r u9 => post r u9.1) (wB D (XW dT a) (XI vs0) (va_A ((XW dT a) (X, vs0)) sz)) (va_A ((XW dT a) (X, vs0)) sz)) 2 9 (va_A ((XW dT a) (X, vs0)) sz) :=
  wEnt (Q := fun A => (va_Ql (fun r u9 => post r u9.1) (wB D (XW dT a) (XI vs0) A) A)) (by decide) (Nat.le_of_ble_eq_true rfl) (fun p e s m below meth c A ls hC _ hA hS hl => k_X0_would_0 hC hA hfl _ hS hl ⟨by omega, by omega⟩ hw) sz
theorem hd_X0_would : yX0_would.cls ≠ "java/lang/invoke/MethodHandle" ∧ yX0_would.cls ≠ "java/lang/invoke/VarHandle" ∧ (parseMethodDescriptor yX0_would.desc).map (fun d => d.parameters.length) = some 4 := by decide +kernel
/-! LeastFrames.proves -/
def w_X0_proves (post : Int32 → XS → Prop) (X : XS) : Prop :=
  v_X0_looks X (fun r1 X2 => v_X0_provesNow X2 (fun r3 => post r3 X2))
abbrev rmX0_proves : Room := { frames := 12, cells := 25, slots := 115, locals := 273 }
set_option maxHeartbeats 4000000 in
set_option maxRecDepth 100000 in
theorem k_X0_proves_0 {p : Program} {l : Launch} {e : Env} {s : State} {m : MethodId} {args : Array Value} {below : List Frame} {meth : Method} {c : Code} {D : va_G} {dT : Nat → ClassId} {a : Nat → Nat} {A : Nat → Prop} {vs0 : XE} {post : Int32 → XS → Prop} (hC : wCx RX0 cX0_proves 1 (some .int) D dT p s m args meth c) (hA : wAz A s) (hfl : l.stackTraces = false) (X : XS) {vs : XE} {H : Heap} {locs : List Loc} {ls : Array Slot} {cells slots : Nat} (hS : StX D dT a A s vs0 X vs H locs) (hl : lv_has ls 1 [(0, .ref (a 0))]) (hc : cells + 25 ≤ 25 ∧ slots + 115 ≤ 115) (hw : w_X0_proves post X) : W p l e rmX0_proves s m args below meth c H locs cells slots (MQ below (va_Qi (fun r u9 => post r u9.1) (wB D (XW dT a) (XI vs0) A) A) args s 25 115 A) (F0 m 0 ls []) := by
  have hx := hC.1
  have hb := hC.2.1
  have hown := hC.2.2.2.1
  have hts := hC.2.2.2.2.1
  unfold w_X0_proves at hw
  obtain ⟨hc1, hc2⟩ := hc
  refine lv_aload_n hx hb dX0_proves_0 rfl (lv_at hl 0 rfl) ?_
  refine inv_q352 hC hA hfl hS hl.1 hw ⟨Nat.le_of_ble_eq_true rfl, Nat.le_of_ble_eq_true rfl⟩ (Nat.le_of_ble_eq_true rfl) ⟨(by show _ ≤ 25; omega), (by show _ ≤ 115; omega)⟩ dX0_proves_1 (fun r1 X2 vs H locs hw hv9 hS => ?_)
  refine lv_pop hx hb dX0_proves_4 rfl ?_
  refine lv_aload_n hx hb dX0_proves_5 rfl (lv_at hl 0 rfl) ?_
  refine inv_q707 hC hA hS hl.1 hw ⟨Nat.le_of_ble_eq_true rfl, Nat.le_of_ble_eq_true rfl⟩ (Nat.le_of_ble_eq_true rfl) ⟨(by show _ ≤ 25; omega), (by show _ ≤ 115; omega)⟩ dX0_proves_6 (fun r3 H locs hw hS => ?_)
  exact wReti hC hS hw (by omega) (by omega) dX0_proves_9
abbrev v_X0_proves (X : XS) (post : Int32 → XS → Prop) : Prop := w_X0_proves post X
set_option maxHeartbeats 4000000 in
set_option maxRecDepth 100000 in
theorem met_X0_proves (l : Launch) (hfl : l.stackTraces = false) (D : va_G) (dT : Nat → ClassId) (a : Nat → Nat) (sz : Nat) (X : XS) (vs0 : XE) (post : Int32 → XS → Prop) (hw : v_X0_proves X post) : Met l yX0_proves (ws_ yX0_proves cX0_proves 1 (some .int)) rmX0_proves (wPc D dT (XW dT a) (XI vs0) sz (X, vs0) [.ref (a 0)]) (va_Qi (fun r u9 => post r u9.1) (wB D (XW dT a) (XI vs0) (va_A ((XW dT a) (X, vs0)) sz)) (va_A ((XW dT a) (X, vs0)) sz)) 25 115 (va_A ((XW dT a) (X, vs0)) sz) :=
  wEnt (Q := fun A => (va_Qi (fun r u9 => post r u9.1) (wB D (XW dT a) (XI vs0) A) A)) (by decide) (Nat.le_of_ble_eq_true rfl) (fun p e s m below meth c A ls hC _ hA hS hl => k_X0_proves_0 hC hA hfl _ hS hl ⟨by omega, by omega⟩ hw) sz
theorem hd_X0_proves : yX0_proves.cls ≠ "java/lang/invoke/MethodHandle" ∧ yX0_proves.cls ≠ "java/lang/invoke/VarHandle" ∧ (parseMethodDescriptor yX0_proves.desc).map (fun d => d.parameters.length) = some 0 := by decide +kernel
/-! LeastFrames.cross -/
def w_X0_cross (p1 : Int32) (p2 : Int32) (post : Int32 → XS → Prop) (X : XS) : Prop :=
  (p1 < (0 : Int32) → (post ((-2) : Int32) X)) ∧ (¬ p1 < (0 : Int32) → (v_X0_in p2.toInt64 (0 : Int64) (5 : Int64) (fun r2 => (r2 = (0 : Int32) → (post ((-2) : Int32) X)) ∧ (¬ r2 = (0 : Int32) → (v_X0_looks X (fun r4 X5 => (r4 = (0 : Int32) → (post ((-3) : Int32) X5)) ∧ (¬ r4 = (0 : Int32) → (v_X0_crossed X5 p1 (fun r7 X8 => (r7 = (0 : Int32) → (post ((-2) : Int32) X8)) ∧ (¬ r7 = (0 : Int32) → (v_X0_crossBy X8 p2 (fun r10 => post r10 X8))))))))))))
abbrev rmX0_cross : Room := { frames := 12, cells := 25, slots := 115, locals := 273 }
set_option maxHeartbeats 4000000 in
set_option maxRecDepth 100000 in
theorem k_X0_cross_0 {p : Program} {l : Launch} {e : Env} {s : State} {m : MethodId} {args : Array Value} {below : List Frame} {meth : Method} {c : Code} {D : va_G} {dT : Nat → ClassId} {a : Nat → Nat} {A : Nat → Prop} {vs0 : XE} {p1 : Int32} {p2 : Int32} {post : Int32 → XS → Prop} (hC : wCx RX0 cX0_cross 3 (some .int) D dT p s m args meth c) (hA : wAz A s) (hfl : l.stackTraces = false) (X : XS) {vs : XE} {H : Heap} {locs : List Loc} {ls : Array Slot} {cells slots : Nat} (hS : StX D dT a A s vs0 X vs H locs) (hl : lv_has ls 3 [(0, .ref (a 0)), (1, .int p1), (2, .int p2)]) (hc : cells + 25 ≤ 25 ∧ slots + 115 ≤ 115) (hw : w_X0_cross p1 p2 post X) : W p l e rmX0_cross s m args below meth c H locs cells slots (MQ below (va_Qi (fun r u9 => post r u9.1) (wB D (XW dT a) (XI vs0) A) A) args s 25 115 A) (F0 m 0 ls []) := by
  have hx := hC.1
  have hb := hC.2.1
  have hown := hC.2.2.2.1
  have hts := hC.2.2.2.2.1
  unfold w_X0_cross at hw
  obtain ⟨hc1, hc2⟩ := hc
  refine lv_iload_n hx hb dX0_cross_0 rfl (lv_at hl 1 rfl) ?_
  refine lv_if_lt (tgt := 16) hx hb dX0_cross_1 (by decide) (fun c1 => ?_) (fun c1 => ?_)
  · have hw := hw.1 c1
    refine lv_bipush (v := (-2)) hx hb dX0_cross_16 (by decide) ?_
    exact wReti hC hS hw (by omega) (by omega) dX0_cross_18
  · have hw := hw.2 c1
    refine lv_iload_n hx hb dX0_cross_4 rfl (lv_at hl 2 rfl) ?_
    refine lv_i2l hx hb dX0_cross_5 rfl ?_
    refine lv_lconst (v := 0) hx hb dX0_cross_6 (by decide) ?_
    refine lv_ldc2 (v := 5) hx hb hown (hts _ q718) dX0_cross_7 ?_
    refine inv_q239 hC hS hl.1 hw ⟨Nat.le_of_ble_eq_true rfl, Nat.le_of_ble_eq_true rfl⟩ (Nat.le_of_ble_eq_true rfl) ⟨(by show _ ≤ 25; omega), (by show _ ≤ 115; omega)⟩ dX0_cross_10 (fun r2 H locs hw hS => ?_)
    refine lv_if_ne (tgt := 19) hx hb dX0_cross_13 (by decide) (fun c3 => ?_) (fun c3 => ?_)
    · have hw := hw.2 c3
      refine lv_aload_n hx hb dX0_cross_19 rfl (lv_at hl 0 rfl) ?_
      refine inv_q352 hC hA hfl hS hl.1 hw ⟨Nat.le_of_ble_eq_true rfl, Nat.le_of_ble_eq_true rfl⟩ (Nat.le_of_ble_eq_true rfl) ⟨(by show _ ≤ 25; omega), (by show _ ≤ 115; omega)⟩ dX0_cross_20 (fun r4 X5 vs H locs hw hv9 hS => ?_)
      refine lv_if_ne (tgt := 29) hx hb dX0_cross_23 (by decide) (fun c6 => ?_) (fun c6 => ?_)
      · have hw := hw.2 c6
        refine lv_aload_n hx hb dX0_cross_29 rfl (lv_at hl 0 rfl) ?_
        refine lv_iload_n hx hb dX0_cross_30 rfl (lv_at hl 1 rfl) ?_
        refine inv_q719 hC hA hS hl.1 hw ⟨Nat.le_of_ble_eq_true rfl, Nat.le_of_ble_eq_true rfl⟩ (Nat.le_of_ble_eq_true rfl) ⟨(by show _ ≤ 25; omega), (by show _ ≤ 115; omega)⟩ dX0_cross_31 (fun r7 X8 vs H locs hw hv9 hS => ?_)
        refine lv_if_eq (tgt := 45) hx hb dX0_cross_34 (by decide) (fun c9 => ?_) (fun c9 => ?_)
        · have hw := hw.1 c9
          refine lv_bipush (v := (-2)) hx hb dX0_cross_45 (by decide) ?_
          exact wReti hC hS hw (by omega) (by omega) dX0_cross_47
        · have hw := hw.2 c9
          refine lv_aload_n hx hb dX0_cross_37 rfl (lv_at hl 0 rfl) ?_
          refine lv_iload_n hx hb dX0_cross_38 rfl (lv_at hl 2 rfl) ?_
          refine inv_q734 hC hA hS hl.1 hw ⟨Nat.le_of_ble_eq_true rfl, Nat.le_of_ble_eq_true rfl⟩ (Nat.le_of_ble_eq_true rfl) ⟨(by show _ ≤ 25; omega), (by show _ ≤ 115; omega)⟩ dX0_cross_39 (fun r10 H locs hw hS => ?_)
          refine lv_goto (tgt := 47) hx hb dX0_cross_42 (by decide) ?_
          exact wReti hC hS hw (by omega) (by omega) dX0_cross_47
      · have hw := hw.1 c6
        refine lv_bipush (v := (-3)) hx hb dX0_cross_26 (by decide) ?_
        exact wReti hC hS hw (by omega) (by omega) dX0_cross_28
    · have hw := hw.1 c3
      refine lv_bipush (v := (-2)) hx hb dX0_cross_16 (by decide) ?_
      exact wReti hC hS hw (by omega) (by omega) dX0_cross_18
abbrev v_X0_cross (X : XS) (p1 : Int32) (p2 : Int32) (post : Int32 → XS → Prop) : Prop := w_X0_cross p1 p2 post X
set_option maxHeartbeats 4000000 in
set_option maxRecDepth 100000 in
theorem met_X0_cross (l : Launch) (hfl : l.stackTraces = false) (D : va_G) (dT : Nat → ClassId) (a : Nat → Nat) (sz : Nat) (X : XS) (vs0 : XE) (p1 : Int32) (p2 : Int32) (post : Int32 → XS → Prop) (hw : v_X0_cross X p1 p2 post) : Met l yX0_cross (ws_ yX0_cross cX0_cross 3 (some .int)) rmX0_cross (wPc D dT (XW dT a) (XI vs0) sz (X, vs0) [.ref (a 0), .int p1, .int p2]) (va_Qi (fun r u9 => post r u9.1) (wB D (XW dT a) (XI vs0) (va_A ((XW dT a) (X, vs0)) sz)) (va_A ((XW dT a) (X, vs0)) sz)) 25 115 (va_A ((XW dT a) (X, vs0)) sz) :=
  wEnt (Q := fun A => (va_Qi (fun r u9 => post r u9.1) (wB D (XW dT a) (XI vs0) A) A)) (by decide) (Nat.le_of_ble_eq_true rfl) (fun p e s m below meth c A ls hC _ hA hS hl => k_X0_cross_0 hC hA hfl _ hS hl ⟨by omega, by omega⟩ hw) sz
theorem hd_X0_cross : yX0_cross.cls ≠ "java/lang/invoke/MethodHandle" ∧ yX0_cross.cls ≠ "java/lang/invoke/VarHandle" ∧ (parseMethodDescriptor yX0_cross.desc).map (fun d => d.parameters.length) = some 2 := by decide +kernel
/-! LeastFrames.write -/
def w_X0_write_57b (p1 : Int32) (K57 : XS → Nat → Int32 → Int32 → Prop) (post : Int32 → XS → Prop) (X : XS) (x2 : Nat) (x3 : Int32) (x4 : Int32) : Prop :=
  (x3 ≤ x4 → (post x3 X)) ∧ (¬ x3 ≤ x4 → (v_X0_pullBy X (x4 / 2) (x4 - x4 / 2 * 2) (fun r2 => v_X3_lays X x2 x4 r2 (fun  X3 => ∀ v4 : Int32, v4 = x4 + 1 → (K57 X3 x2 x3 v4)))))
def w_X0_write_57 (p1 : Int32) (post : Int32 → XS → Prop) : Nat → XS → Nat → Int32 → Int32 → Prop
  | 0, _, _, _, _ => False
  | n + 1, X, x2, x3, x4 => w_X0_write_57b p1 (w_X0_write_57 p1 post n) post X x2 x3 x4
def w_X0_write (p1 : Int32) (post : Int32 → XS → Prop) (X : XS) : Prop :=
  v_X0_isSheet p1 (fun r1 => (r1 = (0 : Int32) → (post ((-2) : Int32) X)) ∧ (¬ r1 = (0 : Int32) → (vp_in p1 4 ∧ ((X_sr X p1.toNatClampNeg = none → (v_X0_finds X (1 : Int32) (fun r5 X6 => post r5 X6))) ∧ (∀ r4, X_sr X p1.toNatClampNeg = some r4 → (v_X0_looks X (fun r7 X8 => (r7 = (0 : Int32) → (post ((-3) : Int32) X8)) ∧ (¬ r7 = (0 : Int32) → (v_X3_size X8 p1.toNatClampNeg (fun r10 => v_X0_pairs X8 (fun r11 => v_J2_min r10 (2 * r11) (fun r12 => ∃ n, w_X0_write_57 p1 post n X8 p1.toNatClampNeg r12 0))))))))))))
abbrev rmX0_write : Room := { frames := 12, cells := 25, slots := 115, locals := 273 }
set_option maxHeartbeats 4000000 in
set_option maxRecDepth 100000 in
theorem k_X0_write_57b {p : Program} {l : Launch} {e : Env} {s : State} {m : MethodId} {args : Array Value} {below : List Frame} {meth : Method} {c : Code} {D : va_G} {dT : Nat → ClassId} {a : Nat → Nat} {A : Nat → Prop} {vs0 : XE} {p1 : Int32} {K57 : XS → Nat → Int32 → Int32 → Prop} {post : Int32 → XS → Prop} (hC : wCx RX0 cX0_write 5 (some .int) D dT p s m args meth c) (hA : wAz A s) (hfl : l.stackTraces = false) (hK57 : ∀ (X : XS) (x2 : Nat) (x3 : Int32) (x4 : Int32), K57 X x2 x3 x4 → ∀ {vs : XE} {H : Heap} {locs : List Loc} {ls : Array Slot} {cells slots : Nat}, x2 < 4 → StX D dT a A s vs0 X vs H locs → lv_has ls 5 [(0, .ref (a 0)), (2, .ref (a (18 + x2))), (3, .int x3), (4, .int x4)] → cells + 0 ≤ 25 ∧ slots + 0 ≤ 115 → W p l e rmX0_write s m args below meth c H locs cells slots (MQ below (va_Qi (fun r u9 => post r u9.1) (wB D (XW dT a) (XI vs0) A) A) args s 25 115 A) (F0 m 57 ls [])) (X : XS) (x2 : Nat) (x3 : Int32) (x4 : Int32) {vs : XE} {H : Heap} {locs : List Loc} {ls : Array Slot} {cells slots : Nat} (f_x2 : x2 < 4) (hS : StX D dT a A s vs0 X vs H locs) (hl : lv_has ls 5 [(0, .ref (a 0)), (2, .ref (a (18 + x2))), (3, .int x3), (4, .int x4)]) (hc : cells + 0 ≤ 25 ∧ slots + 0 ≤ 115) (hw : w_X0_write_57b p1 K57 post X x2 x3 x4) : W p l e rmX0_write s m args below meth c H locs cells slots (MQ below (va_Qi (fun r u9 => post r u9.1) (wB D (XW dT a) (XI vs0) A) A) args s 25 115 A) (F0 m 57 ls []) := by
  have hx := hC.1
  have hb := hC.2.1
  have hown := hC.2.2.2.1
  have hts := hC.2.2.2.2.1
  unfold w_X0_write_57b at hw
  obtain ⟨hc1, hc2⟩ := hc
  refine lv_iload hx hb dX0_write_57 (lv_at hl 3 rfl) ?_
  refine lv_iload_n hx hb dX0_write_59 rfl (lv_at hl 2 rfl) ?_
  refine lv_icmp_ge (tgt := 87) hx hb dX0_write_60 (by decide) (fun c1 => ?_) (fun c1 => ?_)
  · have hw := hw.1 c1
    refine lv_iload_n hx hb dX0_write_87 rfl (lv_at hl 2 rfl) ?_
    exact wReti hC hS hw (by omega) (by omega) dX0_write_88
  · have hw := hw.2 c1
    refine lv_aload_n hx hb dX0_write_63 rfl (lv_at hl 1 rfl) ?_
    refine lv_iload hx hb dX0_write_64 (lv_at hl 3 rfl) ?_
    refine lv_aload_n hx hb dX0_write_66 rfl (lv_at hl 0 rfl) ?_
    refine lv_iload hx hb dX0_write_67 (lv_at hl 3 rfl) ?_
    refine lv_iconst (v := 2) hx hb dX0_write_69 (by decide) ?_
    refine lv_idiv hx hb dX0_write_70 (by decide) ?_
    refine lv_iload hx hb dX0_write_71 (lv_at hl 3 rfl) ?_
    refine lv_iconst (v := 2) hx hb dX0_write_73 (by decide) ?_
    refine lv_irem hx hb dX0_write_74 (by decide) ?_
    refine inv_q551 hC hA hS hl.1 hw ⟨Nat.le_of_ble_eq_true rfl, Nat.le_of_ble_eq_true rfl⟩ (Nat.le_of_ble_eq_true rfl) ⟨(by show _ ≤ 25; omega), (by show _ ≤ 115; omega)⟩ dX0_write_75 (fun r2 H locs hw hS => ?_)
    refine inv_q899 hC hA hS f_x2 hl.1 hw ⟨Nat.le_of_ble_eq_true rfl, Nat.le_of_ble_eq_true rfl⟩ (Nat.le_of_ble_eq_true rfl) ⟨(by show _ ≤ 25; omega), (by show _ ≤ 115; omega)⟩ dX0_write_78 (fun  X3 vs H locs hw hv9 hS => ?_)
    obtain ⟨v4, ev4⟩ : ∃ y : Int32, y = x4 + 1 := ⟨_, rfl⟩
    have hw := hw v4 ev4
    refine lv_iinc (v := v4) (lv' := [(4, .int v4), (0, .ref (a 0)), (2, .ref (a (18 + x2))), (3, .int x3)]) hx hb dX0_write_81 hl (k := 3) rfl (by rw [ev4]; rfl) (by decide) rfl (fun ls hl => ?_)
    refine lv_goto (tgt := 57) hx hb dX0_write_84 (by decide) ?_
    exact hK57 _ _ _ _ hw f_x2 hS (lv_sub hl [1, 2, 3, 0] rfl) ⟨by omega, by omega⟩
set_option maxHeartbeats 4000000 in
set_option maxRecDepth 100000 in
theorem k_X0_write_57 {p : Program} {l : Launch} {e : Env} {s : State} {m : MethodId} {args : Array Value} {below : List Frame} {meth : Method} {c : Code} {D : va_G} {dT : Nat → ClassId} {a : Nat → Nat} {A : Nat → Prop} {vs0 : XE} {p1 : Int32} {post : Int32 → XS → Prop} (hC : wCx RX0 cX0_write 5 (some .int) D dT p s m args meth c) (hA : wAz A s) (hfl : l.stackTraces = false) : ∀ (X : XS) (x2 : Nat) (x3 : Int32) (x4 : Int32) (n : Nat), ∀ {vs : XE} {H : Heap} {locs : List Loc} {ls : Array Slot} {cells slots : Nat}, x2 < 4 → StX D dT a A s vs0 X vs H locs → lv_has ls 5 [(0, .ref (a 0)), (2, .ref (a (18 + x2))), (3, .int x3), (4, .int x4)] → cells + 0 ≤ 25 ∧ slots + 0 ≤ 115 → w_X0_write_57 p1 post n X x2 x3 x4 → W p l e rmX0_write s m args below meth c H locs cells slots (MQ below (va_Qi (fun r u9 => post r u9.1) (wB D (XW dT a) (XI vs0) A) A) args s 25 115 A) (F0 m 57 ls []) := by
  intro X x2 x3 x4 n
  induction n generalizing X x2 x3 x4 with
  | zero => intro vs H locs ls cells slots f_x2 hS hl hc hw; exact hw.elim
  | succ n ih =>
    intro vs H locs ls cells slots f_x2 hS hl hc hw
    exact k_X0_write_57b hC hA hfl (fun X x2 x3 x4 hk {vs} {H} {locs} {ls} {cells} {slots} f_x2 hS hl hc => ih X x2 x3 x4 f_x2 hS hl hc hk) X x2 x3 x4 f_x2 hS hl hc hw
set_option maxHeartbeats 4000000 in
set_option maxRecDepth 100000 in
theorem k_X0_write_0 {p : Program} {l : Launch} {e : Env} {s : State} {m : MethodId} {args : Array Value} {below : List Frame} {meth : Method} {c : Code} {D : va_G} {dT : Nat → ClassId} {a : Nat → Nat} {A : Nat → Prop} {vs0 : XE} {p1 : Int32} {post : Int32 → XS → Prop} (hC : wCx RX0 cX0_write 5 (some .int) D dT p s m args meth c) (hA : wAz A s) (hfl : l.stackTraces = false) (X : XS) {vs : XE} {H : Heap} {locs : List Loc} {ls : Array Slot} {cells slots : Nat} (hS : StX D dT a A s vs0 X vs H locs) (hl : lv_has ls 5 [(0, .ref (a 0)), (1, .int p1)]) (hc : cells + 25 ≤ 25 ∧ slots + 115 ≤ 115) (hw : w_X0_write p1 post X) : W p l e rmX0_write s m args below meth c H locs cells slots (MQ below (va_Qi (fun r u9 => post r u9.1) (wB D (XW dT a) (XI vs0) A) A) args s 25 115 A) (F0 m 0 ls []) := by
  have hx := hC.1
  have hb := hC.2.1
  have hown := hC.2.2.2.1
  have hts := hC.2.2.2.2.1
  unfold w_X0_write at hw
  obtain ⟨hc1, hc2⟩ := hc
  refine lv_iload_n hx hb dX0_write_0 rfl (lv_at hl 1 rfl) ?_
  refine inv_q289 hC hS hl.1 hw ⟨Nat.le_of_ble_eq_true rfl, Nat.le_of_ble_eq_true rfl⟩ (Nat.le_of_ble_eq_true rfl) ⟨(by show _ ≤ 25; omega), (by show _ ≤ 115; omega)⟩ dX0_write_1 (fun r1 H locs hw hS => ?_)
  refine lv_if_ne (tgt := 10) hx hb dX0_write_4 (by decide) (fun c2 => ?_) (fun c2 => ?_)
  · have hw := hw.2 c2
    refine lv_aload_n hx hb dX0_write_10 rfl (lv_at hl 0 rfl) ?_
    refine ld_q206 hC hS dX0_write_11 ?_
    refine lv_iload_n hx hb dX0_write_14 rfl (lv_at hl 1 rfl) ?_
    have hi3 := hw.1
    have hw := hw.2
    refine aa_SA hC hS hi3 dX0_write_15 ?_
    refine lv_astore_n (lv' := [(2, .ref (a (18 + p1.toNatClampNeg))), (0, .ref (a 0)), (1, .int p1)]) hx hb dX0_write_16 rfl hl (by decide) rfl (fun ls hl => ?_)
    refine lv_aload_n hx hb dX0_write_17 rfl (lv_at hl 0 rfl) ?_
    refine ld_q188 hC hS (vp_lt hi3) dX0_write_18 ?_
    refine opt_nn (tgt := 30) hx hb dX0_write_21 (by decide) (fun hr4 => ?_) (fun r4 hr4 => ?_)
    · have hw := hw.1 hr4
      refine lv_aload_n hx hb dX0_write_24 rfl (lv_at hl 1 rfl) ?_
      refine lv_iconst (v := 1) hx hb dX0_write_25 (by decide) ?_
      refine inv_q292 hC hA hS hl.1 hw ⟨Nat.le_of_ble_eq_true rfl, Nat.le_of_ble_eq_true rfl⟩ (Nat.le_of_ble_eq_true rfl) ⟨(by show _ ≤ 25; omega), (by show _ ≤ 115; omega)⟩ dX0_write_26 (fun r5 X6 vs H locs hw hv9 hS => ?_)
      exact wReti hC hS hw (by omega) (by omega) dX0_write_29
    · have hw := hw.2 _ hr4
      refine lv_aload_n hx hb dX0_write_30 rfl (lv_at hl 1 rfl) ?_
      refine inv_q352 hC hA hfl hS hl.1 hw ⟨Nat.le_of_ble_eq_true rfl, Nat.le_of_ble_eq_true rfl⟩ (Nat.le_of_ble_eq_true rfl) ⟨(by show _ ≤ 25; omega), (by show _ ≤ 115; omega)⟩ dX0_write_31 (fun r7 X8 vs H locs hw hv9 hS => ?_)
      refine lv_if_ne (tgt := 40) hx hb dX0_write_34 (by decide) (fun c9 => ?_) (fun c9 => ?_)
      · have hw := hw.2 c9
        refine lv_aload_n hx hb dX0_write_40 rfl (lv_at hl 0 rfl) ?_
        refine inv_q296 hC hA hS (vp_lt hi3) hl.1 hw ⟨Nat.le_of_ble_eq_true rfl, Nat.le_of_ble_eq_true rfl⟩ (Nat.le_of_ble_eq_true rfl) ⟨(by show _ ≤ 25; omega), (by show _ ≤ 115; omega)⟩ dX0_write_41 (fun r10 H locs hw hS => ?_)
        refine lv_iconst (v := 2) hx hb dX0_write_44 (by decide) ?_
        refine lv_aload_n hx hb dX0_write_45 rfl (lv_at hl 1 rfl) ?_
        refine inv_q250 hC hA hS hl.1 hw ⟨Nat.le_of_ble_eq_true rfl, Nat.le_of_ble_eq_true rfl⟩ (Nat.le_of_ble_eq_true rfl) ⟨(by show _ ≤ 25; omega), (by show _ ≤ 115; omega)⟩ dX0_write_46 (fun r11 H locs hw hS => ?_)
        refine lv_imul hx hb dX0_write_49 ?_
        refine inv_q896 hC hS hl.1 hw ⟨Nat.le_of_ble_eq_true rfl, Nat.le_of_ble_eq_true rfl⟩ (Nat.le_of_ble_eq_true rfl) ⟨(by show _ ≤ 25; omega), (by show _ ≤ 115; omega)⟩ dX0_write_50 (fun r12 H locs hw hS => ?_)
        refine lv_istore_n (lv' := [(3, .int r12), (2, .ref (a (18 + p1.toNatClampNeg))), (0, .ref (a 0)), (1, .int p1)]) hx hb dX0_write_53 rfl hl (by decide) rfl (fun ls hl => ?_)
        refine lv_iconst (v := 0) hx hb dX0_write_54 (by decide) ?_
        refine lv_istore (lv' := [(4, .int 0), (3, .int r12), (2, .ref (a (18 + p1.toNatClampNeg))), (0, .ref (a 0)), (1, .int p1)]) hx hb dX0_write_55 hl (by decide) rfl (fun ls hl => ?_)
        obtain ⟨n, hw⟩ := hw
        exact k_X0_write_57 hC hA hfl _ _ _ _ n (vp_lt hi3) hS (lv_sub hl [3, 2, 1, 0] rfl) ⟨by omega, by omega⟩ hw
      · have hw := hw.1 c9
        refine lv_bipush (v := (-3)) hx hb dX0_write_37 (by decide) ?_
        exact wReti hC hS hw (by omega) (by omega) dX0_write_39
  · have hw := hw.1 c2
    refine lv_bipush (v := (-2)) hx hb dX0_write_7 (by decide) ?_
    exact wReti hC hS hw (by omega) (by omega) dX0_write_9
abbrev v_X0_write (X : XS) (p1 : Int32) (post : Int32 → XS → Prop) : Prop := w_X0_write p1 post X
set_option maxHeartbeats 4000000 in
set_option maxRecDepth 100000 in
theorem met_X0_write (l : Launch) (hfl : l.stackTraces = false) (D : va_G) (dT : Nat → ClassId) (a : Nat → Nat) (sz : Nat) (X : XS) (vs0 : XE) (p1 : Int32) (post : Int32 → XS → Prop) (hw : v_X0_write X p1 post) : Met l yX0_write (ws_ yX0_write cX0_write 5 (some .int)) rmX0_write (wPc D dT (XW dT a) (XI vs0) sz (X, vs0) [.ref (a 0), .int p1]) (va_Qi (fun r u9 => post r u9.1) (wB D (XW dT a) (XI vs0) (va_A ((XW dT a) (X, vs0)) sz)) (va_A ((XW dT a) (X, vs0)) sz)) 25 115 (va_A ((XW dT a) (X, vs0)) sz) :=
  wEnt (Q := fun A => (va_Qi (fun r u9 => post r u9.1) (wB D (XW dT a) (XI vs0) A) A)) (by decide) (Nat.le_of_ble_eq_true rfl) (fun p e s m below meth c A ls hC _ hA hS hl => k_X0_write_0 hC hA hfl _ hS hl ⟨by omega, by omega⟩ hw) sz
theorem hd_X0_write : yX0_write.cls ≠ "java/lang/invoke/MethodHandle" ∧ yX0_write.cls ≠ "java/lang/invoke/VarHandle" ∧ (parseMethodDescriptor yX0_write.desc).map (fun d => d.parameters.length) = some 1 := by decide +kernel
/-! LeastFrames.countBy -/
def w_X0_countBy_12 (p1 : Int32) (post : Int32 → XS → Prop) (X : XS) (y0 : Int32) : Prop :=
  ((p1 = 0 → (post (X_many X) X)) ∧ (¬ p1 = 0 → ((p1 = 1 → (v_J3_bitCount (X_bars X) (fun r2 => post r2 X))) ∧ (¬ p1 = 1 → ((p1 = 2 → (v_X0_waysNow X (fun r3 => post r3 X))) ∧ (¬ p1 = 2 → ((p1 = 3 → ((y0 = (0 : Int32) → (post ((-1) : Int32) X)) ∧ (¬ y0 = (0 : Int32) → (v_J3_bitCount (X_frame X) (fun r5 => post r5 X))))) ∧ (¬ p1 = 3 → ((p1 = 4 → ((y0 = (0 : Int32) → (post ((-1) : Int32) X)) ∧ (¬ y0 = (0 : Int32) → (v_X0_neededNow X (fun r7 X8 => v_J3_bitCount r7 (fun r9 => post r9 X8)))))) ∧ (¬ p1 = 4 → ((p1 = 5 → ((y0 = (0 : Int32) → (post (0 : Int32) X)) ∧ (¬ y0 = (0 : Int32) → (post (1 : Int32) X)))) ∧ (¬ p1 = 5 → ((p1 = 6 → ((y0 = (0 : Int32) → (post ((-1) : Int32) X)) ∧ (¬ y0 = (0 : Int32) → (v_X0_crossings X (fun r12 X13 => post r12 X13))))) ∧ (¬ p1 = 6 → ((p1 = 7 → (v_X0_provesNow X (fun r14 => post r14 X))) ∧ (¬ p1 = 7 → ((p1 = 8 → (post (X_latest X) X)) ∧ (¬ p1 = 8 → (post ((-2) : Int32) X)))))))))))))))))))
def w_X0_countBy (p1 : Int32) (post : Int32 → XS → Prop) (X : XS) : Prop :=
  (X_least X = none → (w_X0_countBy_12 p1 post X 0)) ∧ (∀ v1, X_least X = some v1 → (w_X0_countBy_12 p1 post X 1))
abbrev rmX0_countBy : Room := { frames := 11, cells := 33, slots := 176, locals := 253 }
set_option maxHeartbeats 4000000 in
set_option maxRecDepth 100000 in
theorem k_X0_countBy_12 {p : Program} {l : Launch} {e : Env} {s : State} {m : MethodId} {args : Array Value} {below : List Frame} {meth : Method} {c : Code} {D : va_G} {dT : Nat → ClassId} {a : Nat → Nat} {A : Nat → Prop} {vs0 : XE} {p1 : Int32} {post : Int32 → XS → Prop} (hC : wCx RX0 cX0_countBy 3 (some .int) D dT p s m args meth c) (hA : wAz A s) (hfl : l.stackTraces = false) (X : XS) (y0 : Int32) {vs : XE} {H : Heap} {locs : List Loc} {ls : Array Slot} {cells slots : Nat} (hS : StX D dT a A s vs0 X vs H locs) (hl : lv_has ls 3 [(0, .ref (a 0)), (1, .int p1)]) (hc : cells + 33 ≤ 33 ∧ slots + 176 ≤ 176) (hw : w_X0_countBy_12 p1 post X y0) : W p l e rmX0_countBy s m args below meth c H locs cells slots (MQ below (va_Qi (fun r u9 => post r u9.1) (wB D (XW dT a) (XI vs0) A) A) args s 33 176 A) (F0 m 12 ls [.int y0]) := by
  have hx := hC.1
  have hb := hC.2.1
  have hown := hC.2.2.2.1
  have hts := hC.2.2.2.2.1
  unfold w_X0_countBy_12 at hw
  obtain ⟨hc1, hc2⟩ := hc
  refine lv_istore_n (lv' := [(2, .int y0), (0, .ref (a 0)), (1, .int p1)]) hx hb dX0_countBy_12 rfl hl (by decide) rfl (fun ls hl => ?_)
  refine lv_iload_n hx hb dX0_countBy_13 rfl (lv_at hl 2 rfl) ?_
  rcases Decidable.em (p1 = (0 : Int32)) with c1_0 | c1_0
  · have hw := hw.1 c1_0
    refine lv_tableIn (off := 50) (tgt := 64) hx hb dX0_countBy_14 (by rw [c1_0]; decide) (by rw [c1_0]; decide) (by rw [c1_0]; decide) (by decide) ?_
    refine lv_aload_n hx hb dX0_countBy_64 rfl (lv_at hl 1 rfl) ?_
    refine ld_q196 hC hS dX0_countBy_65 ?_
    exact wReti hC hS hw (by omega) (by omega) dX0_countBy_68
  have hw := hw.2 c1_0
  rcases Decidable.em (p1 = (1 : Int32)) with c1_1 | c1_1
  · have hw := hw.1 c1_1
    refine lv_tableIn (off := 55) (tgt := 69) hx hb dX0_countBy_14 (by rw [c1_1]; decide) (by rw [c1_1]; decide) (by rw [c1_1]; decide) (by decide) ?_
    refine lv_aload_n hx hb dX0_countBy_69 rfl (lv_at hl 1 rfl) ?_
    refine ld_q197 hC hS dX0_countBy_70 ?_
    refine inv_q661 hC hS hl.1 hw ⟨Nat.le_of_ble_eq_true rfl, Nat.le_of_ble_eq_true rfl⟩ (Nat.le_of_ble_eq_true rfl) ⟨(by show _ ≤ 33; omega), (by show _ ≤ 176; omega)⟩ dX0_countBy_73 (fun r2 H locs hw hS => ?_)
    exact wReti hC hS hw (by omega) (by omega) dX0_countBy_76
  have hw := hw.2 c1_1
  rcases Decidable.em (p1 = (2 : Int32)) with c1_2 | c1_2
  · have hw := hw.1 c1_2
    refine lv_tableIn (off := 63) (tgt := 77) hx hb dX0_countBy_14 (by rw [c1_2]; decide) (by rw [c1_2]; decide) (by rw [c1_2]; decide) (by decide) ?_
    refine lv_aload_n hx hb dX0_countBy_77 rfl (lv_at hl 1 rfl) ?_
    refine inv_q911 hC hA hS hl.1 hw ⟨Nat.le_of_ble_eq_true rfl, Nat.le_of_ble_eq_true rfl⟩ (Nat.le_of_ble_eq_true rfl) ⟨(by show _ ≤ 33; omega), (by show _ ≤ 176; omega)⟩ dX0_countBy_78 (fun r3 H locs hw hS => ?_)
    exact wReti hC hS hw (by omega) (by omega) dX0_countBy_81
  have hw := hw.2 c1_2
  rcases Decidable.em (p1 = (3 : Int32)) with c1_3 | c1_3
  · have hw := hw.1 c1_3
    refine lv_tableIn (off := 68) (tgt := 82) hx hb dX0_countBy_14 (by rw [c1_3]; decide) (by rw [c1_3]; decide) (by rw [c1_3]; decide) (by decide) ?_
    refine lv_iload_n hx hb dX0_countBy_82 rfl (lv_at hl 0 rfl) ?_
    refine lv_if_eq (tgt := 96) hx hb dX0_countBy_83 (by decide) (fun c4 => ?_) (fun c4 => ?_)
    · have hw := hw.1 c4
      refine lv_iconst (v := (-1)) hx hb dX0_countBy_96 (by decide) ?_
      exact wReti hC hS hw (by omega) (by omega) dX0_countBy_97
    · have hw := hw.2 c4
      refine lv_aload_n hx hb dX0_countBy_86 rfl (lv_at hl 1 rfl) ?_
      refine ld_q201 hC hS dX0_countBy_87 ?_
      refine inv_q661 hC hS hl.1 hw ⟨Nat.le_of_ble_eq_true rfl, Nat.le_of_ble_eq_true rfl⟩ (Nat.le_of_ble_eq_true rfl) ⟨(by show _ ≤ 33; omega), (by show _ ≤ 176; omega)⟩ dX0_countBy_90 (fun r5 H locs hw hS => ?_)
      refine lv_goto (tgt := 97) hx hb dX0_countBy_93 (by decide) ?_
      exact wReti hC hS hw (by omega) (by omega) dX0_countBy_97
  have hw := hw.2 c1_3
  rcases Decidable.em (p1 = (4 : Int32)) with c1_4 | c1_4
  · have hw := hw.1 c1_4
    refine lv_tableIn (off := 84) (tgt := 98) hx hb dX0_countBy_14 (by rw [c1_4]; decide) (by rw [c1_4]; decide) (by rw [c1_4]; decide) (by decide) ?_
    refine lv_iload_n hx hb dX0_countBy_98 rfl (lv_at hl 0 rfl) ?_
    refine lv_if_eq (tgt := 112) hx hb dX0_countBy_99 (by decide) (fun c6 => ?_) (fun c6 => ?_)
    · have hw := hw.1 c6
      refine lv_iconst (v := (-1)) hx hb dX0_countBy_112 (by decide) ?_
      exact wReti hC hS hw (by omega) (by omega) dX0_countBy_113
    · have hw := hw.2 c6
      refine lv_aload_n hx hb dX0_countBy_102 rfl (lv_at hl 1 rfl) ?_
      refine inv_q619 hC hA hfl hS hl.1 hw ⟨Nat.le_of_ble_eq_true rfl, Nat.le_of_ble_eq_true rfl⟩ (Nat.le_of_ble_eq_true rfl) ⟨(by show _ ≤ 33; omega), (by show _ ≤ 176; omega)⟩ dX0_countBy_103 (fun r7 X8 vs H locs hw hv9 hS => ?_)
      refine inv_q661 hC hS hl.1 hw ⟨Nat.le_of_ble_eq_true rfl, Nat.le_of_ble_eq_true rfl⟩ (Nat.le_of_ble_eq_true rfl) ⟨(by show _ ≤ 33; omega), (by show _ ≤ 176; omega)⟩ dX0_countBy_106 (fun r9 H locs hw hS => ?_)
      refine lv_goto (tgt := 113) hx hb dX0_countBy_109 (by decide) ?_
      exact wReti hC hS hw (by omega) (by omega) dX0_countBy_113
  have hw := hw.2 c1_4
  rcases Decidable.em (p1 = (5 : Int32)) with c1_5 | c1_5
  · have hw := hw.1 c1_5
    refine lv_tableIn (off := 100) (tgt := 114) hx hb dX0_countBy_14 (by rw [c1_5]; decide) (by rw [c1_5]; decide) (by rw [c1_5]; decide) (by decide) ?_
    refine lv_iload_n hx hb dX0_countBy_114 rfl (lv_at hl 0 rfl) ?_
    refine lv_if_eq (tgt := 122) hx hb dX0_countBy_115 (by decide) (fun c10 => ?_) (fun c10 => ?_)
    · have hw := hw.1 c10
      refine lv_iconst (v := 0) hx hb dX0_countBy_122 (by decide) ?_
      exact wReti hC hS hw (by omega) (by omega) dX0_countBy_123
    · have hw := hw.2 c10
      refine lv_iconst (v := 1) hx hb dX0_countBy_118 (by decide) ?_
      refine lv_goto (tgt := 123) hx hb dX0_countBy_119 (by decide) ?_
      exact wReti hC hS hw (by omega) (by omega) dX0_countBy_123
  have hw := hw.2 c1_5
  rcases Decidable.em (p1 = (6 : Int32)) with c1_6 | c1_6
  · have hw := hw.1 c1_6
    refine lv_tableIn (off := 110) (tgt := 124) hx hb dX0_countBy_14 (by rw [c1_6]; decide) (by rw [c1_6]; decide) (by rw [c1_6]; decide) (by decide) ?_
    refine lv_iload_n hx hb dX0_countBy_124 rfl (lv_at hl 0 rfl) ?_
    refine lv_if_eq (tgt := 135) hx hb dX0_countBy_125 (by decide) (fun c11 => ?_) (fun c11 => ?_)
    · have hw := hw.1 c11
      refine lv_iconst (v := (-1)) hx hb dX0_countBy_135 (by decide) ?_
      exact wReti hC hS hw (by omega) (by omega) dX0_countBy_136
    · have hw := hw.2 c11
      refine lv_aload_n hx hb dX0_countBy_128 rfl (lv_at hl 1 rfl) ?_
      refine inv_q915 hC hA hS hl.1 hw ⟨Nat.le_of_ble_eq_true rfl, Nat.le_of_ble_eq_true rfl⟩ (Nat.le_of_ble_eq_true rfl) ⟨(by show _ ≤ 33; omega), (by show _ ≤ 176; omega)⟩ dX0_countBy_129 (fun r12 X13 vs H locs hw hv9 hS => ?_)
      refine lv_goto (tgt := 136) hx hb dX0_countBy_132 (by decide) ?_
      exact wReti hC hS hw (by omega) (by omega) dX0_countBy_136
  have hw := hw.2 c1_6
  rcases Decidable.em (p1 = (7 : Int32)) with c1_7 | c1_7
  · have hw := hw.1 c1_7
    refine lv_tableIn (off := 123) (tgt := 137) hx hb dX0_countBy_14 (by rw [c1_7]; decide) (by rw [c1_7]; decide) (by rw [c1_7]; decide) (by decide) ?_
    refine lv_aload_n hx hb dX0_countBy_137 rfl (lv_at hl 1 rfl) ?_
    refine inv_q707 hC hA hS hl.1 hw ⟨Nat.le_of_ble_eq_true rfl, Nat.le_of_ble_eq_true rfl⟩ (Nat.le_of_ble_eq_true rfl) ⟨(by show _ ≤ 33; omega), (by show _ ≤ 176; omega)⟩ dX0_countBy_138 (fun r14 H locs hw hS => ?_)
    exact wReti hC hS hw (by omega) (by omega) dX0_countBy_141
  have hw := hw.2 c1_7
  rcases Decidable.em (p1 = (8 : Int32)) with c1_8 | c1_8
  · have hw := hw.1 c1_8
    refine lv_tableIn (off := 128) (tgt := 142) hx hb dX0_countBy_14 (by rw [c1_8]; decide) (by rw [c1_8]; decide) (by rw [c1_8]; decide) (by decide) ?_
    refine lv_aload_n hx hb dX0_countBy_142 rfl (lv_at hl 1 rfl) ?_
    refine ld_q192 hC hS dX0_countBy_143 ?_
    exact wReti hC hS hw (by omega) (by omega) dX0_countBy_146
  have hw := hw.2 c1_8
  refine lv_tableOut (tgt := 147) hx hb dX0_countBy_14 (sw_out (n := 9) (lt_s (lt_s (lt_s (lt_s (lt_s (lt_s (lt_s (lt_s (lt_s lt_0 c1_0) c1_1) c1_2) c1_3) c1_4) c1_5) c1_6) c1_7) c1_8) (by decide) (by decide)) (by decide) ?_
  refine lv_bipush (v := (-2)) hx hb dX0_countBy_147 (by decide) ?_
  exact wReti hC hS hw (by omega) (by omega) dX0_countBy_149
set_option maxHeartbeats 4000000 in
set_option maxRecDepth 100000 in
theorem k_X0_countBy_0 {p : Program} {l : Launch} {e : Env} {s : State} {m : MethodId} {args : Array Value} {below : List Frame} {meth : Method} {c : Code} {D : va_G} {dT : Nat → ClassId} {a : Nat → Nat} {A : Nat → Prop} {vs0 : XE} {p1 : Int32} {post : Int32 → XS → Prop} (hC : wCx RX0 cX0_countBy 3 (some .int) D dT p s m args meth c) (hA : wAz A s) (hfl : l.stackTraces = false) (X : XS) {vs : XE} {H : Heap} {locs : List Loc} {ls : Array Slot} {cells slots : Nat} (hS : StX D dT a A s vs0 X vs H locs) (hl : lv_has ls 3 [(0, .ref (a 0)), (1, .int p1)]) (hc : cells + 33 ≤ 33 ∧ slots + 176 ≤ 176) (hw : w_X0_countBy p1 post X) : W p l e rmX0_countBy s m args below meth c H locs cells slots (MQ below (va_Qi (fun r u9 => post r u9.1) (wB D (XW dT a) (XI vs0) A) A) args s 33 176 A) (F0 m 0 ls []) := by
  have hx := hC.1
  have hb := hC.2.1
  have hown := hC.2.2.2.1
  have hts := hC.2.2.2.2.1
  unfold w_X0_countBy at hw
  obtain ⟨hc1, hc2⟩ := hc
  refine lv_aload_n hx hb dX0_countBy_0 rfl (lv_at hl 0 rfl) ?_
  refine ld_q200 hC hS dX0_countBy_1 ?_
  refine opt_nu (tgt := 11) hx hb dX0_countBy_4 (by decide) (fun hv1 => ?_) (fun v1 hv1 => ?_)
  · have hw := hw.1 hv1
    refine lv_iconst (v := 0) hx hb dX0_countBy_11 (by decide) ?_
    exact k_X0_countBy_12 hC hA hfl _ _ hS (lv_sub hl [0, 1] rfl) ⟨by omega, by omega⟩ hw
  · have hw := hw.2 _ hv1
    refine lv_iconst (v := 1) hx hb dX0_countBy_7 (by decide) ?_
    refine lv_goto (tgt := 12) hx hb dX0_countBy_8 (by decide) ?_
    exact k_X0_countBy_12 hC hA hfl _ _ hS (lv_sub hl [0, 1] rfl) ⟨by omega, by omega⟩ hw
abbrev v_X0_countBy (X : XS) (p1 : Int32) (post : Int32 → XS → Prop) : Prop := w_X0_countBy p1 post X
set_option maxHeartbeats 4000000 in
set_option maxRecDepth 100000 in
theorem met_X0_countBy (l : Launch) (hfl : l.stackTraces = false) (D : va_G) (dT : Nat → ClassId) (a : Nat → Nat) (sz : Nat) (X : XS) (vs0 : XE) (p1 : Int32) (post : Int32 → XS → Prop) (hw : v_X0_countBy X p1 post) : Met l yX0_countBy (ws_ yX0_countBy cX0_countBy 3 (some .int)) rmX0_countBy (wPc D dT (XW dT a) (XI vs0) sz (X, vs0) [.ref (a 0), .int p1]) (va_Qi (fun r u9 => post r u9.1) (wB D (XW dT a) (XI vs0) (va_A ((XW dT a) (X, vs0)) sz)) (va_A ((XW dT a) (X, vs0)) sz)) 33 176 (va_A ((XW dT a) (X, vs0)) sz) :=
  wEnt (Q := fun A => (va_Qi (fun r u9 => post r u9.1) (wB D (XW dT a) (XI vs0) A) A)) (by decide) (Nat.le_of_ble_eq_true rfl) (fun p e s m below meth c A ls hC _ hA hS hl => k_X0_countBy_0 hC hA hfl _ hS hl ⟨by omega, by omega⟩ hw) sz
theorem hd_X0_countBy : yX0_countBy.cls ≠ "java/lang/invoke/MethodHandle" ∧ yX0_countBy.cls ≠ "java/lang/invoke/VarHandle" ∧ (parseMethodDescriptor yX0_countBy.desc).map (fun d => d.parameters.length) = some 1 := by decide +kernel
section
variable {p : Program} {l : Launch} {e : Env} {R : Room} {s : State} {m : MethodId} {args : Array Value} {below : List Frame} {meth : Method} {c : Code} {H : Heap} {locs : List Loc} {cells slots : Nat} {Q : State → Prop} {cc : ByteArray} {nL : Nat} {ret : Option FieldType} {pc : Nat} {ls : Array Slot} {rest : List Value}
set_option maxHeartbeats 4000000 in
set_option maxRecDepth 100000 in
theorem inv_q907 {D : va_G} {dT : Nat → ClassId} {a : Nat → Nat} {A : Nat → Prop} {vs0 : XE} {vs : XE} {X : XS} {p1 : Int32} {post : Int32 → XS → Prop} (hC : wCx RX0 cc nL ret D dT p s m args meth c) (hA : wAz A s) (hfl : l.stackTraces = false) (hS : StX D dT a A s vs0 X vs H locs) (hl : ls.size = nL) (hw : v_X0_countBy X p1 post) (hR : rmX0_countBy.frames + 1 ≤ R.frames ∧ 8 + (3 + 11) + rmX0_countBy.locals ≤ R.locals) (hrest : (rest.map fun v => v.category).sum ≤ 8) (hf : cells + 33 ≤ R.cells ∧ slots + 176 ≤ R.slots) (hdg : decode cc pc = .ok (.invokevirtual 365, 3))  (kk : ∀ (r : Int32) (X1 : XS) (vs1 : XE) (H1 : Heap) (locs1 : List Loc), post r X1 → (∀ v ∈ vs, v ∈ vs1) → StX D dT a A s vs0 X1 vs1 H1 locs1 → W p l e R s m args below meth c H1 locs1 (cells + 33) (slots + 176) Q (F0 m (pc + 3) ls (.int r :: rest))) : W p l e R s m args below meth c H locs cells slots Q (F0 m pc ls (.int p1 :: .ref (a 0) :: rest)) := by
  exact xNi hA hS (wRunV (As := [.int p1]) (rest := rest) (mc := 33) (ms := 176) 0 hC (met_X0_countBy l hfl D dT a H.size X vs p1 post hw) (lw_V q907 q909 qs42 q85 q910) ⟨⟨rfl, rfl⟩, hd_X0_countBy, hR, hf⟩ XW_0 rfl rfl hA hS.self hl rfl hrest hdg) kk
end
