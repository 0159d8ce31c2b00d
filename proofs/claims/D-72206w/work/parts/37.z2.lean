/-! LeastFrames.count -/
def w_X0_count (p1 : Int32) (post : Int32 → XS → Prop) (X : XS) : Prop :=
  v_X0_looks X (fun r1 X2 => v_X0_countBy X2 p1 (fun r3 X4 => post r3 X4))
abbrev rmX0_count : Room := { frames := 12, cells := 58, slots := 291, locals := 275 }
set_option maxHeartbeats 4000000 in
set_option maxRecDepth 100000 in
theorem k_X0_count_0 {p : Program} {l : Launch} {e : Env} {s : State} {m : MethodId} {args : Array Value} {below : List Frame} {meth : Method} {c : Code} {D : va_G} {dT : Nat → ClassId} {a : Nat → Nat} {A : Nat → Prop} {vs0 : XE} {p1 : Int32} {post : Int32 → XS → Prop} (hC : wCx RX0 cX0_count 2 (some .int) D dT p s m args meth c) (hA : wAz A s) (hfl : l.stackTraces = false) (X : XS) {vs : XE} {H : Heap} {locs : List Loc} {ls : Array Slot} {cells slots : Nat} (hS : StX D dT a A s vs0 X vs H locs) (hl : lv_has ls 2 [(0, .ref (a 0)), (1, .int p1)]) (hc : cells + 58 ≤ 58 ∧ slots + 291 ≤ 291) (hw : w_X0_count p1 post X) : W p l e rmX0_count s m args below meth c H locs cells slots (MQ below (va_Qi (fun r u9 => post r u9.1) (wB D (XW dT a) (XI vs0) A) A) args s 58 291 A) (F0 m 0 ls []) := by
  have hx := hC.1
  have hb := hC.2.1
  have hown := hC.2.2.2.1
  have hts := hC.2.2.2.2.1
  unfold w_X0_count at hw
  obtain ⟨hc1, hc2⟩ := hc
  refine lv_aload_n hx hb dX0_count_0 rfl (lv_at hl 0 rfl) ?_
  refine inv_q352 hC hA hfl hS hl.1 hw ⟨Nat.le_of_ble_eq_true rfl, Nat.le_of_ble_eq_true rfl⟩ (Nat.le_of_ble_eq_true rfl) ⟨(by show _ ≤ 58; omega), (by show _ ≤ 291; omega)⟩ dX0_count_1 (fun r1 X2 vs H locs hw hv9 hS => ?_)
  refine lv_pop hx hb dX0_count_4 rfl ?_
  refine lv_aload_n hx hb dX0_count_5 rfl (lv_at hl 0 rfl) ?_
  refine lv_iload_n hx hb dX0_count_6 rfl (lv_at hl 1 rfl) ?_
  refine inv_q907 hC hA hfl hS hl.1 hw ⟨Nat.le_of_ble_eq_true rfl, Nat.le_of_ble_eq_true rfl⟩ (Nat.le_of_ble_eq_true rfl) ⟨(by show _ ≤ 58; omega), (by show _ ≤ 291; omega)⟩ dX0_count_7 (fun r3 X4 vs H locs hw hv9 hS => ?_)
  exact wReti hC hS hw (by omega) (by omega) dX0_count_10
abbrev v_X0_count (X : XS) (p1 : Int32) (post : Int32 → XS → Prop) : Prop := w_X0_count p1 post X
set_option maxHeartbeats 4000000 in
set_option maxRecDepth 100000 in
theorem met_X0_count (l : Launch) (hfl : l.stackTraces = false) (D : va_G) (dT : Nat → ClassId) (a : Nat → Nat) (sz : Nat) (X : XS) (vs0 : XE) (p1 : Int32) (post : Int32 → XS → Prop) (hw : v_X0_count X p1 post) : Met l yX0_count (ws_ yX0_count cX0_count 2 (some .int)) rmX0_count (wPc D dT (XW dT a) (XI vs0) sz (X, vs0) [.ref (a 0), .int p1]) (va_Qi (fun r u9 => post r u9.1) (wB D (XW dT a) (XI vs0) (va_A ((XW dT a) (X, vs0)) sz)) (va_A ((XW dT a) (X, vs0)) sz)) 58 291 (va_A ((XW dT a) (X, vs0)) sz) :=
  wEnt (Q := fun A => (va_Qi (fun r u9 => post r u9.1) (wB D (XW dT a) (XI vs0) A) A)) (by decide) (Nat.le_of_ble_eq_true rfl) (fun p e s m below meth c A ls hC _ hA hS hl => k_X0_count_0 hC hA hfl _ hS hl ⟨by omega, by omega⟩ hw) sz
theorem hd_X0_count : yX0_count.cls ≠ "java/lang/invoke/MethodHandle" ∧ yX0_count.cls ≠ "java/lang/invoke/VarHandle" ∧ (parseMethodDescriptor yX0_count.desc).map (fun d => d.parameters.length) = some 1 := by decide +kernel
/-! LeastFrames.tellsPair -/
def w_X0_tellsPair_151 (p1 : Int64) (p3 : Int32) (K117 : XS → Int64 → Int32 → Int32 → Prop) (post : Int64 → XS → Prop) (X : XS) (x6 : Int32) (x7 : Int32) (y0 : Int64) (y1 : Int64) : Prop :=
  ∀ v1 : Int64, v1 = y1 + y0 → (∀ v2 : Int32, v2 = x7 + 1 → (K117 X v1 x6 v2))
def w_X0_tellsPair_117b (p1 : Int64) (p3 : Int32) (K117 : XS → Int64 → Int32 → Int32 → Prop) (post : Int64 → XS → Prop) (X : XS) (x4 : Int64) (x6 : Int32) (x7 : Int32) : Prop :=
  ((2 : Int32) ≤ x7 → ((x6 = (0 : Int32) → (post x4 X)) ∧ (¬ x6 = (0 : Int32) → (v_X0_whyBy X p3 (fun r3 X4 => post ((31 * x4) + r3.toInt64) X4))))) ∧ (¬ (2 : Int32) ≤ x7 → ((x6 = (0 : Int32) → (v_X0_gainBy X p3 x7 (fun r6 X7 => w_X0_tellsPair_151 p1 p3 K117 post X7 x6 x7 r6 (31 * x4)))) ∧ (¬ x6 = (0 : Int32) → (v_X0_withoutBy X p3 x7 (fun r8 X9 => w_X0_tellsPair_151 p1 p3 K117 post X9 x6 x7 r8 (31 * x4))))))
def w_X0_tellsPair_117 (p1 : Int64) (p3 : Int32) (post : Int64 → XS → Prop) : Nat → XS → Int64 → Int32 → Int32 → Prop
  | 0, _, _, _, _ => False
  | n + 1, X, x4, x6, x7 => w_X0_tellsPair_117b p1 p3 (w_X0_tellsPair_117 p1 p3 post n) post X x4 x6 x7
def w_X0_tellsPair_69b (p1 : Int64) (p3 : Int32) (K69 : XS → Int64 → Int32 → Prop) (post : Int64 → XS → Prop) (X : XS) (x4 : Int64) (x6 : Int32) : Prop :=
  ((2 : Int32) ≤ x6 → (v_X0_isIn (X_bars X) p3 (fun r2 => ∃ n, n ≤ 3 ∧ w_X0_tellsPair_117 p1 p3 post n X x4 r2 0))) ∧ (¬ (2 : Int32) ≤ x6 → (v_X0_stretched X p3 (fun r3 => v_X0_part r3.toInt64 (12 : Int64) x6 (fun r4 => ∀ v5 : Int64, v5 = (31 * x4) + r4 → (∀ v6 : Int32, v6 = x6 + 1 → (K69 X v5 v6))))))
def w_X0_tellsPair_69 (p1 : Int64) (p3 : Int32) (post : Int64 → XS → Prop) : Nat → XS → Int64 → Int32 → Prop
  | 0, _, _, _ => False
  | n + 1, X, x4, x6 => w_X0_tellsPair_69b p1 p3 (w_X0_tellsPair_69 p1 p3 post n) post X x4 x6
def w_X0_tellsPair_38b (p1 : Int64) (p3 : Int32) (K38 : XS → Int64 → Int32 → Prop) (post : Int64 → XS → Prop) (X : XS) (x4 : Int64) (x6 : Int32) : Prop :=
  ((2 : Int32) ≤ x6 → (∃ n, w_X0_tellsPair_69 p1 p3 post n X x4 0)) ∧ (¬ (2 : Int32) ≤ x6 → (v_X0_pullBy X p3 x6 (fun r2 => ∀ v3 : Int64, v3 = (31 * x4) + r2 → (∀ v4 : Int32, v4 = x6 + 1 → (K38 X v3 v4)))))
def w_X0_tellsPair_38 (p1 : Int64) (p3 : Int32) (post : Int64 → XS → Prop) : Nat → XS → Int64 → Int32 → Prop
  | 0, _, _, _ => False
  | n + 1, X, x4, x6 => w_X0_tellsPair_38b p1 p3 (w_X0_tellsPair_38 p1 p3 post n) post X x4 x6
def w_X0_tellsPair_6b (p1 : Int64) (p3 : Int32) (K6 : XS → Int64 → Int32 → Prop) (post : Int64 → XS → Prop) (X : XS) (x4 : Int64) (x6 : Int32) : Prop :=
  ((4 : Int32) ≤ x6 → (∃ n, w_X0_tellsPair_38 p1 p3 post n X x4 0)) ∧ (¬ (4 : Int32) ≤ x6 → (v_X0_pairBy X p3 x6 (fun r2 => ∀ v3 : Int64, v3 = (31 * x4) + r2.toInt64 → (∀ v4 : Int32, v4 = x6 + 1 → (K6 X v3 v4)))))
def w_X0_tellsPair_6 (p1 : Int64) (p3 : Int32) (post : Int64 → XS → Prop) : Nat → XS → Int64 → Int32 → Prop
  | 0, _, _, _ => False
  | n + 1, X, x4, x6 => w_X0_tellsPair_6b p1 p3 (w_X0_tellsPair_6 p1 p3 post n) post X x4 x6
def w_X0_tellsPair (p1 : Int64) (p3 : Int32) (post : Int64 → XS → Prop) (X : XS) : Prop :=
  ∃ n, w_X0_tellsPair_6 p1 p3 post n X p1 0
abbrev rmX0_tellsPair : Room := { frames := 11, cells := 21, slots := 97, locals := 253 }
set_option maxHeartbeats 4000000 in
set_option maxRecDepth 100000 in
theorem k_X0_tellsPair_151 {p : Program} {l : Launch} {e : Env} {s : State} {m : MethodId} {args : Array Value} {below : List Frame} {meth : Method} {c : Code} {D : va_G} {dT : Nat → ClassId} {a : Nat → Nat} {A : Nat → Prop} {vs0 : XE} {nK : Nat} {p1 : Int64} {p3 : Int32} {K117 : XS → Int64 → Int32 → Int32 → Prop} {post : Int64 → XS → Prop} (hC : wCx RX0 cX0_tellsPair 8 (some .long) D dT p s m args meth c) (hA : wAz A s) (hfl : l.stackTraces = false) (hK117 : ∀ (X : XS) (x4 : Int64) (x6 : Int32) (x7 : Int32), K117 X x4 x6 x7 → ∀ {vs : XE} {H : Heap} {locs : List Loc} {ls : Array Slot} {cells slots : Nat}, StX D dT a A s vs0 X vs H locs → lv_has ls 8 [(0, .ref (a 0)), (3, .int p3), (4, .long x4), (6, .int x6), (7, .int x7)] → cells + (nK * 6 + 3) ≤ 21 ∧ slots + (nK * 27 + 16) ≤ 97 → W p l e rmX0_tellsPair s m args below meth c H locs cells slots (MQ below (va_Ql (fun r u9 => post r u9.1) (wB D (XW dT a) (XI vs0) A) A) args s 21 97 A) (F0 m 117 ls [])) (X : XS) (x6 : Int32) (x7 : Int32) (y0 : Int64) (y1 : Int64) {vs : XE} {H : Heap} {locs : List Loc} {ls : Array Slot} {cells slots : Nat} (hS : StX D dT a A s vs0 X vs H locs) (hl : lv_has ls 8 [(0, .ref (a 0)), (3, .int p3), (6, .int x6), (7, .int x7)]) (hc : cells + (0 + (nK * 6 + 3)) ≤ 21 ∧ slots + (0 + (nK * 27 + 16)) ≤ 97) (hw : w_X0_tellsPair_151 p1 p3 K117 post X x6 x7 y0 y1) : W p l e rmX0_tellsPair s m args below meth c H locs cells slots (MQ below (va_Ql (fun r u9 => post r u9.1) (wB D (XW dT a) (XI vs0) A) A) args s 21 97 A) (F0 m 151 ls [.long y0, .long y1]) := by
  have hx := hC.1
  have hb := hC.2.1
  have hown := hC.2.2.2.1
  have hts := hC.2.2.2.2.1
  unfold w_X0_tellsPair_151 at hw
  obtain ⟨hc1, hc2⟩ := hc
  refine lv_ladd hx hb dX0_tellsPair_151 ?_
  refine lv_topl (fun v1 ev1 => ?_)
  have hw := hw v1 ev1
  refine lv_lstore (lv' := [(4, .long v1), (0, .ref (a 0)), (3, .int p3), (6, .int x6), (7, .int x7)]) hx hb dX0_tellsPair_152 hl (by decide) rfl (fun ls hl => ?_)
  obtain ⟨v2, ev2⟩ : ∃ y : Int32, y = x7 + 1 := ⟨_, rfl⟩
  have hw := hw v2 ev2
  refine lv_iinc (v := v2) (lv' := [(7, .int v2), (4, .long v1), (0, .ref (a 0)), (3, .int p3), (6, .int x6)]) hx hb dX0_tellsPair_154 hl (k := 4) rfl (by rw [ev2]; rfl) (by decide) rfl (fun ls hl => ?_)
  refine lv_goto (tgt := 117) hx hb dX0_tellsPair_157 (by decide) ?_
  exact hK117 _ _ _ _ hw hS (lv_sub hl [2, 3, 1, 4, 0] rfl) ⟨by omega, by omega⟩
set_option maxHeartbeats 4000000 in
set_option maxRecDepth 100000 in
theorem k_X0_tellsPair_117b {p : Program} {l : Launch} {e : Env} {s : State} {m : MethodId} {args : Array Value} {below : List Frame} {meth : Method} {c : Code} {D : va_G} {dT : Nat → ClassId} {a : Nat → Nat} {A : Nat → Prop} {vs0 : XE} {nK : Nat} {p1 : Int64} {p3 : Int32} {K117 : XS → Int64 → Int32 → Int32 → Prop} {post : Int64 → XS → Prop} (hC : wCx RX0 cX0_tellsPair 8 (some .long) D dT p s m args meth c) (hA : wAz A s) (hfl : l.stackTraces = false) (hK117 : ∀ (X : XS) (x4 : Int64) (x6 : Int32) (x7 : Int32), K117 X x4 x6 x7 → ∀ {vs : XE} {H : Heap} {locs : List Loc} {ls : Array Slot} {cells slots : Nat}, StX D dT a A s vs0 X vs H locs → lv_has ls 8 [(0, .ref (a 0)), (3, .int p3), (4, .long x4), (6, .int x6), (7, .int x7)] → cells + (nK * 6 + 3) ≤ 21 ∧ slots + (nK * 27 + 16) ≤ 97 → W p l e rmX0_tellsPair s m args below meth c H locs cells slots (MQ below (va_Ql (fun r u9 => post r u9.1) (wB D (XW dT a) (XI vs0) A) A) args s 21 97 A) (F0 m 117 ls [])) (X : XS) (x4 : Int64) (x6 : Int32) (x7 : Int32) {vs : XE} {H : Heap} {locs : List Loc} {ls : Array Slot} {cells slots : Nat} (hS : StX D dT a A s vs0 X vs H locs) (hl : lv_has ls 8 [(0, .ref (a 0)), (3, .int p3), (4, .long x4), (6, .int x6), (7, .int x7)]) (hc : cells + (6 + (nK * 6 + 3)) ≤ 21 ∧ slots + (27 + (nK * 27 + 16)) ≤ 97) (hw : w_X0_tellsPair_117b p1 p3 K117 post X x4 x6 x7) : W p l e rmX0_tellsPair s m args below meth c H locs cells slots (MQ below (va_Ql (fun r u9 => post r u9.1) (wB D (XW dT a) (XI vs0) A) A) args s 21 97 A) (F0 m 117 ls []) := by
  have hx := hC.1
  have hb := hC.2.1
  have hown := hC.2.2.2.1
  have hts := hC.2.2.2.2.1
  unfold w_X0_tellsPair_117b at hw
  obtain ⟨hc1, hc2⟩ := hc
  refine lv_iload hx hb dX0_tellsPair_117 (lv_at hl 4 rfl) ?_
  refine lv_iconst (v := 2) hx hb dX0_tellsPair_119 (by decide) ?_
  refine lv_icmp_ge (tgt := 160) hx hb dX0_tellsPair_120 (by decide) (fun c1 => ?_) (fun c1 => ?_)
  · have hw := hw.1 c1
    refine lv_iload hx hb dX0_tellsPair_160 (lv_at hl 3 rfl) ?_
    refine lv_if_eq (tgt := 181) hx hb dX0_tellsPair_162 (by decide) (fun c2 => ?_) (fun c2 => ?_)
    · have hw := hw.1 c2
      refine lv_lload hx hb dX0_tellsPair_181 (lv_at hl 2 rfl) ?_
      exact wRetl hC hS hw (by omega) (by omega) dX0_tellsPair_183
    · have hw := hw.2 c2
      refine lv_ldc2 (v := 31) hx hb hown (hts _ q924) dX0_tellsPair_165 ?_
      refine lv_lload hx hb dX0_tellsPair_168 (lv_at hl 2 rfl) ?_
      refine lv_lmul hx hb dX0_tellsPair_170 ?_
      refine lv_aload_n hx hb dX0_tellsPair_171 rfl (lv_at hl 0 rfl) ?_
      refine lv_iload_n hx hb dX0_tellsPair_172 rfl (lv_at hl 1 rfl) ?_
      refine inv_q600 hC hA hfl hS hl.1 hw ⟨Nat.le_of_ble_eq_true rfl, Nat.le_of_ble_eq_true rfl⟩ (Nat.le_of_ble_eq_true rfl) ⟨(by show _ ≤ 21; omega), (by show _ ≤ 97; omega)⟩ dX0_tellsPair_173 (fun r3 X4 vs H locs hw hv9 hS => ?_)
      refine lv_i2l hx hb dX0_tellsPair_176 rfl ?_
      refine lv_ladd hx hb dX0_tellsPair_177 ?_
      refine lv_goto (tgt := 183) hx hb dX0_tellsPair_178 (by decide) ?_
      exact wRetl hC hS hw (by omega) (by omega) dX0_tellsPair_183
  · have hw := hw.2 c1
    refine lv_ldc2 (v := 31) hx hb hown (hts _ q924) dX0_tellsPair_123 ?_
    refine lv_lload hx hb dX0_tellsPair_126 (lv_at hl 2 rfl) ?_
    refine lv_lmul hx hb dX0_tellsPair_128 ?_
    refine lv_iload hx hb dX0_tellsPair_129 (lv_at hl 3 rfl) ?_
    refine lv_if_eq (tgt := 144) hx hb dX0_tellsPair_131 (by decide) (fun c5 => ?_) (fun c5 => ?_)
    · have hw := hw.1 c5
      refine lv_aload_n hx hb dX0_tellsPair_144 rfl (lv_at hl 0 rfl) ?_
      refine lv_iload_n hx hb dX0_tellsPair_145 rfl (lv_at hl 1 rfl) ?_
      refine lv_iload hx hb dX0_tellsPair_146 (lv_at hl 4 rfl) ?_
      refine inv_q635 hC hA hfl hS hl.1 hw ⟨Nat.le_of_ble_eq_true rfl, Nat.le_of_ble_eq_true rfl⟩ (Nat.le_of_ble_eq_true rfl) ⟨(by show _ ≤ 21; omega), (by show _ ≤ 97; omega)⟩ dX0_tellsPair_148 (fun r6 X7 vs H locs hw hv9 hS => ?_)
      exact k_X0_tellsPair_151 hC hA hfl hK117 _ _ _ _ _ hS (lv_sub hl [0, 1, 3, 4] rfl) ⟨by omega, by omega⟩ hw
    · have hw := hw.2 c5
      refine lv_aload_n hx hb dX0_tellsPair_134 rfl (lv_at hl 0 rfl) ?_
      refine lv_iload_n hx hb dX0_tellsPair_135 rfl (lv_at hl 1 rfl) ?_
      refine lv_iload hx hb dX0_tellsPair_136 (lv_at hl 4 rfl) ?_
      refine inv_q564 hC hA hfl hS hl.1 hw ⟨Nat.le_of_ble_eq_true rfl, Nat.le_of_ble_eq_true rfl⟩ (Nat.le_of_ble_eq_true rfl) ⟨(by show _ ≤ 21; omega), (by show _ ≤ 97; omega)⟩ dX0_tellsPair_138 (fun r8 X9 vs H locs hw hv9 hS => ?_)
      refine lv_goto (tgt := 151) hx hb dX0_tellsPair_141 (by decide) ?_
      exact k_X0_tellsPair_151 hC hA hfl hK117 _ _ _ _ _ hS (lv_sub hl [0, 1, 3, 4] rfl) ⟨by omega, by omega⟩ hw
set_option maxHeartbeats 4000000 in
set_option maxRecDepth 100000 in
theorem k_X0_tellsPair_117 {p : Program} {l : Launch} {e : Env} {s : State} {m : MethodId} {args : Array Value} {below : List Frame} {meth : Method} {c : Code} {D : va_G} {dT : Nat → ClassId} {a : Nat → Nat} {A : Nat → Prop} {vs0 : XE} {p1 : Int64} {p3 : Int32} {post : Int64 → XS → Prop} (hC : wCx RX0 cX0_tellsPair 8 (some .long) D dT p s m args meth c) (hA : wAz A s) (hfl : l.stackTraces = false) : ∀ (X : XS) (x4 : Int64) (x6 : Int32) (x7 : Int32) (n : Nat), ∀ {vs : XE} {H : Heap} {locs : List Loc} {ls : Array Slot} {cells slots : Nat}, StX D dT a A s vs0 X vs H locs → lv_has ls 8 [(0, .ref (a 0)), (3, .int p3), (4, .long x4), (6, .int x6), (7, .int x7)] → cells + (n * 6 + 3) ≤ 21 ∧ slots + (n * 27 + 16) ≤ 97 → w_X0_tellsPair_117 p1 p3 post n X x4 x6 x7 → W p l e rmX0_tellsPair s m args below meth c H locs cells slots (MQ below (va_Ql (fun r u9 => post r u9.1) (wB D (XW dT a) (XI vs0) A) A) args s 21 97 A) (F0 m 117 ls []) := by
  intro X x4 x6 x7 n
  induction n generalizing X x4 x6 x7 with
  | zero => intro vs H locs ls cells slots  hS hl hc hw; exact hw.elim
  | succ n ih =>
    intro vs H locs ls cells slots  hS hl hc hw
    exact k_X0_tellsPair_117b hC hA hfl (fun X x4 x6 x7 hk {vs} {H} {locs} {ls} {cells} {slots}  hS hl hc => ih X x4 x6 x7  hS hl hc hk) X x4 x6 x7  hS hl ⟨by omega, by omega⟩ hw
set_option maxHeartbeats 4000000 in
set_option maxRecDepth 100000 in
theorem k_X0_tellsPair_69b {p : Program} {l : Launch} {e : Env} {s : State} {m : MethodId} {args : Array Value} {below : List Frame} {meth : Method} {c : Code} {D : va_G} {dT : Nat → ClassId} {a : Nat → Nat} {A : Nat → Prop} {vs0 : XE} {p1 : Int64} {p3 : Int32} {K69 : XS → Int64 → Int32 → Prop} {post : Int64 → XS → Prop} (hC : wCx RX0 cX0_tellsPair 8 (some .long) D dT p s m args meth c) (hA : wAz A s) (hfl : l.stackTraces = false) (hK69 : ∀ (X : XS) (x4 : Int64) (x6 : Int32), K69 X x4 x6 → ∀ {vs : XE} {H : Heap} {locs : List Loc} {ls : Array Slot} {cells slots : Nat}, StX D dT a A s vs0 X vs H locs → lv_has ls 8 [(0, .ref (a 0)), (3, .int p3), (4, .long x4), (6, .int x6)] → cells + 21 ≤ 21 ∧ slots + 97 ≤ 97 → W p l e rmX0_tellsPair s m args below meth c H locs cells slots (MQ below (va_Ql (fun r u9 => post r u9.1) (wB D (XW dT a) (XI vs0) A) A) args s 21 97 A) (F0 m 69 ls [])) (X : XS) (x4 : Int64) (x6 : Int32) {vs : XE} {H : Heap} {locs : List Loc} {ls : Array Slot} {cells slots : Nat} (hS : StX D dT a A s vs0 X vs H locs) (hl : lv_has ls 8 [(0, .ref (a 0)), (3, .int p3), (4, .long x4), (6, .int x6)]) (hc : cells + 21 ≤ 21 ∧ slots + 97 ≤ 97) (hw : w_X0_tellsPair_69b p1 p3 K69 post X x4 x6) : W p l e rmX0_tellsPair s m args below meth c H locs cells slots (MQ below (va_Ql (fun r u9 => post r u9.1) (wB D (XW dT a) (XI vs0) A) A) args s 21 97 A) (F0 m 69 ls []) := by
  have hx := hC.1
  have hb := hC.2.1
  have hown := hC.2.2.2.1
  have hts := hC.2.2.2.2.1
  unfold w_X0_tellsPair_69b at hw
  obtain ⟨hc1, hc2⟩ := hc
  refine lv_iload hx hb dX0_tellsPair_69 (lv_at hl 3 rfl) ?_
  refine lv_iconst (v := 2) hx hb dX0_tellsPair_71 (by decide) ?_
  refine lv_icmp_ge (tgt := 104) hx hb dX0_tellsPair_72 (by decide) (fun c1 => ?_) (fun c1 => ?_)
  · have hw := hw.1 c1
    refine lv_aload_n hx hb dX0_tellsPair_104 rfl (lv_at hl 0 rfl) ?_
    refine ld_q197 hC hS dX0_tellsPair_105 ?_
    refine lv_iload_n hx hb dX0_tellsPair_108 rfl (lv_at hl 1 rfl) ?_
    refine inv_q341 hC hS hl.1 hw ⟨Nat.le_of_ble_eq_true rfl, Nat.le_of_ble_eq_true rfl⟩ (Nat.le_of_ble_eq_true rfl) ⟨(by show _ ≤ 21; omega), (by show _ ≤ 97; omega)⟩ dX0_tellsPair_109 (fun r2 H locs hw hS => ?_)
    refine lv_istore (lv' := [(6, .int r2), (0, .ref (a 0)), (3, .int p3), (4, .long x4)]) hx hb dX0_tellsPair_112 hl (by decide) rfl (fun ls hl => ?_)
    refine lv_iconst (v := 0) hx hb dX0_tellsPair_114 (by decide) ?_
    refine lv_istore (lv' := [(7, .int 0), (6, .int r2), (0, .ref (a 0)), (3, .int p3), (4, .long x4)]) hx hb dX0_tellsPair_115 hl (by decide) rfl (fun ls hl => ?_)
    obtain ⟨n, hn9, hw⟩ := hw
    exact k_X0_tellsPair_117 hC hA hfl _ _ _ _ n hS (lv_sub hl [2, 3, 4, 1, 0] rfl) ⟨by omega, by omega⟩ hw
  · have hw := hw.2 c1
    refine lv_ldc2 (v := 31) hx hb hown (hts _ q924) dX0_tellsPair_75 ?_
    refine lv_lload hx hb dX0_tellsPair_78 (lv_at hl 2 rfl) ?_
    refine lv_lmul hx hb dX0_tellsPair_80 ?_
    refine lv_aload_n hx hb dX0_tellsPair_81 rfl (lv_at hl 0 rfl) ?_
    refine lv_iload_n hx hb dX0_tellsPair_82 rfl (lv_at hl 1 rfl) ?_
    refine inv_q685 hC hA hS hl.1 hw ⟨Nat.le_of_ble_eq_true rfl, Nat.le_of_ble_eq_true rfl⟩ (Nat.le_of_ble_eq_true rfl) ⟨(by show _ ≤ 21; omega), (by show _ ≤ 97; omega)⟩ dX0_tellsPair_83 (fun r3 H locs hw hS => ?_)
    refine lv_i2l hx hb dX0_tellsPair_86 rfl ?_
    refine lv_ldc2 (v := 12) hx hb hown (hts _ q694) dX0_tellsPair_87 ?_
    refine lv_iload hx hb dX0_tellsPair_90 (lv_at hl 3 rfl) ?_
    refine inv_q555 hC hS hl.1 hw ⟨Nat.le_of_ble_eq_true rfl, Nat.le_of_ble_eq_true rfl⟩ (Nat.le_of_ble_eq_true rfl) ⟨(by show _ ≤ 21; omega), (by show _ ≤ 97; omega)⟩ dX0_tellsPair_92 (fun r4 H locs hw hS => ?_)
    refine lv_ladd hx hb dX0_tellsPair_95 ?_
    refine lv_topl (fun v5 ev5 => ?_)
    have hw := hw v5 ev5
    refine lv_lstore (lv' := [(4, .long v5), (0, .ref (a 0)), (3, .int p3), (6, .int x6)]) hx hb dX0_tellsPair_96 hl (by decide) rfl (fun ls hl => ?_)
    obtain ⟨v6, ev6⟩ : ∃ y : Int32, y = x6 + 1 := ⟨_, rfl⟩
    have hw := hw v6 ev6
    refine lv_iinc (v := v6) (lv' := [(6, .int v6), (4, .long v5), (0, .ref (a 0)), (3, .int p3)]) hx hb dX0_tellsPair_98 hl (k := 3) rfl (by rw [ev6]; rfl) (by decide) rfl (fun ls hl => ?_)
    refine lv_goto (tgt := 69) hx hb dX0_tellsPair_101 (by decide) ?_
    exact hK69 _ _ _ hw hS (lv_sub hl [2, 3, 1, 0] rfl) ⟨by omega, by omega⟩
set_option maxHeartbeats 4000000 in
set_option maxRecDepth 100000 in
theorem k_X0_tellsPair_69 {p : Program} {l : Launch} {e : Env} {s : State} {m : MethodId} {args : Array Value} {below : List Frame} {meth : Method} {c : Code} {D : va_G} {dT : Nat → ClassId} {a : Nat → Nat} {A : Nat → Prop} {vs0 : XE} {p1 : Int64} {p3 : Int32} {post : Int64 → XS → Prop} (hC : wCx RX0 cX0_tellsPair 8 (some .long) D dT p s m args meth c) (hA : wAz A s) (hfl : l.stackTraces = false) : ∀ (X : XS) (x4 : Int64) (x6 : Int32) (n : Nat), ∀ {vs : XE} {H : Heap} {locs : List Loc} {ls : Array Slot} {cells slots : Nat}, StX D dT a A s vs0 X vs H locs → lv_has ls 8 [(0, .ref (a 0)), (3, .int p3), (4, .long x4), (6, .int x6)] → cells + 21 ≤ 21 ∧ slots + 97 ≤ 97 → w_X0_tellsPair_69 p1 p3 post n X x4 x6 → W p l e rmX0_tellsPair s m args below meth c H locs cells slots (MQ below (va_Ql (fun r u9 => post r u9.1) (wB D (XW dT a) (XI vs0) A) A) args s 21 97 A) (F0 m 69 ls []) := by
  intro X x4 x6 n
  induction n generalizing X x4 x6 with
  | zero => intro vs H locs ls cells slots  hS hl hc hw; exact hw.elim
  | succ n ih =>
    intro vs H locs ls cells slots  hS hl hc hw
    exact k_X0_tellsPair_69b hC hA hfl (fun X x4 x6 hk {vs} {H} {locs} {ls} {cells} {slots}  hS hl hc => ih X x4 x6  hS hl hc hk) X x4 x6  hS hl hc hw
set_option maxHeartbeats 4000000 in
set_option maxRecDepth 100000 in
theorem k_X0_tellsPair_38b {p : Program} {l : Launch} {e : Env} {s : State} {m : MethodId} {args : Array Value} {below : List Frame} {meth : Method} {c : Code} {D : va_G} {dT : Nat → ClassId} {a : Nat → Nat} {A : Nat → Prop} {vs0 : XE} {p1 : Int64} {p3 : Int32} {K38 : XS → Int64 → Int32 → Prop} {post : Int64 → XS → Prop} (hC : wCx RX0 cX0_tellsPair 8 (some .long) D dT p s m args meth c) (hA : wAz A s) (hfl : l.stackTraces = false) (hK38 : ∀ (X : XS) (x4 : Int64) (x6 : Int32), K38 X x4 x6 → ∀ {vs : XE} {H : Heap} {locs : List Loc} {ls : Array Slot} {cells slots : Nat}, StX D dT a A s vs0 X vs H locs → lv_has ls 8 [(0, .ref (a 0)), (3, .int p3), (4, .long x4), (6, .int x6)] → cells + 21 ≤ 21 ∧ slots + 97 ≤ 97 → W p l e rmX0_tellsPair s m args below meth c H locs cells slots (MQ below (va_Ql (fun r u9 => post r u9.1) (wB D (XW dT a) (XI vs0) A) A) args s 21 97 A) (F0 m 38 ls [])) (X : XS) (x4 : Int64) (x6 : Int32) {vs : XE} {H : Heap} {locs : List Loc} {ls : Array Slot} {cells slots : Nat} (hS : StX D dT a A s vs0 X vs H locs) (hl : lv_has ls 8 [(0, .ref (a 0)), (3, .int p3), (4, .long x4), (6, .int x6)]) (hc : cells + 21 ≤ 21 ∧ slots + 97 ≤ 97) (hw : w_X0_tellsPair_38b p1 p3 K38 post X x4 x6) : W p l e rmX0_tellsPair s m args below meth c H locs cells slots (MQ below (va_Ql (fun r u9 => post r u9.1) (wB D (XW dT a) (XI vs0) A) A) args s 21 97 A) (F0 m 38 ls []) := by
  have hx := hC.1
  have hb := hC.2.1
  have hown := hC.2.2.2.1
  have hts := hC.2.2.2.2.1
  unfold w_X0_tellsPair_38b at hw
  obtain ⟨hc1, hc2⟩ := hc
  refine lv_iload hx hb dX0_tellsPair_38 (lv_at hl 3 rfl) ?_
  refine lv_iconst (v := 2) hx hb dX0_tellsPair_40 (by decide) ?_
  refine lv_icmp_ge (tgt := 66) hx hb dX0_tellsPair_41 (by decide) (fun c1 => ?_) (fun c1 => ?_)
  · have hw := hw.1 c1
    refine lv_iconst (v := 0) hx hb dX0_tellsPair_66 (by decide) ?_
    refine lv_istore (lv' := [(6, .int 0), (0, .ref (a 0)), (3, .int p3), (4, .long x4)]) hx hb dX0_tellsPair_67 hl (by decide) rfl (fun ls hl => ?_)
    obtain ⟨n, hw⟩ := hw
    exact k_X0_tellsPair_69 hC hA hfl _ _ _ n hS (lv_sub hl [1, 2, 3, 0] rfl) ⟨by omega, by omega⟩ hw
  · have hw := hw.2 c1
    refine lv_ldc2 (v := 31) hx hb hown (hts _ q924) dX0_tellsPair_44 ?_
    refine lv_lload hx hb dX0_tellsPair_47 (lv_at hl 2 rfl) ?_
    refine lv_lmul hx hb dX0_tellsPair_49 ?_
    refine lv_aload_n hx hb dX0_tellsPair_50 rfl (lv_at hl 0 rfl) ?_
    refine lv_iload_n hx hb dX0_tellsPair_51 rfl (lv_at hl 1 rfl) ?_
    refine lv_iload hx hb dX0_tellsPair_52 (lv_at hl 3 rfl) ?_
    refine inv_q551 hC hA hS hl.1 hw ⟨Nat.le_of_ble_eq_true rfl, Nat.le_of_ble_eq_true rfl⟩ (Nat.le_of_ble_eq_true rfl) ⟨(by show _ ≤ 21; omega), (by show _ ≤ 97; omega)⟩ dX0_tellsPair_54 (fun r2 H locs hw hS => ?_)
    refine lv_ladd hx hb dX0_tellsPair_57 ?_
    refine lv_topl (fun v3 ev3 => ?_)
    have hw := hw v3 ev3
    refine lv_lstore (lv' := [(4, .long v3), (0, .ref (a 0)), (3, .int p3), (6, .int x6)]) hx hb dX0_tellsPair_58 hl (by decide) rfl (fun ls hl => ?_)
    obtain ⟨v4, ev4⟩ : ∃ y : Int32, y = x6 + 1 := ⟨_, rfl⟩
    have hw := hw v4 ev4
    refine lv_iinc (v := v4) (lv' := [(6, .int v4), (4, .long v3), (0, .ref (a 0)), (3, .int p3)]) hx hb dX0_tellsPair_60 hl (k := 3) rfl (by rw [ev4]; rfl) (by decide) rfl (fun ls hl => ?_)
    refine lv_goto (tgt := 38) hx hb dX0_tellsPair_63 (by decide) ?_
    exact hK38 _ _ _ hw hS (lv_sub hl [2, 3, 1, 0] rfl) ⟨by omega, by omega⟩
set_option maxHeartbeats 4000000 in
set_option maxRecDepth 100000 in
theorem k_X0_tellsPair_38 {p : Program} {l : Launch} {e : Env} {s : State} {m : MethodId} {args : Array Value} {below : List Frame} {meth : Method} {c : Code} {D : va_G} {dT : Nat → ClassId} {a : Nat → Nat} {A : Nat → Prop} {vs0 : XE} {p1 : Int64} {p3 : Int32} {post : Int64 → XS → Prop} (hC : wCx RX0 cX0_tellsPair 8 (some .long) D dT p s m args meth c) (hA : wAz A s) (hfl : l.stackTraces = false) : ∀ (X : XS) (x4 : Int64) (x6 : Int32) (n : Nat), ∀ {vs : XE} {H : Heap} {locs : List Loc} {ls : Array Slot} {cells slots : Nat}, StX D dT a A s vs0 X vs H locs → lv_has ls 8 [(0, .ref (a 0)), (3, .int p3), (4, .long x4), (6, .int x6)] → cells + 21 ≤ 21 ∧ slots + 97 ≤ 97 → w_X0_tellsPair_38 p1 p3 post n X x4 x6 → W p l e rmX0_tellsPair s m args below meth c H locs cells slots (MQ below (va_Ql (fun r u9 => post r u9.1) (wB D (XW dT a) (XI vs0) A) A) args s 21 97 A) (F0 m 38 ls []) := by
  intro X x4 x6 n
  induction n generalizing X x4 x6 with
  | zero => intro vs H locs ls cells slots  hS hl hc hw; exact hw.elim
  | succ n ih =>
    intro vs H locs ls cells slots  hS hl hc hw
    exact k_X0_tellsPair_38b hC hA hfl (fun X x4 x6 hk {vs} {H} {locs} {ls} {cells} {slots}  hS hl hc => ih X x4 x6  hS hl hc hk) X x4 x6  hS hl hc hw
set_option maxHeartbeats 4000000 in
set_option maxRecDepth 100000 in
theorem k_X0_tellsPair_6b {p : Program} {l : Launch} {e : Env} {s : State} {m : MethodId} {args : Array Value} {below : List Frame} {meth : Method} {c : Code} {D : va_G} {dT : Nat → ClassId} {a : Nat → Nat} {A : Nat → Prop} {vs0 : XE} {p1 : Int64} {p3 : Int32} {K6 : XS → Int64 → Int32 → Prop} {post : Int64 → XS → Prop} (hC : wCx RX0 cX0_tellsPair 8 (some .long) D dT p s m args meth c) (hA : wAz A s) (hfl : l.stackTraces = false) (hK6 : ∀ (X : XS) (x4 : Int64) (x6 : Int32), K6 X x4 x6 → ∀ {vs : XE} {H : Heap} {locs : List Loc} {ls : Array Slot} {cells slots : Nat}, StX D dT a A s vs0 X vs H locs → lv_has ls 8 [(0, .ref (a 0)), (3, .int p3), (4, .long x4), (6, .int x6)] → cells + 21 ≤ 21 ∧ slots + 97 ≤ 97 → W p l e rmX0_tellsPair s m args below meth c H locs cells slots (MQ below (va_Ql (fun r u9 => post r u9.1) (wB D (XW dT a) (XI vs0) A) A) args s 21 97 A) (F0 m 6 ls [])) (X : XS) (x4 : Int64) (x6 : Int32) {vs : XE} {H : Heap} {locs : List Loc} {ls : Array Slot} {cells slots : Nat} (hS : StX D dT a A s vs0 X vs H locs) (hl : lv_has ls 8 [(0, .ref (a 0)), (3, .int p3), (4, .long x4), (6, .int x6)]) (hc : cells + 21 ≤ 21 ∧ slots + 97 ≤ 97) (hw : w_X0_tellsPair_6b p1 p3 K6 post X x4 x6) : W p l e rmX0_tellsPair s m args below meth c H locs cells slots (MQ below (va_Ql (fun r u9 => post r u9.1) (wB D (XW dT a) (XI vs0) A) A) args s 21 97 A) (F0 m 6 ls []) := by
  have hx := hC.1
  have hb := hC.2.1
  have hown := hC.2.2.2.1
  have hts := hC.2.2.2.2.1
  unfold w_X0_tellsPair_6b at hw
  obtain ⟨hc1, hc2⟩ := hc
  refine lv_iload hx hb dX0_tellsPair_6 (lv_at hl 3 rfl) ?_
  refine lv_iconst (v := 4) hx hb dX0_tellsPair_8 (by decide) ?_
  refine lv_icmp_ge (tgt := 35) hx hb dX0_tellsPair_9 (by decide) (fun c1 => ?_) (fun c1 => ?_)
  · have hw := hw.1 c1
    refine lv_iconst (v := 0) hx hb dX0_tellsPair_35 (by decide) ?_
    refine lv_istore (lv' := [(6, .int 0), (0, .ref (a 0)), (3, .int p3), (4, .long x4)]) hx hb dX0_tellsPair_36 hl (by decide) rfl (fun ls hl => ?_)
    obtain ⟨n, hw⟩ := hw
    exact k_X0_tellsPair_38 hC hA hfl _ _ _ n hS (lv_sub hl [1, 2, 3, 0] rfl) ⟨by omega, by omega⟩ hw
  · have hw := hw.2 c1
    refine lv_ldc2 (v := 31) hx hb hown (hts _ q924) dX0_tellsPair_12 ?_
    refine lv_lload hx hb dX0_tellsPair_15 (lv_at hl 2 rfl) ?_
    refine lv_lmul hx hb dX0_tellsPair_17 ?_
    refine lv_aload_n hx hb dX0_tellsPair_18 rfl (lv_at hl 0 rfl) ?_
    refine lv_iload_n hx hb dX0_tellsPair_19 rfl (lv_at hl 1 rfl) ?_
    refine lv_iload hx hb dX0_tellsPair_20 (lv_at hl 3 rfl) ?_
    refine inv_q319 hC hA hS hl.1 hw ⟨Nat.le_of_ble_eq_true rfl, Nat.le_of_ble_eq_true rfl⟩ (Nat.le_of_ble_eq_true rfl) ⟨(by show _ ≤ 21; omega), (by show _ ≤ 97; omega)⟩ dX0_tellsPair_22 (fun r2 H locs hw hS => ?_)
    refine lv_i2l hx hb dX0_tellsPair_25 rfl ?_
    refine lv_ladd hx hb dX0_tellsPair_26 ?_
    refine lv_topl (fun v3 ev3 => ?_)
    have hw := hw v3 ev3
    refine lv_lstore (lv' := [(4, .long v3), (0, .ref (a 0)), (3, .int p3), (6, .int x6)]) hx hb dX0_tellsPair_27 hl (by decide) rfl (fun ls hl => ?_)
    obtain ⟨v4, ev4⟩ : ∃ y : Int32, y = x6 + 1 := ⟨_, rfl⟩
    have hw := hw v4 ev4
    refine lv_iinc (v := v4) (lv' := [(6, .int v4), (4, .long v3), (0, .ref (a 0)), (3, .int p3)]) hx hb dX0_tellsPair_29 hl (k := 3) rfl (by rw [ev4]; rfl) (by decide) rfl (fun ls hl => ?_)
    refine lv_goto (tgt := 6) hx hb dX0_tellsPair_32 (by decide) ?_
    exact hK6 _ _ _ hw hS (lv_sub hl [2, 3, 1, 0] rfl) ⟨by omega, by omega⟩
set_option maxHeartbeats 4000000 in
set_option maxRecDepth 100000 in
theorem k_X0_tellsPair_6 {p : Program} {l : Launch} {e : Env} {s : State} {m : MethodId} {args : Array Value} {below : List Frame} {meth : Method} {c : Code} {D : va_G} {dT : Nat → ClassId} {a : Nat → Nat} {A : Nat → Prop} {vs0 : XE} {p1 : Int64} {p3 : Int32} {post : Int64 → XS → Prop} (hC : wCx RX0 cX0_tellsPair 8 (some .long) D dT p s m args meth c) (hA : wAz A s) (hfl : l.stackTraces = false) : ∀ (X : XS) (x4 : Int64) (x6 : Int32) (n : Nat), ∀ {vs : XE} {H : Heap} {locs : List Loc} {ls : Array Slot} {cells slots : Nat}, StX D dT a A s vs0 X vs H locs → lv_has ls 8 [(0, .ref (a 0)), (3, .int p3), (4, .long x4), (6, .int x6)] → cells + 21 ≤ 21 ∧ slots + 97 ≤ 97 → w_X0_tellsPair_6 p1 p3 post n X x4 x6 → W p l e rmX0_tellsPair s m args below meth c H locs cells slots (MQ below (va_Ql (fun r u9 => post r u9.1) (wB D (XW dT a) (XI vs0) A) A) args s 21 97 A) (F0 m 6 ls []) := by
  intro X x4 x6 n
  induction n generalizing X x4 x6 with
  | zero => intro vs H locs ls cells slots  hS hl hc hw; exact hw.elim
  | succ n ih =>
    intro vs H locs ls cells slots  hS hl hc hw
    exact k_X0_tellsPair_6b hC hA hfl (fun X x4 x6 hk {vs} {H} {locs} {ls} {cells} {slots}  hS hl hc => ih X x4 x6  hS hl hc hk) X x4 x6  hS hl hc hw
set_option maxHeartbeats 4000000 in
set_option maxRecDepth 100000 in
theorem k_X0_tellsPair_0 {p : Program} {l : Launch} {e : Env} {s : State} {m : MethodId} {args : Array Value} {below : List Frame} {meth : Method} {c : Code} {D : va_G} {dT : Nat → ClassId} {a : Nat → Nat} {A : Nat → Prop} {vs0 : XE} {p1 : Int64} {p3 : Int32} {post : Int64 → XS → Prop} (hC : wCx RX0 cX0_tellsPair 8 (some .long) D dT p s m args meth c) (hA : wAz A s) (hfl : l.stackTraces = false) (X : XS) {vs : XE} {H : Heap} {locs : List Loc} {ls : Array Slot} {cells slots : Nat} (hS : StX D dT a A s vs0 X vs H locs) (hl : lv_has ls 8 [(0, .ref (a 0)), (1, .long p1), (3, .int p3)]) (hc : cells + 21 ≤ 21 ∧ slots + 97 ≤ 97) (hw : w_X0_tellsPair p1 p3 post X) : W p l e rmX0_tellsPair s m args below meth c H locs cells slots (MQ below (va_Ql (fun r u9 => post r u9.1) (wB D (XW dT a) (XI vs0) A) A) args s 21 97 A) (F0 m 0 ls []) := by
  have hx := hC.1
  have hb := hC.2.1
  have hown := hC.2.2.2.1
  have hts := hC.2.2.2.2.1
  unfold w_X0_tellsPair at hw
  obtain ⟨hc1, hc2⟩ := hc
  refine lv_lload_n hx hb dX0_tellsPair_0 rfl (lv_at hl 1 rfl) ?_
  refine lv_lstore (lv' := [(4, .long p1), (0, .ref (a 0)), (1, .long p1), (3, .int p3)]) hx hb dX0_tellsPair_1 hl (by decide) rfl (fun ls hl => ?_)
  refine lv_iconst (v := 0) hx hb dX0_tellsPair_3 (by decide) ?_
  refine lv_istore (lv' := [(6, .int 0), (4, .long p1), (0, .ref (a 0)), (1, .long p1), (3, .int p3)]) hx hb dX0_tellsPair_4 hl (by decide) rfl (fun ls hl => ?_)
  obtain ⟨n, hw⟩ := hw
  exact k_X0_tellsPair_6 hC hA hfl _ _ _ n hS (lv_sub hl [2, 4, 1, 0] rfl) ⟨by omega, by omega⟩ hw
abbrev v_X0_tellsPair (X : XS) (p1 : Int64) (p3 : Int32) (post : Int64 → XS → Prop) : Prop := w_X0_tellsPair p1 p3 post X
set_option maxHeartbeats 4000000 in
set_option maxRecDepth 100000 in
theorem met_X0_tellsPair (l : Launch) (hfl : l.stackTraces = false) (D : va_G) (dT : Nat → ClassId) (a : Nat → Nat) (sz : Nat) (X : XS) (vs0 : XE) (p1 : Int64) (p3 : Int32) (post : Int64 → XS → Prop) (hw : v_X0_tellsPair X p1 p3 post) : Met l yX0_tellsPair (ws_ yX0_tellsPair cX0_tellsPair 8 (some .long)) rmX0_tellsPair (wPc D dT (XW dT a) (XI vs0) sz (X, vs0) [.ref (a 0), .long p1, .int p3]) (va_Ql (fun r u9 => post r u9.1) (wB D (XW dT a) (XI vs0) (va_A ((XW dT a) (X, vs0)) sz)) (va_A ((XW dT a) (X, vs0)) sz)) 21 97 (va_A ((XW dT a) (X, vs0)) sz) :=
  wEnt (Q := fun A => (va_Ql (fun r u9 => post r u9.1) (wB D (XW dT a) (XI vs0) A) A)) (by decide) (Nat.le_of_ble_eq_true rfl) (fun p e s m below meth c A ls hC _ hA hS hl => k_X0_tellsPair_0 hC hA hfl _ hS hl ⟨by omega, by omega⟩ hw) sz
theorem hd_X0_tellsPair : yX0_tellsPair.cls ≠ "java/lang/invoke/MethodHandle" ∧ yX0_tellsPair.cls ≠ "java/lang/invoke/VarHandle" ∧ (parseMethodDescriptor yX0_tellsPair.desc).map (fun d => d.parameters.length) = some 2 := by decide +kernel
section
variable {p : Program} {l : Launch} {e : Env} {R : Room} {s : State} {m : MethodId} {args : Array Value} {below : List Frame} {meth : Method} {c : Code} {H : Heap} {locs : List Loc} {cells slots : Nat} {Q : State → Prop} {cc : ByteArray} {nL : Nat} {ret : Option FieldType} {pc : Nat} {ls : Array Slot} {rest : List Value}
set_option maxHeartbeats 4000000 in
set_option maxRecDepth 100000 in
theorem inv_q925 {D : va_G} {dT : Nat → ClassId} {a : Nat → Nat} {A : Nat → Prop} {vs0 : XE} {vs : XE} {X : XS} {p1 : Int64} {p3 : Int32} {post : Int64 → XS → Prop} (hC : wCx RX0 cc nL ret D dT p s m args meth c) (hA : wAz A s) (hfl : l.stackTraces = false) (hS : StX D dT a A s vs0 X vs H locs) (hl : ls.size = nL) (hw : v_X0_tellsPair X p1 p3 post) (hR : rmX0_tellsPair.frames + 1 ≤ R.frames ∧ 8 + (8 + 11) + rmX0_tellsPair.locals ≤ R.locals) (hrest : (rest.map fun v => v.category).sum ≤ 8) (hf : cells + 21 ≤ R.cells ∧ slots + 97 ≤ R.slots) (hdg : decode cc pc = .ok (.invokevirtual 372, 3))  (kk : ∀ (r : Int64) (X1 : XS) (vs1 : XE) (H1 : Heap) (locs1 : List Loc), post r X1 → (∀ v ∈ vs, v ∈ vs1) → StX D dT a A s vs0 X1 vs1 H1 locs1 → W p l e R s m args below meth c H1 locs1 (cells + 21) (slots + 97) Q (F0 m (pc + 3) ls (.long r :: rest))) : W p l e R s m args below meth c H locs cells slots Q (F0 m pc ls (.int p3 :: .long p1 :: .ref (a 0) :: rest)) := by
  exact xNl hA hS (wRunV (As := [.long p1, .int p3]) (rest := rest) (mc := 21) (ms := 97) 0 hC (met_X0_tellsPair l hfl D dT a H.size X vs p1 p3 post hw) (lw_V q925 q927 qs45 q85 q928) ⟨⟨rfl, rfl⟩, hd_X0_tellsPair, hR, hf⟩ XW_0 rfl rfl hA hS.self hl rfl hrest hdg) kk
end
/-! LeastFrames.digest -/
def w_X0_digest_157b (K145 : XS → Int64 → Int32 → Int32 → Prop) (K157 : XS → Int64 → Int32 → Int32 → Int32 → Prop) (post : Int64 → XS → Prop) (X : XS) (x1 : Int64) (x3 : Int32) (x4 : Int32) (x5 : Int32) : Prop :=
  ((7 : Int32) ≤ x5 → (∀ v2 : Int32, v2 = x4 + 1 → (K145 X x1 x3 v2))) ∧ (¬ (7 : Int32) ≤ x5 → (vp_in x4 5 ∧ (v_X1_tells X x4.toNatClampNeg x5 (fun r4 => ∀ v5 : Int64, v5 = (31 * x1) + r4.toInt64 → (∀ v6 : Int32, v6 = x5 + 1 → (K157 X v5 x3 x4 v6))))))
def w_X0_digest_157 (K145 : XS → Int64 → Int32 → Int32 → Prop) (post : Int64 → XS → Prop) : Nat → XS → Int64 → Int32 → Int32 → Int32 → Prop
  | 0, _, _, _, _, _ => False
  | n + 1, X, x1, x3, x4, x5 => w_X0_digest_157b K145 (w_X0_digest_157 K145 post n) post X x1 x3 x4 x5
def w_X0_digest_276b (K260 : XS → Int64 → Int32 → Int32 → Prop) (K276 : XS → Int64 → Int32 → Int32 → Int32 → Prop) (post : Int64 → XS → Prop) (X : XS) (x1 : Int64) (x3 : Int32) (x4 : Int32) (x5 : Int32) : Prop :=
  ((6 : Int32) ≤ x5 → (∀ v2 : Int32, v2 = x4 + 1 → (K260 X x1 x3 v2))) ∧ (¬ (6 : Int32) ≤ x5 → (v_X0_crossBy X x5 (fun r3 => ∀ v4 : Int64, v4 = (31 * x1) + r3.toInt64 → (∀ v5 : Int32, v5 = x5 + 1 → (K276 X v4 x3 x4 v5)))))
def w_X0_digest_276 (K260 : XS → Int64 → Int32 → Int32 → Prop) (post : Int64 → XS → Prop) : Nat → XS → Int64 → Int32 → Int32 → Int32 → Prop
  | 0, _, _, _, _, _ => False
  | n + 1, X, x1, x3, x4, x5 => w_X0_digest_276b K260 (w_X0_digest_276 K260 post n) post X x1 x3 x4 x5
def w_X0_digest_260b (K260 : XS → Int64 → Int32 → Int32 → Prop) (post : Int64 → XS → Prop) (X : XS) (x1 : Int64) (x3 : Int32) (x4 : Int32) : Prop :=
  (x3 = (0 : Int32) → (post x1 X)) ∧ (¬ x3 = (0 : Int32) → (v_X0_crossed X x4 (fun r2 X3 => (r2 = (0 : Int32) → (post x1 X3)) ∧ (¬ r2 = (0 : Int32) → (∃ n, w_X0_digest_276 K260 post n X3 x1 x3 x4 0)))))
def w_X0_digest_260 (post : Int64 → XS → Prop) : Nat → XS → Int64 → Int32 → Int32 → Prop
  | 0, _, _, _, _ => False
  | n + 1, X, x1, x3, x4 => w_X0_digest_260b  (w_X0_digest_260 post n) post X x1 x3 x4
def w_X0_digest_225b (K225 : XS → Int64 → Int32 → Int32 → Prop) (post : Int64 → XS → Prop) (X : XS) (x1 : Int64) (x3 : Int32) (x4 : Int32) : Prop :=
  ((2 : Int32) ≤ x4 → (∃ n, w_X0_digest_260 post n X x1 x3 0)) ∧ (¬ (2 : Int32) ≤ x4 → (v_X0_worked X (fun r2 => v_X0_part r2.toInt64 (12 : Int64) x4 (fun r3 => ∀ v4 : Int64, v4 = (31 * x1) + r3 → (∀ v5 : Int32, v5 = x4 + 1 → (K225 X v4 x3 v5))))))
def w_X0_digest_225 (post : Int64 → XS → Prop) : Nat → XS → Int64 → Int32 → Int32 → Prop
  | 0, _, _, _, _ => False
  | n + 1, X, x1, x3, x4 => w_X0_digest_225b  (w_X0_digest_225 post n) post X x1 x3 x4
def w_X0_digest_199b (K199 : XS → Int64 → Int32 → Int32 → Prop) (post : Int64 → XS → Prop) (X : XS) (x1 : Int64) (x3 : Int32) (x4 : Int32) : Prop :=
  v_X0_pairs X (fun r1 => (r1 ≤ x4 → (∃ n, w_X0_digest_225 post n X x1 x3 0)) ∧ (¬ r1 ≤ x4 → (v_X0_tellsPair X x1 x4 (fun r3 X4 => ∀ v5 : Int32, v5 = x4 + 1 → (K199 X4 r3 x3 v5)))))
def w_X0_digest_199 (post : Int64 → XS → Prop) : Nat → XS → Int64 → Int32 → Int32 → Prop
  | 0, _, _, _, _ => False
  | n + 1, X, x1, x3, x4 => w_X0_digest_199b  (w_X0_digest_199 post n) post X x1 x3 x4
def w_X0_digest_145b (K145 : XS → Int64 → Int32 → Int32 → Prop) (post : Int64 → XS → Prop) (X : XS) (x1 : Int64) (x3 : Int32) (x4 : Int32) : Prop :=
  ((X_many X) ≤ x4 → (∃ n, n ≤ 11 ∧ w_X0_digest_199 post n X x1 x3 0)) ∧ (¬ (X_many X) ≤ x4 → (∃ n, w_X0_digest_157 K145 post n X x1 x3 x4 0))
def w_X0_digest_145 (post : Int64 → XS → Prop) : Nat → XS → Int64 → Int32 → Int32 → Prop
  | 0, _, _, _, _ => False
  | n + 1, X, x1, x3, x4 => w_X0_digest_145b  (w_X0_digest_145 post n) post X x1 x3 x4
def w_X0_digest_139 (post : Int64 → XS → Prop) (X : XS) (x3 : Int32) (y0 : Int32) (y1 : Int64) : Prop :=
  ∀ v1 : Int64, v1 = y1 + y0.toInt64 → (∃ n, w_X0_digest_145 post n X v1 x3 0)
def w_X0_digest_118 (post : Int64 → XS → Prop) (X : XS) (x3 : Int32) (y0 : Int32) (y1 : Int64) : Prop :=
  ∀ v1 : Int64, v1 = y1 + y0.toInt64 → ((x3 = (0 : Int32) → (w_X0_digest_139 post X x3 (-3) (31 * v1))) ∧ (¬ x3 = (0 : Int32) → (v_X0_dearestNow X (fun r3 X4 => w_X0_digest_139 post X4 x3 r3 (31 * v1)))))
def w_X0_digest_97 (post : Int64 → XS → Prop) (X : XS) (x3 : Int32) (y0 : Int32) (y1 : Int64) : Prop :=
  ∀ v1 : Int64, v1 = y1 + y0.toInt64 → ((x3 = (0 : Int32) → (w_X0_digest_118 post X x3 (-3) (31 * v1))) ∧ (¬ x3 = (0 : Int32) → (v_X0_neededNow X (fun r3 X4 => w_X0_digest_118 post X4 x3 r3 (31 * v1)))))
def w_X0_digest_42b (K42 : XS → Int64 → Int32 → Int32 → Prop) (post : Int64 → XS → Prop) (X : XS) (x1 : Int64) (x3 : Int32) (x4 : Int32) : Prop :=
  ((2 : Int32) ≤ x4 → (∀ v2 : Int64, v2 = (31 * x1) + ((X_fault X).toInt64) → ((x3 = (0 : Int32) → (w_X0_digest_97 post X x3 (-3) (31 * v2))) ∧ (¬ x3 = (0 : Int32) → (w_X0_digest_97 post X x3 (X_frame X) (31 * v2)))))) ∧ (¬ (2 : Int32) ≤ x4 → (v_X0_leastBy X x4 (fun r4 => ∀ v5 : Int64, v5 = (31 * x1) + r4 → (∀ v6 : Int32, v6 = x4 + 1 → (K42 X v5 x3 v6)))))
def w_X0_digest_42 (post : Int64 → XS → Prop) : Nat → XS → Int64 → Int32 → Int32 → Prop
  | 0, _, _, _, _ => False
  | n + 1, X, x1, x3, x4 => w_X0_digest_42b  (w_X0_digest_42 post n) post X x1 x3 x4
def w_X0_digest_12b (K12 : XS → Int64 → Int32 → Int32 → Prop) (post : Int64 → XS → Prop) (X : XS) (x1 : Int64) (x3 : Int32) (x4 : Int32) : Prop :=
  ((8 : Int32) ≤ x4 → (∃ n, w_X0_digest_42 post n X x1 x3 0)) ∧ (¬ (8 : Int32) ≤ x4 → (v_X0_countBy X x4 (fun r2 X3 => ∀ v4 : Int64, v4 = (31 * x1) + r2.toInt64 → (∀ v5 : Int32, v5 = x4 + 1 → (K12 X3 v4 x3 v5)))))
def w_X0_digest_12 (post : Int64 → XS → Prop) : Nat → XS → Int64 → Int32 → Int32 → Prop
  | 0, _, _, _, _ => False
  | n + 1, X, x1, x3, x4 => w_X0_digest_12b  (w_X0_digest_12 post n) post X x1 x3 x4
def w_X0_digest (post : Int64 → XS → Prop) (X : XS) : Prop :=
  v_X0_looks X (fun r1 X2 => ∃ n, n ≤ 11 ∧ w_X0_digest_12 post n X2 17 r1 0)
abbrev rmX0_digest : Room := { frames := 12, cells := 685, slots := 3470, locals := 280 }
set_option maxHeartbeats 4000000 in
set_option maxRecDepth 100000 in
theorem k_X0_digest_157b {p : Program} {l : Launch} {e : Env} {s : State} {m : MethodId} {args : Array Value} {below : List Frame} {meth : Method} {c : Code} {D : va_G} {dT : Nat → ClassId} {a : Nat → Nat} {A : Nat → Prop} {vs0 : XE} {K145 : XS → Int64 → Int32 → Int32 → Prop} {K157 : XS → Int64 → Int32 → Int32 → Int32 → Prop} {post : Int64 → XS → Prop} (hC : wCx RX0 cX0_digest 6 (some .long) D dT p s m args meth c) (hA : wAz A s) (hfl : l.stackTraces = false) (hK145 : ∀ (X : XS) (x1 : Int64) (x3 : Int32) (x4 : Int32), K145 X x1 x3 x4 → ∀ {vs : XE} {H : Heap} {locs : List Loc} {ls : Array Slot} {cells slots : Nat}, StX D dT a A s vs0 X vs H locs → lv_has ls 6 [(0, .ref (a 0)), (1, .long x1), (3, .int x3), (4, .int x4)] → cells + 231 ≤ 685 ∧ slots + 1067 ≤ 3470 → W p l e rmX0_digest s m args below meth c H locs cells slots (MQ below (va_Ql (fun r u9 => post r u9.1) (wB D (XW dT a) (XI vs0) A) A) args s 685 3470 A) (F0 m 145 ls [])) (hK157 : ∀ (X : XS) (x1 : Int64) (x3 : Int32) (x4 : Int32) (x5 : Int32), K157 X x1 x3 x4 x5 → ∀ {vs : XE} {H : Heap} {locs : List Loc} {ls : Array Slot} {cells slots : Nat}, StX D dT a A s vs0 X vs H locs → lv_has ls 6 [(0, .ref (a 0)), (1, .long x1), (3, .int x3), (4, .int x4), (5, .int x5)] → cells + 231 ≤ 685 ∧ slots + 1067 ≤ 3470 → W p l e rmX0_digest s m args below meth c H locs cells slots (MQ below (va_Ql (fun r u9 => post r u9.1) (wB D (XW dT a) (XI vs0) A) A) args s 685 3470 A) (F0 m 157 ls [])) (X : XS) (x1 : Int64) (x3 : Int32) (x4 : Int32) (x5 : Int32) {vs : XE} {H : Heap} {locs : List Loc} {ls : Array Slot} {cells slots : Nat} (hS : StX D dT a A s vs0 X vs H locs) (hl : lv_has ls 6 [(0, .ref (a 0)), (1, .long x1), (3, .int x3), (4, .int x4), (5, .int x5)]) (hc : cells + 231 ≤ 685 ∧ slots + 1067 ≤ 3470) (hw : w_X0_digest_157b K145 K157 post X x1 x3 x4 x5) : W p l e rmX0_digest s m args below meth c H locs cells slots (MQ below (va_Ql (fun r u9 => post r u9.1) (wB D (XW dT a) (XI vs0) A) A) args s 685 3470 A) (F0 m 157 ls []) := by
  have hx := hC.1
  have hb := hC.2.1
  have hown := hC.2.2.2.1
  have hts := hC.2.2.2.2.1
  unfold w_X0_digest_157b at hw
  obtain ⟨hc1, hc2⟩ := hc
  refine lv_iload hx hb dX0_digest_157 (lv_at hl 4 rfl) ?_
  refine lv_bipush (v := 7) hx hb dX0_digest_159 (by decide) ?_
  refine lv_icmp_ge (tgt := 190) hx hb dX0_digest_161 (by decide) (fun c1 => ?_) (fun c1 => ?_)
  · have hw := hw.1 c1
    obtain ⟨v2, ev2⟩ : ∃ y : Int32, y = x4 + 1 := ⟨_, rfl⟩
    have hw := hw v2 ev2
    refine lv_iinc (v := v2) (lv' := [(4, .int v2), (0, .ref (a 0)), (1, .long x1), (3, .int x3), (5, .int x5)]) hx hb dX0_digest_190 hl (k := 3) rfl (by rw [ev2]; rfl) (by decide) rfl (fun ls hl => ?_)
    refine lv_goto (tgt := 145) hx hb dX0_digest_193 (by decide) ?_
    exact hK145 _ _ _ _ hw hS (lv_sub hl [1, 2, 3, 0] rfl) ⟨by omega, by omega⟩
  · have hw := hw.2 c1
    refine lv_ldc2 (v := 31) hx hb hown (hts _ q924) dX0_digest_164 ?_
    refine lv_lload_n hx hb dX0_digest_167 rfl (lv_at hl 1 rfl) ?_
    refine lv_lmul hx hb dX0_digest_168 ?_
    refine lv_aload_n hx hb dX0_digest_169 rfl (lv_at hl 0 rfl) ?_
    refine ld_q193 hC hS dX0_digest_170 ?_
    refine lv_iload hx hb dX0_digest_173 (lv_at hl 3 rfl) ?_
    have hi3 := hw.1
    have hw := hw.2
    refine aa_PA hC hS hi3 dX0_digest_175 ?_
    refine lv_iload hx hb dX0_digest_176 (lv_at hl 4 rfl) ?_
    refine inv_q311 hC hA hS (vp_lt hi3) hl.1 hw ⟨Nat.le_of_ble_eq_true rfl, Nat.le_of_ble_eq_true rfl⟩ (Nat.le_of_ble_eq_true rfl) ⟨(by show _ ≤ 685; omega), (by show _ ≤ 3470; omega)⟩ dX0_digest_178 (fun r4 H locs hw hS => ?_)
    refine lv_i2l hx hb dX0_digest_181 rfl ?_
    refine lv_ladd hx hb dX0_digest_182 ?_
    refine lv_topl (fun v5 ev5 => ?_)
    have hw := hw v5 ev5
    refine lv_lstore_n (lv' := [(1, .long v5), (0, .ref (a 0)), (3, .int x3), (4, .int x4), (5, .int x5)]) hx hb dX0_digest_183 rfl hl (by decide) rfl (fun ls hl => ?_)
    obtain ⟨v6, ev6⟩ : ∃ y : Int32, y = x5 + 1 := ⟨_, rfl⟩
    have hw := hw v6 ev6
    refine lv_iinc (v := v6) (lv' := [(5, .int v6), (1, .long v5), (0, .ref (a 0)), (3, .int x3), (4, .int x4)]) hx hb dX0_digest_184 hl (k := 4) rfl (by rw [ev6]; rfl) (by decide) rfl (fun ls hl => ?_)
    refine lv_goto (tgt := 157) hx hb dX0_digest_187 (by decide) ?_
    exact hK157 _ _ _ _ _ hw hS (lv_sub hl [2, 1, 3, 4, 0] rfl) ⟨by omega, by omega⟩
set_option maxHeartbeats 4000000 in
set_option maxRecDepth 100000 in
theorem k_X0_digest_157 {p : Program} {l : Launch} {e : Env} {s : State} {m : MethodId} {args : Array Value} {below : List Frame} {meth : Method} {c : Code} {D : va_G} {dT : Nat → ClassId} {a : Nat → Nat} {A : Nat → Prop} {vs0 : XE} {K145 : XS → Int64 → Int32 → Int32 → Prop} {post : Int64 → XS → Prop} (hC : wCx RX0 cX0_digest 6 (some .long) D dT p s m args meth c) (hA : wAz A s) (hfl : l.stackTraces = false) (hK145 : ∀ (X : XS) (x1 : Int64) (x3 : Int32) (x4 : Int32), K145 X x1 x3 x4 → ∀ {vs : XE} {H : Heap} {locs : List Loc} {ls : Array Slot} {cells slots : Nat}, StX D dT a A s vs0 X vs H locs → lv_has ls 6 [(0, .ref (a 0)), (1, .long x1), (3, .int x3), (4, .int x4)] → cells + 231 ≤ 685 ∧ slots + 1067 ≤ 3470 → W p l e rmX0_digest s m args below meth c H locs cells slots (MQ below (va_Ql (fun r u9 => post r u9.1) (wB D (XW dT a) (XI vs0) A) A) args s 685 3470 A) (F0 m 145 ls [])) : ∀ (X : XS) (x1 : Int64) (x3 : Int32) (x4 : Int32) (x5 : Int32) (n : Nat), ∀ {vs : XE} {H : Heap} {locs : List Loc} {ls : Array Slot} {cells slots : Nat}, StX D dT a A s vs0 X vs H locs → lv_has ls 6 [(0, .ref (a 0)), (1, .long x1), (3, .int x3), (4, .int x4), (5, .int x5)] → cells + 231 ≤ 685 ∧ slots + 1067 ≤ 3470 → w_X0_digest_157 K145 post n X x1 x3 x4 x5 → W p l e rmX0_digest s m args below meth c H locs cells slots (MQ below (va_Ql (fun r u9 => post r u9.1) (wB D (XW dT a) (XI vs0) A) A) args s 685 3470 A) (F0 m 157 ls []) := by
  intro X x1 x3 x4 x5 n
  induction n generalizing X x1 x3 x4 x5 with
  | zero => intro vs H locs ls cells slots  hS hl hc hw; exact hw.elim
  | succ n ih =>
    intro vs H locs ls cells slots  hS hl hc hw
    exact k_X0_digest_157b hC hA hfl hK145 (fun X x1 x3 x4 x5 hk {vs} {H} {locs} {ls} {cells} {slots}  hS hl hc => ih X x1 x3 x4 x5  hS hl hc hk) X x1 x3 x4 x5  hS hl hc hw
set_option maxHeartbeats 4000000 in
set_option maxRecDepth 100000 in
theorem k_X0_digest_276b {p : Program} {l : Launch} {e : Env} {s : State} {m : MethodId} {args : Array Value} {below : List Frame} {meth : Method} {c : Code} {D : va_G} {dT : Nat → ClassId} {a : Nat → Nat} {A : Nat → Prop} {vs0 : XE} {K260 : XS → Int64 → Int32 → Int32 → Prop} {K276 : XS → Int64 → Int32 → Int32 → Int32 → Prop} {post : Int64 → XS → Prop} (hC : wCx RX0 cX0_digest 6 (some .long) D dT p s m args meth c) (hA : wAz A s) (hfl : l.stackTraces = false) (hK260 : ∀ (X : XS) (x1 : Int64) (x3 : Int32) (x4 : Int32), K260 X x1 x3 x4 → ∀ {vs : XE} {H : Heap} {locs : List Loc} {ls : Array Slot} {cells slots : Nat}, StX D dT a A s vs0 X vs H locs → lv_has ls 6 [(0, .ref (a 0)), (1, .long x1), (3, .int x3), (4, .int x4)] → cells + 0 ≤ 685 ∧ slots + 0 ≤ 3470 → W p l e rmX0_digest s m args below meth c H locs cells slots (MQ below (va_Ql (fun r u9 => post r u9.1) (wB D (XW dT a) (XI vs0) A) A) args s 685 3470 A) (F0 m 260 ls [])) (hK276 : ∀ (X : XS) (x1 : Int64) (x3 : Int32) (x4 : Int32) (x5 : Int32), K276 X x1 x3 x4 x5 → ∀ {vs : XE} {H : Heap} {locs : List Loc} {ls : Array Slot} {cells slots : Nat}, StX D dT a A s vs0 X vs H locs → lv_has ls 6 [(0, .ref (a 0)), (1, .long x1), (3, .int x3), (4, .int x4), (5, .int x5)] → cells + 0 ≤ 685 ∧ slots + 0 ≤ 3470 → W p l e rmX0_digest s m args below meth c H locs cells slots (MQ below (va_Ql (fun r u9 => post r u9.1) (wB D (XW dT a) (XI vs0) A) A) args s 685 3470 A) (F0 m 276 ls [])) (X : XS) (x1 : Int64) (x3 : Int32) (x4 : Int32) (x5 : Int32) {vs : XE} {H : Heap} {locs : List Loc} {ls : Array Slot} {cells slots : Nat} (hS : StX D dT a A s vs0 X vs H locs) (hl : lv_has ls 6 [(0, .ref (a 0)), (1, .long x1), (3, .int x3), (4, .int x4), (5, .int x5)]) (hc : cells + 0 ≤ 685 ∧ slots + 0 ≤ 3470) (hw : w_X0_digest_276b K260 K276 post X x1 x3 x4 x5) : W p l e rmX0_digest s m args below meth c H locs cells slots (MQ below (va_Ql (fun r u9 => post r u9.1) (wB D (XW dT a) (XI vs0) A) A) args s 685 3470 A) (F0 m 276 ls []) := by
  have hx := hC.1
  have hb := hC.2.1
  have hown := hC.2.2.2.1
  have hts := hC.2.2.2.2.1
  unfold w_X0_digest_276b at hw
  obtain ⟨hc1, hc2⟩ := hc
  refine lv_iload hx hb dX0_digest_276 (lv_at hl 4 rfl) ?_
  refine lv_bipush (v := 6) hx hb dX0_digest_278 (by decide) ?_
  refine lv_icmp_ge (tgt := 303) hx hb dX0_digest_280 (by decide) (fun c1 => ?_) (fun c1 => ?_)
  · have hw := hw.1 c1
    obtain ⟨v2, ev2⟩ : ∃ y : Int32, y = x4 + 1 := ⟨_, rfl⟩
    have hw := hw v2 ev2
    refine lv_iinc (v := v2) (lv' := [(4, .int v2), (0, .ref (a 0)), (1, .long x1), (3, .int x3), (5, .int x5)]) hx hb dX0_digest_303 hl (k := 3) rfl (by rw [ev2]; rfl) (by decide) rfl (fun ls hl => ?_)
    refine lv_goto (tgt := 260) hx hb dX0_digest_306 (by decide) ?_
    exact hK260 _ _ _ _ hw hS (lv_sub hl [1, 2, 3, 0] rfl) ⟨by omega, by omega⟩
  · have hw := hw.2 c1
    refine lv_ldc2 (v := 31) hx hb hown (hts _ q924) dX0_digest_283 ?_
    refine lv_lload_n hx hb dX0_digest_286 rfl (lv_at hl 1 rfl) ?_
    refine lv_lmul hx hb dX0_digest_287 ?_
    refine lv_aload_n hx hb dX0_digest_288 rfl (lv_at hl 0 rfl) ?_
    refine lv_iload hx hb dX0_digest_289 (lv_at hl 4 rfl) ?_
    refine inv_q734 hC hA hS hl.1 hw ⟨Nat.le_of_ble_eq_true rfl, Nat.le_of_ble_eq_true rfl⟩ (Nat.le_of_ble_eq_true rfl) ⟨(by show _ ≤ 685; omega), (by show _ ≤ 3470; omega)⟩ dX0_digest_291 (fun r3 H locs hw hS => ?_)
    refine lv_i2l hx hb dX0_digest_294 rfl ?_
    refine lv_ladd hx hb dX0_digest_295 ?_
    refine lv_topl (fun v4 ev4 => ?_)
    have hw := hw v4 ev4
    refine lv_lstore_n (lv' := [(1, .long v4), (0, .ref (a 0)), (3, .int x3), (4, .int x4), (5, .int x5)]) hx hb dX0_digest_296 rfl hl (by decide) rfl (fun ls hl => ?_)
    obtain ⟨v5, ev5⟩ : ∃ y : Int32, y = x5 + 1 := ⟨_, rfl⟩
    have hw := hw v5 ev5
    refine lv_iinc (v := v5) (lv' := [(5, .int v5), (1, .long v4), (0, .ref (a 0)), (3, .int x3), (4, .int x4)]) hx hb dX0_digest_297 hl (k := 4) rfl (by rw [ev5]; rfl) (by decide) rfl (fun ls hl => ?_)
    refine lv_goto (tgt := 276) hx hb dX0_digest_300 (by decide) ?_
    exact hK276 _ _ _ _ _ hw hS (lv_sub hl [2, 1, 3, 4, 0] rfl) ⟨by omega, by omega⟩
set_option maxHeartbeats 4000000 in
set_option maxRecDepth 100000 in
theorem k_X0_digest_276 {p : Program} {l : Launch} {e : Env} {s : State} {m : MethodId} {args : Array Value} {below : List Frame} {meth : Method} {c : Code} {D : va_G} {dT : Nat → ClassId} {a : Nat → Nat} {A : Nat → Prop} {vs0 : XE} {K260 : XS → Int64 → Int32 → Int32 → Prop} {post : Int64 → XS → Prop} (hC : wCx RX0 cX0_digest 6 (some .long) D dT p s m args meth c) (hA : wAz A s) (hfl : l.stackTraces = false) (hK260 : ∀ (X : XS) (x1 : Int64) (x3 : Int32) (x4 : Int32), K260 X x1 x3 x4 → ∀ {vs : XE} {H : Heap} {locs : List Loc} {ls : Array Slot} {cells slots : Nat}, StX D dT a A s vs0 X vs H locs → lv_has ls 6 [(0, .ref (a 0)), (1, .long x1), (3, .int x3), (4, .int x4)] → cells + 0 ≤ 685 ∧ slots + 0 ≤ 3470 → W p l e rmX0_digest s m args below meth c H locs cells slots (MQ below (va_Ql (fun r u9 => post r u9.1) (wB D (XW dT a) (XI vs0) A) A) args s 685 3470 A) (F0 m 260 ls [])) : ∀ (X : XS) (x1 : Int64) (x3 : Int32) (x4 : Int32) (x5 : Int32) (n : Nat), ∀ {vs : XE} {H : Heap} {locs : List Loc} {ls : Array Slot} {cells slots : Nat}, StX D dT a A s vs0 X vs H locs → lv_has ls 6 [(0, .ref (a 0)), (1, .long x1), (3, .int x3), (4, .int x4), (5, .int x5)] → cells + 0 ≤ 685 ∧ slots + 0 ≤ 3470 → w_X0_digest_276 K260 post n X x1 x3 x4 x5 → W p l e rmX0_digest s m args below meth c H locs cells slots (MQ below (va_Ql (fun r u9 => post r u9.1) (wB D (XW dT a) (XI vs0) A) A) args s 685 3470 A) (F0 m 276 ls []) := by
  intro X x1 x3 x4 x5 n
  induction n generalizing X x1 x3 x4 x5 with
  | zero => intro vs H locs ls cells slots  hS hl hc hw; exact hw.elim
  | succ n ih =>
    intro vs H locs ls cells slots  hS hl hc hw
    exact k_X0_digest_276b hC hA hfl hK260 (fun X x1 x3 x4 x5 hk {vs} {H} {locs} {ls} {cells} {slots}  hS hl hc => ih X x1 x3 x4 x5  hS hl hc hk) X x1 x3 x4 x5  hS hl hc hw
set_option maxHeartbeats 4000000 in
set_option maxRecDepth 100000 in
theorem k_X0_digest_260b {p : Program} {l : Launch} {e : Env} {s : State} {m : MethodId} {args : Array Value} {below : List Frame} {meth : Method} {c : Code} {D : va_G} {dT : Nat → ClassId} {a : Nat → Nat} {A : Nat → Prop} {vs0 : XE} {K260 : XS → Int64 → Int32 → Int32 → Prop} {post : Int64 → XS → Prop} (hC : wCx RX0 cX0_digest 6 (some .long) D dT p s m args meth c) (hA : wAz A s) (hfl : l.stackTraces = false) (hK260 : ∀ (X : XS) (x1 : Int64) (x3 : Int32) (x4 : Int32), K260 X x1 x3 x4 → ∀ {vs : XE} {H : Heap} {locs : List Loc} {ls : Array Slot} {cells slots : Nat}, StX D dT a A s vs0 X vs H locs → lv_has ls 6 [(0, .ref (a 0)), (1, .long x1), (3, .int x3), (4, .int x4)] → cells + 0 ≤ 685 ∧ slots + 0 ≤ 3470 → W p l e rmX0_digest s m args below meth c H locs cells slots (MQ below (va_Ql (fun r u9 => post r u9.1) (wB D (XW dT a) (XI vs0) A) A) args s 685 3470 A) (F0 m 260 ls [])) (X : XS) (x1 : Int64) (x3 : Int32) (x4 : Int32) {vs : XE} {H : Heap} {locs : List Loc} {ls : Array Slot} {cells slots : Nat} (hS : StX D dT a A s vs0 X vs H locs) (hl : lv_has ls 6 [(0, .ref (a 0)), (1, .long x1), (3, .int x3), (4, .int x4)]) (hc : cells + 0 ≤ 685 ∧ slots + 0 ≤ 3470) (hw : w_X0_digest_260b K260 post X x1 x3 x4) : W p l e rmX0_digest s m args below meth c H locs cells slots (MQ below (va_Ql (fun r u9 => post r u9.1) (wB D (XW dT a) (XI vs0) A) A) args s 685 3470 A) (F0 m 260 ls []) := by
  have hx := hC.1
  have hb := hC.2.1
  have hown := hC.2.2.2.1
  have hts := hC.2.2.2.2.1
  unfold w_X0_digest_260b at hw
  obtain ⟨hc1, hc2⟩ := hc
  refine lv_iload_n hx hb dX0_digest_260 rfl (lv_at hl 2 rfl) ?_
  refine lv_if_eq (tgt := 309) hx hb dX0_digest_261 (by decide) (fun c1 => ?_) (fun c1 => ?_)
  · have hw := hw.1 c1
    refine lv_lload_n hx hb dX0_digest_309 rfl (lv_at hl 1 rfl) ?_
    exact wRetl hC hS hw (by omega) (by omega) dX0_digest_310
  · have hw := hw.2 c1
    refine lv_aload_n hx hb dX0_digest_264 rfl (lv_at hl 0 rfl) ?_
    refine lv_iload hx hb dX0_digest_265 (lv_at hl 3 rfl) ?_
    refine inv_q719 hC hA hS hl.1 hw ⟨Nat.le_of_ble_eq_true rfl, Nat.le_of_ble_eq_true rfl⟩ (Nat.le_of_ble_eq_true rfl) ⟨(by show _ ≤ 685; omega), (by show _ ≤ 3470; omega)⟩ dX0_digest_267 (fun r2 X3 vs H locs hw hv9 hS => ?_)
    refine lv_if_eq (tgt := 309) hx hb dX0_digest_270 (by decide) (fun c4 => ?_) (fun c4 => ?_)
    · have hw := hw.1 c4
      refine lv_lload_n hx hb dX0_digest_309 rfl (lv_at hl 1 rfl) ?_
      exact wRetl hC hS hw (by omega) (by omega) dX0_digest_310
    · have hw := hw.2 c4
      refine lv_iconst (v := 0) hx hb dX0_digest_273 (by decide) ?_
      refine lv_istore (lv' := [(5, .int 0), (0, .ref (a 0)), (1, .long x1), (3, .int x3), (4, .int x4)]) hx hb dX0_digest_274 hl (by decide) rfl (fun ls hl => ?_)
      obtain ⟨n, hw⟩ := hw
      exact k_X0_digest_276 hC hA hfl hK260 _ _ _ _ _ n hS (lv_sub hl [1, 2, 3, 4, 0] rfl) ⟨by omega, by omega⟩ hw
set_option maxHeartbeats 4000000 in
set_option maxRecDepth 100000 in
theorem k_X0_digest_260 {p : Program} {l : Launch} {e : Env} {s : State} {m : MethodId} {args : Array Value} {below : List Frame} {meth : Method} {c : Code} {D : va_G} {dT : Nat → ClassId} {a : Nat → Nat} {A : Nat → Prop} {vs0 : XE} {post : Int64 → XS → Prop} (hC : wCx RX0 cX0_digest 6 (some .long) D dT p s m args meth c) (hA : wAz A s) (hfl : l.stackTraces = false) : ∀ (X : XS) (x1 : Int64) (x3 : Int32) (x4 : Int32) (n : Nat), ∀ {vs : XE} {H : Heap} {locs : List Loc} {ls : Array Slot} {cells slots : Nat}, StX D dT a A s vs0 X vs H locs → lv_has ls 6 [(0, .ref (a 0)), (1, .long x1), (3, .int x3), (4, .int x4)] → cells + 0 ≤ 685 ∧ slots + 0 ≤ 3470 → w_X0_digest_260 post n X x1 x3 x4 → W p l e rmX0_digest s m args below meth c H locs cells slots (MQ below (va_Ql (fun r u9 => post r u9.1) (wB D (XW dT a) (XI vs0) A) A) args s 685 3470 A) (F0 m 260 ls []) := by
  intro X x1 x3 x4 n
  induction n generalizing X x1 x3 x4 with
  | zero => intro vs H locs ls cells slots  hS hl hc hw; exact hw.elim
  | succ n ih =>
    intro vs H locs ls cells slots  hS hl hc hw
    exact k_X0_digest_260b hC hA hfl (fun X x1 x3 x4 hk {vs} {H} {locs} {ls} {cells} {slots}  hS hl hc => ih X x1 x3 x4  hS hl hc hk) X x1 x3 x4  hS hl hc hw
set_option maxHeartbeats 4000000 in
set_option maxRecDepth 100000 in
theorem k_X0_digest_225b {p : Program} {l : Launch} {e : Env} {s : State} {m : MethodId} {args : Array Value} {below : List Frame} {meth : Method} {c : Code} {D : va_G} {dT : Nat → ClassId} {a : Nat → Nat} {A : Nat → Prop} {vs0 : XE} {K225 : XS → Int64 → Int32 → Int32 → Prop} {post : Int64 → XS → Prop} (hC : wCx RX0 cX0_digest 6 (some .long) D dT p s m args meth c) (hA : wAz A s) (hfl : l.stackTraces = false) (hK225 : ∀ (X : XS) (x1 : Int64) (x3 : Int32) (x4 : Int32), K225 X x1 x3 x4 → ∀ {vs : XE} {H : Heap} {locs : List Loc} {ls : Array Slot} {cells slots : Nat}, StX D dT a A s vs0 X vs H locs → lv_has ls 6 [(0, .ref (a 0)), (1, .long x1), (3, .int x3), (4, .int x4)] → cells + 0 ≤ 685 ∧ slots + 0 ≤ 3470 → W p l e rmX0_digest s m args below meth c H locs cells slots (MQ below (va_Ql (fun r u9 => post r u9.1) (wB D (XW dT a) (XI vs0) A) A) args s 685 3470 A) (F0 m 225 ls [])) (X : XS) (x1 : Int64) (x3 : Int32) (x4 : Int32) {vs : XE} {H : Heap} {locs : List Loc} {ls : Array Slot} {cells slots : Nat} (hS : StX D dT a A s vs0 X vs H locs) (hl : lv_has ls 6 [(0, .ref (a 0)), (1, .long x1), (3, .int x3), (4, .int x4)]) (hc : cells + 0 ≤ 685 ∧ slots + 0 ≤ 3470) (hw : w_X0_digest_225b K225 post X x1 x3 x4) : W p l e rmX0_digest s m args below meth c H locs cells slots (MQ below (va_Ql (fun r u9 => post r u9.1) (wB D (XW dT a) (XI vs0) A) A) args s 685 3470 A) (F0 m 225 ls []) := by
  have hx := hC.1
  have hb := hC.2.1
  have hown := hC.2.2.2.1
  have hts := hC.2.2.2.2.1
  unfold w_X0_digest_225b at hw
  obtain ⟨hc1, hc2⟩ := hc
  refine lv_iload hx hb dX0_digest_225 (lv_at hl 3 rfl) ?_
  refine lv_iconst (v := 2) hx hb dX0_digest_227 (by decide) ?_
  refine lv_icmp_ge (tgt := 257) hx hb dX0_digest_228 (by decide) (fun c1 => ?_) (fun c1 => ?_)
  · have hw := hw.1 c1
    refine lv_iconst (v := 0) hx hb dX0_digest_257 (by decide) ?_
    refine lv_istore (lv' := [(4, .int 0), (0, .ref (a 0)), (1, .long x1), (3, .int x3)]) hx hb dX0_digest_258 hl (by decide) rfl (fun ls hl => ?_)
    obtain ⟨n, hw⟩ := hw
    exact k_X0_digest_260 hC hA hfl _ _ _ _ n hS (lv_sub hl [1, 2, 3, 0] rfl) ⟨by omega, by omega⟩ hw
  · have hw := hw.2 c1
    refine lv_ldc2 (v := 31) hx hb hown (hts _ q924) dX0_digest_231 ?_
    refine lv_lload_n hx hb dX0_digest_234 rfl (lv_at hl 1 rfl) ?_
    refine lv_lmul hx hb dX0_digest_235 ?_
    refine lv_aload_n hx hb dX0_digest_236 rfl (lv_at hl 0 rfl) ?_
    refine inv_q699 hC hA hS hl.1 hw ⟨Nat.le_of_ble_eq_true rfl, Nat.le_of_ble_eq_true rfl⟩ (Nat.le_of_ble_eq_true rfl) ⟨(by show _ ≤ 685; omega), (by show _ ≤ 3470; omega)⟩ dX0_digest_237 (fun r2 H locs hw hS => ?_)
    refine lv_i2l hx hb dX0_digest_240 rfl ?_
    refine lv_ldc2 (v := 12) hx hb hown (hts _ q694) dX0_digest_241 ?_
    refine lv_iload hx hb dX0_digest_244 (lv_at hl 3 rfl) ?_
    refine inv_q555 hC hS hl.1 hw ⟨Nat.le_of_ble_eq_true rfl, Nat.le_of_ble_eq_true rfl⟩ (Nat.le_of_ble_eq_true rfl) ⟨(by show _ ≤ 685; omega), (by show _ ≤ 3470; omega)⟩ dX0_digest_246 (fun r3 H locs hw hS => ?_)
    refine lv_ladd hx hb dX0_digest_249 ?_
    refine lv_topl (fun v4 ev4 => ?_)
    have hw := hw v4 ev4
    refine lv_lstore_n (lv' := [(1, .long v4), (0, .ref (a 0)), (3, .int x3), (4, .int x4)]) hx hb dX0_digest_250 rfl hl (by decide) rfl (fun ls hl => ?_)
    obtain ⟨v5, ev5⟩ : ∃ y : Int32, y = x4 + 1 := ⟨_, rfl⟩
    have hw := hw v5 ev5
    refine lv_iinc (v := v5) (lv' := [(4, .int v5), (1, .long v4), (0, .ref (a 0)), (3, .int x3)]) hx hb dX0_digest_251 hl (k := 3) rfl (by rw [ev5]; rfl) (by decide) rfl (fun ls hl => ?_)
    refine lv_goto (tgt := 225) hx hb dX0_digest_254 (by decide) ?_
    exact hK225 _ _ _ _ hw hS (lv_sub hl [2, 1, 3, 0] rfl) ⟨by omega, by omega⟩
set_option maxHeartbeats 4000000 in
set_option maxRecDepth 100000 in
theorem k_X0_digest_225 {p : Program} {l : Launch} {e : Env} {s : State} {m : MethodId} {args : Array Value} {below : List Frame} {meth : Method} {c : Code} {D : va_G} {dT : Nat → ClassId} {a : Nat → Nat} {A : Nat → Prop} {vs0 : XE} {post : Int64 → XS → Prop} (hC : wCx RX0 cX0_digest 6 (some .long) D dT p s m args meth c) (hA : wAz A s) (hfl : l.stackTraces = false) : ∀ (X : XS) (x1 : Int64) (x3 : Int32) (x4 : Int32) (n : Nat), ∀ {vs : XE} {H : Heap} {locs : List Loc} {ls : Array Slot} {cells slots : Nat}, StX D dT a A s vs0 X vs H locs → lv_has ls 6 [(0, .ref (a 0)), (1, .long x1), (3, .int x3), (4, .int x4)] → cells + 0 ≤ 685 ∧ slots + 0 ≤ 3470 → w_X0_digest_225 post n X x1 x3 x4 → W p l e rmX0_digest s m args below meth c H locs cells slots (MQ below (va_Ql (fun r u9 => post r u9.1) (wB D (XW dT a) (XI vs0) A) A) args s 685 3470 A) (F0 m 225 ls []) := by
  intro X x1 x3 x4 n
  induction n generalizing X x1 x3 x4 with
  | zero => intro vs H locs ls cells slots  hS hl hc hw; exact hw.elim
  | succ n ih =>
    intro vs H locs ls cells slots  hS hl hc hw
    exact k_X0_digest_225b hC hA hfl (fun X x1 x3 x4 hk {vs} {H} {locs} {ls} {cells} {slots}  hS hl hc => ih X x1 x3 x4  hS hl hc hk) X x1 x3 x4  hS hl hc hw
set_option maxHeartbeats 4000000 in
set_option maxRecDepth 100000 in
theorem k_X0_digest_199b {p : Program} {l : Launch} {e : Env} {s : State} {m : MethodId} {args : Array Value} {below : List Frame} {meth : Method} {c : Code} {D : va_G} {dT : Nat → ClassId} {a : Nat → Nat} {A : Nat → Prop} {vs0 : XE} {nK : Nat} {K199 : XS → Int64 → Int32 → Int32 → Prop} {post : Int64 → XS → Prop} (hC : wCx RX0 cX0_digest 6 (some .long) D dT p s m args meth c) (hA : wAz A s) (hfl : l.stackTraces = false) (hK199 : ∀ (X : XS) (x1 : Int64) (x3 : Int32) (x4 : Int32), K199 X x1 x3 x4 → ∀ {vs : XE} {H : Heap} {locs : List Loc} {ls : Array Slot} {cells slots : Nat}, StX D dT a A s vs0 X vs H locs → lv_has ls 6 [(0, .ref (a 0)), (1, .long x1), (3, .int x3), (4, .int x4)] → cells + (nK * 21 + 0) ≤ 685 ∧ slots + (nK * 97 + 0) ≤ 3470 → W p l e rmX0_digest s m args below meth c H locs cells slots (MQ below (va_Ql (fun r u9 => post r u9.1) (wB D (XW dT a) (XI vs0) A) A) args s 685 3470 A) (F0 m 199 ls [])) (X : XS) (x1 : Int64) (x3 : Int32) (x4 : Int32) {vs : XE} {H : Heap} {locs : List Loc} {ls : Array Slot} {cells slots : Nat} (hS : StX D dT a A s vs0 X vs H locs) (hl : lv_has ls 6 [(0, .ref (a 0)), (1, .long x1), (3, .int x3), (4, .int x4)]) (hc : cells + (21 + (nK * 21 + 0)) ≤ 685 ∧ slots + (97 + (nK * 97 + 0)) ≤ 3470) (hw : w_X0_digest_199b K199 post X x1 x3 x4) : W p l e rmX0_digest s m args below meth c H locs cells slots (MQ below (va_Ql (fun r u9 => post r u9.1) (wB D (XW dT a) (XI vs0) A) A) args s 685 3470 A) (F0 m 199 ls []) := by
  have hx := hC.1
  have hb := hC.2.1
  have hown := hC.2.2.2.1
  have hts := hC.2.2.2.2.1
  unfold w_X0_digest_199b at hw
  obtain ⟨hc1, hc2⟩ := hc
  refine lv_iload hx hb dX0_digest_199 (lv_at hl 3 rfl) ?_
  refine lv_aload_n hx hb dX0_digest_201 rfl (lv_at hl 0 rfl) ?_
  refine inv_q250 hC hA hS hl.1 hw ⟨Nat.le_of_ble_eq_true rfl, Nat.le_of_ble_eq_true rfl⟩ (Nat.le_of_ble_eq_true rfl) ⟨(by show _ ≤ 685; omega), (by show _ ≤ 3470; omega)⟩ dX0_digest_202 (fun r1 H locs hw hS => ?_)
  refine lv_icmp_ge (tgt := 222) hx hb dX0_digest_205 (by decide) (fun c2 => ?_) (fun c2 => ?_)
  · have hw := hw.1 c2
    refine lv_iconst (v := 0) hx hb dX0_digest_222 (by decide) ?_
    refine lv_istore (lv' := [(4, .int 0), (0, .ref (a 0)), (1, .long x1), (3, .int x3)]) hx hb dX0_digest_223 hl (by decide) rfl (fun ls hl => ?_)
    obtain ⟨n, hw⟩ := hw
    exact k_X0_digest_225 hC hA hfl _ _ _ _ n hS (lv_sub hl [1, 2, 3, 0] rfl) ⟨by omega, by omega⟩ hw
  · have hw := hw.2 c2
    refine lv_aload_n hx hb dX0_digest_208 rfl (lv_at hl 0 rfl) ?_
    refine lv_lload_n hx hb dX0_digest_209 rfl (lv_at hl 1 rfl) ?_
    refine lv_iload hx hb dX0_digest_210 (lv_at hl 3 rfl) ?_
    refine inv_q925 hC hA hfl hS hl.1 hw ⟨Nat.le_of_ble_eq_true rfl, Nat.le_of_ble_eq_true rfl⟩ (Nat.le_of_ble_eq_true rfl) ⟨(by show _ ≤ 685; omega), (by show _ ≤ 3470; omega)⟩ dX0_digest_212 (fun r3 X4 vs H locs hw hv9 hS => ?_)
    refine lv_lstore_n (lv' := [(1, .long r3), (0, .ref (a 0)), (3, .int x3), (4, .int x4)]) hx hb dX0_digest_215 rfl hl (by decide) rfl (fun ls hl => ?_)
    obtain ⟨v5, ev5⟩ : ∃ y : Int32, y = x4 + 1 := ⟨_, rfl⟩
    have hw := hw v5 ev5
    refine lv_iinc (v := v5) (lv' := [(4, .int v5), (1, .long r3), (0, .ref (a 0)), (3, .int x3)]) hx hb dX0_digest_216 hl (k := 3) rfl (by rw [ev5]; rfl) (by decide) rfl (fun ls hl => ?_)
    refine lv_goto (tgt := 199) hx hb dX0_digest_219 (by decide) ?_
    exact hK199 _ _ _ _ hw hS (lv_sub hl [2, 1, 3, 0] rfl) ⟨by omega, by omega⟩
set_option maxHeartbeats 4000000 in
set_option maxRecDepth 100000 in
theorem k_X0_digest_199 {p : Program} {l : Launch} {e : Env} {s : State} {m : MethodId} {args : Array Value} {below : List Frame} {meth : Method} {c : Code} {D : va_G} {dT : Nat → ClassId} {a : Nat → Nat} {A : Nat → Prop} {vs0 : XE} {post : Int64 → XS → Prop} (hC : wCx RX0 cX0_digest 6 (some .long) D dT p s m args meth c) (hA : wAz A s) (hfl : l.stackTraces = false) : ∀ (X : XS) (x1 : Int64) (x3 : Int32) (x4 : Int32) (n : Nat), ∀ {vs : XE} {H : Heap} {locs : List Loc} {ls : Array Slot} {cells slots : Nat}, StX D dT a A s vs0 X vs H locs → lv_has ls 6 [(0, .ref (a 0)), (1, .long x1), (3, .int x3), (4, .int x4)] → cells + (n * 21 + 0) ≤ 685 ∧ slots + (n * 97 + 0) ≤ 3470 → w_X0_digest_199 post n X x1 x3 x4 → W p l e rmX0_digest s m args below meth c H locs cells slots (MQ below (va_Ql (fun r u9 => post r u9.1) (wB D (XW dT a) (XI vs0) A) A) args s 685 3470 A) (F0 m 199 ls []) := by
  intro X x1 x3 x4 n
  induction n generalizing X x1 x3 x4 with
  | zero => intro vs H locs ls cells slots  hS hl hc hw; exact hw.elim
  | succ n ih =>
    intro vs H locs ls cells slots  hS hl hc hw
    exact k_X0_digest_199b hC hA hfl (fun X x1 x3 x4 hk {vs} {H} {locs} {ls} {cells} {slots}  hS hl hc => ih X x1 x3 x4  hS hl hc hk) X x1 x3 x4  hS hl ⟨by omega, by omega⟩ hw
set_option maxHeartbeats 4000000 in
set_option maxRecDepth 100000 in
theorem k_X0_digest_145b {p : Program} {l : Launch} {e : Env} {s : State} {m : MethodId} {args : Array Value} {below : List Frame} {meth : Method} {c : Code} {D : va_G} {dT : Nat → ClassId} {a : Nat → Nat} {A : Nat → Prop} {vs0 : XE} {K145 : XS → Int64 → Int32 → Int32 → Prop} {post : Int64 → XS → Prop} (hC : wCx RX0 cX0_digest 6 (some .long) D dT p s m args meth c) (hA : wAz A s) (hfl : l.stackTraces = false) (hK145 : ∀ (X : XS) (x1 : Int64) (x3 : Int32) (x4 : Int32), K145 X x1 x3 x4 → ∀ {vs : XE} {H : Heap} {locs : List Loc} {ls : Array Slot} {cells slots : Nat}, StX D dT a A s vs0 X vs H locs → lv_has ls 6 [(0, .ref (a 0)), (1, .long x1), (3, .int x3), (4, .int x4)] → cells + 231 ≤ 685 ∧ slots + 1067 ≤ 3470 → W p l e rmX0_digest s m args below meth c H locs cells slots (MQ below (va_Ql (fun r u9 => post r u9.1) (wB D (XW dT a) (XI vs0) A) A) args s 685 3470 A) (F0 m 145 ls [])) (X : XS) (x1 : Int64) (x3 : Int32) (x4 : Int32) {vs : XE} {H : Heap} {locs : List Loc} {ls : Array Slot} {cells slots : Nat} (hS : StX D dT a A s vs0 X vs H locs) (hl : lv_has ls 6 [(0, .ref (a 0)), (1, .long x1), (3, .int x3), (4, .int x4)]) (hc : cells + 231 ≤ 685 ∧ slots + 1067 ≤ 3470) (hw : w_X0_digest_145b K145 post X x1 x3 x4) : W p l e rmX0_digest s m args below meth c H locs cells slots (MQ below (va_Ql (fun r u9 => post r u9.1) (wB D (XW dT a) (XI vs0) A) A) args s 685 3470 A) (F0 m 145 ls []) := by
  have hx := hC.1
  have hb := hC.2.1
  have hown := hC.2.2.2.1
  have hts := hC.2.2.2.2.1
  unfold w_X0_digest_145b at hw
  obtain ⟨hc1, hc2⟩ := hc
  refine lv_iload hx hb dX0_digest_145 (lv_at hl 3 rfl) ?_
  refine lv_aload_n hx hb dX0_digest_147 rfl (lv_at hl 0 rfl) ?_
  refine ld_q196 hC hS dX0_digest_148 ?_
  refine lv_icmp_ge (tgt := 196) hx hb dX0_digest_151 (by decide) (fun c1 => ?_) (fun c1 => ?_)
  · have hw := hw.1 c1
    refine lv_iconst (v := 0) hx hb dX0_digest_196 (by decide) ?_
    refine lv_istore (lv' := [(4, .int 0), (0, .ref (a 0)), (1, .long x1), (3, .int x3)]) hx hb dX0_digest_197 hl (by decide) rfl (fun ls hl => ?_)
    obtain ⟨n, hn9, hw⟩ := hw
    exact k_X0_digest_199 hC hA hfl _ _ _ _ n hS (lv_sub hl [1, 2, 3, 0] rfl) ⟨by omega, by omega⟩ hw
  · have hw := hw.2 c1
    refine lv_iconst (v := 0) hx hb dX0_digest_154 (by decide) ?_
    refine lv_istore (lv' := [(5, .int 0), (0, .ref (a 0)), (1, .long x1), (3, .int x3), (4, .int x4)]) hx hb dX0_digest_155 hl (by decide) rfl (fun ls hl => ?_)
    obtain ⟨n, hw⟩ := hw
    exact k_X0_digest_157 hC hA hfl hK145 _ _ _ _ _ n hS (lv_sub hl [1, 2, 3, 4, 0] rfl) ⟨by omega, by omega⟩ hw
set_option maxHeartbeats 4000000 in
set_option maxRecDepth 100000 in
theorem k_X0_digest_145 {p : Program} {l : Launch} {e : Env} {s : State} {m : MethodId} {args : Array Value} {below : List Frame} {meth : Method} {c : Code} {D : va_G} {dT : Nat → ClassId} {a : Nat → Nat} {A : Nat → Prop} {vs0 : XE} {post : Int64 → XS → Prop} (hC : wCx RX0 cX0_digest 6 (some .long) D dT p s m args meth c) (hA : wAz A s) (hfl : l.stackTraces = false) : ∀ (X : XS) (x1 : Int64) (x3 : Int32) (x4 : Int32) (n : Nat), ∀ {vs : XE} {H : Heap} {locs : List Loc} {ls : Array Slot} {cells slots : Nat}, StX D dT a A s vs0 X vs H locs → lv_has ls 6 [(0, .ref (a 0)), (1, .long x1), (3, .int x3), (4, .int x4)] → cells + 231 ≤ 685 ∧ slots + 1067 ≤ 3470 → w_X0_digest_145 post n X x1 x3 x4 → W p l e rmX0_digest s m args below meth c H locs cells slots (MQ below (va_Ql (fun r u9 => post r u9.1) (wB D (XW dT a) (XI vs0) A) A) args s 685 3470 A) (F0 m 145 ls []) := by
  intro X x1 x3 x4 n
  induction n generalizing X x1 x3 x4 with
  | zero => intro vs H locs ls cells slots  hS hl hc hw; exact hw.elim
  | succ n ih =>
    intro vs H locs ls cells slots  hS hl hc hw
    exact k_X0_digest_145b hC hA hfl (fun X x1 x3 x4 hk {vs} {H} {locs} {ls} {cells} {slots}  hS hl hc => ih X x1 x3 x4  hS hl hc hk) X x1 x3 x4  hS hl hc hw
set_option maxHeartbeats 4000000 in
set_option maxRecDepth 100000 in
theorem k_X0_digest_139 {p : Program} {l : Launch} {e : Env} {s : State} {m : MethodId} {args : Array Value} {below : List Frame} {meth : Method} {c : Code} {D : va_G} {dT : Nat → ClassId} {a : Nat → Nat} {A : Nat → Prop} {vs0 : XE} {post : Int64 → XS → Prop} (hC : wCx RX0 cX0_digest 6 (some .long) D dT p s m args meth c) (hA : wAz A s) (hfl : l.stackTraces = false) (X : XS) (x3 : Int32) (y0 : Int32) (y1 : Int64) {vs : XE} {H : Heap} {locs : List Loc} {ls : Array Slot} {cells slots : Nat} (hS : StX D dT a A s vs0 X vs H locs) (hl : lv_has ls 6 [(0, .ref (a 0)), (3, .int x3)]) (hc : cells + 231 ≤ 685 ∧ slots + 1067 ≤ 3470) (hw : w_X0_digest_139 post X x3 y0 y1) : W p l e rmX0_digest s m args below meth c H locs cells slots (MQ below (va_Ql (fun r u9 => post r u9.1) (wB D (XW dT a) (XI vs0) A) A) args s 685 3470 A) (F0 m 139 ls [.int y0, .long y1]) := by
  have hx := hC.1
  have hb := hC.2.1
  have hown := hC.2.2.2.1
  have hts := hC.2.2.2.2.1
  unfold w_X0_digest_139 at hw
  obtain ⟨hc1, hc2⟩ := hc
  refine lv_i2l hx hb dX0_digest_139 rfl ?_
  refine lv_ladd hx hb dX0_digest_140 ?_
  refine lv_topl (fun v1 ev1 => ?_)
  have hw := hw v1 ev1
  refine lv_lstore_n (lv' := [(1, .long v1), (0, .ref (a 0)), (3, .int x3)]) hx hb dX0_digest_141 rfl hl (by decide) rfl (fun ls hl => ?_)
  refine lv_iconst (v := 0) hx hb dX0_digest_142 (by decide) ?_
  refine lv_istore (lv' := [(4, .int 0), (1, .long v1), (0, .ref (a 0)), (3, .int x3)]) hx hb dX0_digest_143 hl (by decide) rfl (fun ls hl => ?_)
  obtain ⟨n, hw⟩ := hw
  exact k_X0_digest_145 hC hA hfl _ _ _ _ n hS (lv_sub hl [2, 1, 3, 0] rfl) ⟨by omega, by omega⟩ hw
set_option maxHeartbeats 4000000 in
set_option maxRecDepth 100000 in
theorem k_X0_digest_118 {p : Program} {l : Launch} {e : Env} {s : State} {m : MethodId} {args : Array Value} {below : List Frame} {meth : Method} {c : Code} {D : va_G} {dT : Nat → ClassId} {a : Nat → Nat} {A : Nat → Prop} {vs0 : XE} {post : Int64 → XS → Prop} (hC : wCx RX0 cX0_digest 6 (some .long) D dT p s m args meth c) (hA : wAz A s) (hfl : l.stackTraces = false) (X : XS) (x3 : Int32) (y0 : Int32) (y1 : Int64) {vs : XE} {H : Heap} {locs : List Loc} {ls : Array Slot} {cells slots : Nat} (hS : StX D dT a A s vs0 X vs H locs) (hl : lv_has ls 6 [(0, .ref (a 0)), (3, .int x3)]) (hc : cells + 264 ≤ 685 ∧ slots + 1243 ≤ 3470) (hw : w_X0_digest_118 post X x3 y0 y1) : W p l e rmX0_digest s m args below meth c H locs cells slots (MQ below (va_Ql (fun r u9 => post r u9.1) (wB D (XW dT a) (XI vs0) A) A) args s 685 3470 A) (F0 m 118 ls [.int y0, .long y1]) := by
  have hx := hC.1
  have hb := hC.2.1
  have hown := hC.2.2.2.1
  have hts := hC.2.2.2.2.1
  unfold w_X0_digest_118 at hw
  obtain ⟨hc1, hc2⟩ := hc
  refine lv_i2l hx hb dX0_digest_118 rfl ?_
  refine lv_ladd hx hb dX0_digest_119 ?_
  refine lv_topl (fun v1 ev1 => ?_)
  have hw := hw v1 ev1
  refine lv_lstore_n (lv' := [(1, .long v1), (0, .ref (a 0)), (3, .int x3)]) hx hb dX0_digest_120 rfl hl (by decide) rfl (fun ls hl => ?_)
  refine lv_ldc2 (v := 31) hx hb hown (hts _ q924) dX0_digest_121 ?_
  refine lv_lload_n hx hb dX0_digest_124 rfl (lv_at hl 0 rfl) ?_
  refine lv_lmul hx hb dX0_digest_125 ?_
  refine lv_iload_n hx hb dX0_digest_126 rfl (lv_at hl 2 rfl) ?_
  refine lv_if_eq (tgt := 137) hx hb dX0_digest_127 (by decide) (fun c2 => ?_) (fun c2 => ?_)
  · have hw := hw.1 c2
    refine lv_bipush (v := (-3)) hx hb dX0_digest_137 (by decide) ?_
    exact k_X0_digest_139 hC hA hfl _ _ _ _ hS (lv_sub hl [1, 2] rfl) ⟨by omega, by omega⟩ hw
  · have hw := hw.2 c2
    refine lv_aload_n hx hb dX0_digest_130 rfl (lv_at hl 1 rfl) ?_
    refine inv_q627 hC hA hfl hS hl.1 hw ⟨Nat.le_of_ble_eq_true rfl, Nat.le_of_ble_eq_true rfl⟩ (Nat.le_of_ble_eq_true rfl) ⟨(by show _ ≤ 685; omega), (by show _ ≤ 3470; omega)⟩ dX0_digest_131 (fun r3 X4 vs H locs hw hv9 hS => ?_)
    refine lv_goto (tgt := 139) hx hb dX0_digest_134 (by decide) ?_
    exact k_X0_digest_139 hC hA hfl _ _ _ _ hS (lv_sub hl [1, 2] rfl) ⟨by omega, by omega⟩ hw
set_option maxHeartbeats 4000000 in
set_option maxRecDepth 100000 in
theorem k_X0_digest_97 {p : Program} {l : Launch} {e : Env} {s : State} {m : MethodId} {args : Array Value} {below : List Frame} {meth : Method} {c : Code} {D : va_G} {dT : Nat → ClassId} {a : Nat → Nat} {A : Nat → Prop} {vs0 : XE} {post : Int64 → XS → Prop} (hC : wCx RX0 cX0_digest 6 (some .long) D dT p s m args meth c) (hA : wAz A s) (hfl : l.stackTraces = false) (X : XS) (x3 : Int32) (y0 : Int32) (y1 : Int64) {vs : XE} {H : Heap} {locs : List Loc} {ls : Array Slot} {cells slots : Nat} (hS : StX D dT a A s vs0 X vs H locs) (hl : lv_has ls 6 [(0, .ref (a 0)), (3, .int x3)]) (hc : cells + 297 ≤ 685 ∧ slots + 1419 ≤ 3470) (hw : w_X0_digest_97 post X x3 y0 y1) : W p l e rmX0_digest s m args below meth c H locs cells slots (MQ below (va_Ql (fun r u9 => post r u9.1) (wB D (XW dT a) (XI vs0) A) A) args s 685 3470 A) (F0 m 97 ls [.int y0, .long y1]) := by
  have hx := hC.1
  have hb := hC.2.1
  have hown := hC.2.2.2.1
  have hts := hC.2.2.2.2.1
  unfold w_X0_digest_97 at hw
  obtain ⟨hc1, hc2⟩ := hc
  refine lv_i2l hx hb dX0_digest_97 rfl ?_
  refine lv_ladd hx hb dX0_digest_98 ?_
  refine lv_topl (fun v1 ev1 => ?_)
  have hw := hw v1 ev1
  refine lv_lstore_n (lv' := [(1, .long v1), (0, .ref (a 0)), (3, .int x3)]) hx hb dX0_digest_99 rfl hl (by decide) rfl (fun ls hl => ?_)
  refine lv_ldc2 (v := 31) hx hb hown (hts _ q924) dX0_digest_100 ?_
  refine lv_lload_n hx hb dX0_digest_103 rfl (lv_at hl 0 rfl) ?_
  refine lv_lmul hx hb dX0_digest_104 ?_
  refine lv_iload_n hx hb dX0_digest_105 rfl (lv_at hl 2 rfl) ?_
  refine lv_if_eq (tgt := 116) hx hb dX0_digest_106 (by decide) (fun c2 => ?_) (fun c2 => ?_)
  · have hw := hw.1 c2
    refine lv_bipush (v := (-3)) hx hb dX0_digest_116 (by decide) ?_
    exact k_X0_digest_118 hC hA hfl _ _ _ _ hS (lv_sub hl [1, 2] rfl) ⟨by omega, by omega⟩ hw
  · have hw := hw.2 c2
    refine lv_aload_n hx hb dX0_digest_109 rfl (lv_at hl 1 rfl) ?_
    refine inv_q619 hC hA hfl hS hl.1 hw ⟨Nat.le_of_ble_eq_true rfl, Nat.le_of_ble_eq_true rfl⟩ (Nat.le_of_ble_eq_true rfl) ⟨(by show _ ≤ 685; omega), (by show _ ≤ 3470; omega)⟩ dX0_digest_110 (fun r3 X4 vs H locs hw hv9 hS => ?_)
    refine lv_goto (tgt := 118) hx hb dX0_digest_113 (by decide) ?_
    exact k_X0_digest_118 hC hA hfl _ _ _ _ hS (lv_sub hl [1, 2] rfl) ⟨by omega, by omega⟩ hw
set_option maxHeartbeats 4000000 in
set_option maxRecDepth 100000 in
theorem k_X0_digest_42b {p : Program} {l : Launch} {e : Env} {s : State} {m : MethodId} {args : Array Value} {below : List Frame} {meth : Method} {c : Code} {D : va_G} {dT : Nat → ClassId} {a : Nat → Nat} {A : Nat → Prop} {vs0 : XE} {K42 : XS → Int64 → Int32 → Int32 → Prop} {post : Int64 → XS → Prop} (hC : wCx RX0 cX0_digest 6 (some .long) D dT p s m args meth c) (hA : wAz A s) (hfl : l.stackTraces = false) (hK42 : ∀ (X : XS) (x1 : Int64) (x3 : Int32) (x4 : Int32), K42 X x1 x3 x4 → ∀ {vs : XE} {H : Heap} {locs : List Loc} {ls : Array Slot} {cells slots : Nat}, StX D dT a A s vs0 X vs H locs → lv_has ls 6 [(0, .ref (a 0)), (1, .long x1), (3, .int x3), (4, .int x4)] → cells + 297 ≤ 685 ∧ slots + 1419 ≤ 3470 → W p l e rmX0_digest s m args below meth c H locs cells slots (MQ below (va_Ql (fun r u9 => post r u9.1) (wB D (XW dT a) (XI vs0) A) A) args s 685 3470 A) (F0 m 42 ls [])) (X : XS) (x1 : Int64) (x3 : Int32) (x4 : Int32) {vs : XE} {H : Heap} {locs : List Loc} {ls : Array Slot} {cells slots : Nat} (hS : StX D dT a A s vs0 X vs H locs) (hl : lv_has ls 6 [(0, .ref (a 0)), (1, .long x1), (3, .int x3), (4, .int x4)]) (hc : cells + 297 ≤ 685 ∧ slots + 1419 ≤ 3470) (hw : w_X0_digest_42b K42 post X x1 x3 x4) : W p l e rmX0_digest s m args below meth c H locs cells slots (MQ below (va_Ql (fun r u9 => post r u9.1) (wB D (XW dT a) (XI vs0) A) A) args s 685 3470 A) (F0 m 42 ls []) := by
  have hx := hC.1
  have hb := hC.2.1
  have hown := hC.2.2.2.1
  have hts := hC.2.2.2.2.1
  unfold w_X0_digest_42b at hw
  obtain ⟨hc1, hc2⟩ := hc
  refine lv_iload hx hb dX0_digest_42 (lv_at hl 3 rfl) ?_
  refine lv_iconst (v := 2) hx hb dX0_digest_44 (by decide) ?_
  refine lv_icmp_ge (tgt := 67) hx hb dX0_digest_45 (by decide) (fun c1 => ?_) (fun c1 => ?_)
  · have hw := hw.1 c1
    refine lv_ldc2 (v := 31) hx hb hown (hts _ q924) dX0_digest_67 ?_
    refine lv_lload_n hx hb dX0_digest_70 rfl (lv_at hl 1 rfl) ?_
    refine lv_lmul hx hb dX0_digest_71 ?_
    refine lv_aload_n hx hb dX0_digest_72 rfl (lv_at hl 0 rfl) ?_
    refine ld_q199 hC hS dX0_digest_73 ?_
    refine lv_i2l hx hb dX0_digest_76 rfl ?_
    refine lv_ladd hx hb dX0_digest_77 ?_
    refine lv_topl (fun v2 ev2 => ?_)
    have hw := hw v2 ev2
    refine lv_lstore_n (lv' := [(1, .long v2), (0, .ref (a 0)), (3, .int x3), (4, .int x4)]) hx hb dX0_digest_78 rfl hl (by decide) rfl (fun ls hl => ?_)
    refine lv_ldc2 (v := 31) hx hb hown (hts _ q924) dX0_digest_79 ?_
    refine lv_lload_n hx hb dX0_digest_82 rfl (lv_at hl 0 rfl) ?_
    refine lv_lmul hx hb dX0_digest_83 ?_
    refine lv_iload_n hx hb dX0_digest_84 rfl (lv_at hl 2 rfl) ?_
    refine lv_if_eq (tgt := 95) hx hb dX0_digest_85 (by decide) (fun c3 => ?_) (fun c3 => ?_)
    · have hw := hw.1 c3
      refine lv_bipush (v := (-3)) hx hb dX0_digest_95 (by decide) ?_
      exact k_X0_digest_97 hC hA hfl _ _ _ _ hS (lv_sub hl [1, 2] rfl) ⟨by omega, by omega⟩ hw
    · have hw := hw.2 c3
      refine lv_aload_n hx hb dX0_digest_88 rfl (lv_at hl 1 rfl) ?_
      refine ld_q201 hC hS dX0_digest_89 ?_
      refine lv_goto (tgt := 97) hx hb dX0_digest_92 (by decide) ?_
      exact k_X0_digest_97 hC hA hfl _ _ _ _ hS (lv_sub hl [1, 2] rfl) ⟨by omega, by omega⟩ hw
  · have hw := hw.2 c1
    refine lv_ldc2 (v := 31) hx hb hown (hts _ q924) dX0_digest_48 ?_
    refine lv_lload_n hx hb dX0_digest_51 rfl (lv_at hl 1 rfl) ?_
    refine lv_lmul hx hb dX0_digest_52 ?_
    refine lv_aload_n hx hb dX0_digest_53 rfl (lv_at hl 0 rfl) ?_
    refine lv_iload hx hb dX0_digest_54 (lv_at hl 3 rfl) ?_
    refine inv_q531 hC hA hS hl.1 hw ⟨Nat.le_of_ble_eq_true rfl, Nat.le_of_ble_eq_true rfl⟩ (Nat.le_of_ble_eq_true rfl) ⟨(by show _ ≤ 685; omega), (by show _ ≤ 3470; omega)⟩ dX0_digest_56 (fun r4 H locs hw hS => ?_)
    refine lv_ladd hx hb dX0_digest_59 ?_
    refine lv_topl (fun v5 ev5 => ?_)
    have hw := hw v5 ev5
    refine lv_lstore_n (lv' := [(1, .long v5), (0, .ref (a 0)), (3, .int x3), (4, .int x4)]) hx hb dX0_digest_60 rfl hl (by decide) rfl (fun ls hl => ?_)
    obtain ⟨v6, ev6⟩ : ∃ y : Int32, y = x4 + 1 := ⟨_, rfl⟩
    have hw := hw v6 ev6
    refine lv_iinc (v := v6) (lv' := [(4, .int v6), (1, .long v5), (0, .ref (a 0)), (3, .int x3)]) hx hb dX0_digest_61 hl (k := 3) rfl (by rw [ev6]; rfl) (by decide) rfl (fun ls hl => ?_)
    refine lv_goto (tgt := 42) hx hb dX0_digest_64 (by decide) ?_
    exact hK42 _ _ _ _ hw hS (lv_sub hl [2, 1, 3, 0] rfl) ⟨by omega, by omega⟩
set_option maxHeartbeats 4000000 in
set_option maxRecDepth 100000 in
theorem k_X0_digest_42 {p : Program} {l : Launch} {e : Env} {s : State} {m : MethodId} {args : Array Value} {below : List Frame} {meth : Method} {c : Code} {D : va_G} {dT : Nat → ClassId} {a : Nat → Nat} {A : Nat → Prop} {vs0 : XE} {post : Int64 → XS → Prop} (hC : wCx RX0 cX0_digest 6 (some .long) D dT p s m args meth c) (hA : wAz A s) (hfl : l.stackTraces = false) : ∀ (X : XS) (x1 : Int64) (x3 : Int32) (x4 : Int32) (n : Nat), ∀ {vs : XE} {H : Heap} {locs : List Loc} {ls : Array Slot} {cells slots : Nat}, StX D dT a A s vs0 X vs H locs → lv_has ls 6 [(0, .ref (a 0)), (1, .long x1), (3, .int x3), (4, .int x4)] → cells + 297 ≤ 685 ∧ slots + 1419 ≤ 3470 → w_X0_digest_42 post n X x1 x3 x4 → W p l e rmX0_digest s m args below meth c H locs cells slots (MQ below (va_Ql (fun r u9 => post r u9.1) (wB D (XW dT a) (XI vs0) A) A) args s 685 3470 A) (F0 m 42 ls []) := by
  intro X x1 x3 x4 n
  induction n generalizing X x1 x3 x4 with
  | zero => intro vs H locs ls cells slots  hS hl hc hw; exact hw.elim
  | succ n ih =>
    intro vs H locs ls cells slots  hS hl hc hw
    exact k_X0_digest_42b hC hA hfl (fun X x1 x3 x4 hk {vs} {H} {locs} {ls} {cells} {slots}  hS hl hc => ih X x1 x3 x4  hS hl hc hk) X x1 x3 x4  hS hl hc hw
set_option maxHeartbeats 4000000 in
set_option maxRecDepth 100000 in
theorem k_X0_digest_12b {p : Program} {l : Launch} {e : Env} {s : State} {m : MethodId} {args : Array Value} {below : List Frame} {meth : Method} {c : Code} {D : va_G} {dT : Nat → ClassId} {a : Nat → Nat} {A : Nat → Prop} {vs0 : XE} {nK : Nat} {K12 : XS → Int64 → Int32 → Int32 → Prop} {post : Int64 → XS → Prop} (hC : wCx RX0 cX0_digest 6 (some .long) D dT p s m args meth c) (hA : wAz A s) (hfl : l.stackTraces = false) (hK12 : ∀ (X : XS) (x1 : Int64) (x3 : Int32) (x4 : Int32), K12 X x1 x3 x4 → ∀ {vs : XE} {H : Heap} {locs : List Loc} {ls : Array Slot} {cells slots : Nat}, StX D dT a A s vs0 X vs H locs → lv_has ls 6 [(0, .ref (a 0)), (1, .long x1), (3, .int x3), (4, .int x4)] → cells + (nK * 33 + 297) ≤ 685 ∧ slots + (nK * 176 + 1419) ≤ 3470 → W p l e rmX0_digest s m args below meth c H locs cells slots (MQ below (va_Ql (fun r u9 => post r u9.1) (wB D (XW dT a) (XI vs0) A) A) args s 685 3470 A) (F0 m 12 ls [])) (X : XS) (x1 : Int64) (x3 : Int32) (x4 : Int32) {vs : XE} {H : Heap} {locs : List Loc} {ls : Array Slot} {cells slots : Nat} (hS : StX D dT a A s vs0 X vs H locs) (hl : lv_has ls 6 [(0, .ref (a 0)), (1, .long x1), (3, .int x3), (4, .int x4)]) (hc : cells + (33 + (nK * 33 + 297)) ≤ 685 ∧ slots + (176 + (nK * 176 + 1419)) ≤ 3470) (hw : w_X0_digest_12b K12 post X x1 x3 x4) : W p l e rmX0_digest s m args below meth c H locs cells slots (MQ below (va_Ql (fun r u9 => post r u9.1) (wB D (XW dT a) (XI vs0) A) A) args s 685 3470 A) (F0 m 12 ls []) := by
  have hx := hC.1
  have hb := hC.2.1
  have hown := hC.2.2.2.1
  have hts := hC.2.2.2.2.1
  unfold w_X0_digest_12b at hw
  obtain ⟨hc1, hc2⟩ := hc
  refine lv_iload hx hb dX0_digest_12 (lv_at hl 3 rfl) ?_
  refine lv_bipush (v := 8) hx hb dX0_digest_14 (by decide) ?_
  refine lv_icmp_ge (tgt := 39) hx hb dX0_digest_16 (by decide) (fun c1 => ?_) (fun c1 => ?_)
  · have hw := hw.1 c1
    refine lv_iconst (v := 0) hx hb dX0_digest_39 (by decide) ?_
    refine lv_istore (lv' := [(4, .int 0), (0, .ref (a 0)), (1, .long x1), (3, .int x3)]) hx hb dX0_digest_40 hl (by decide) rfl (fun ls hl => ?_)
    obtain ⟨n, hw⟩ := hw
    exact k_X0_digest_42 hC hA hfl _ _ _ _ n hS (lv_sub hl [1, 2, 3, 0] rfl) ⟨by omega, by omega⟩ hw
  · have hw := hw.2 c1
    refine lv_ldc2 (v := 31) hx hb hown (hts _ q924) dX0_digest_19 ?_
    refine lv_lload_n hx hb dX0_digest_22 rfl (lv_at hl 1 rfl) ?_
    refine lv_lmul hx hb dX0_digest_23 ?_
    refine lv_aload_n hx hb dX0_digest_24 rfl (lv_at hl 0 rfl) ?_
    refine lv_iload hx hb dX0_digest_25 (lv_at hl 3 rfl) ?_
    refine inv_q907 hC hA hfl hS hl.1 hw ⟨Nat.le_of_ble_eq_true rfl, Nat.le_of_ble_eq_true rfl⟩ (Nat.le_of_ble_eq_true rfl) ⟨(by show _ ≤ 685; omega), (by show _ ≤ 3470; omega)⟩ dX0_digest_27 (fun r2 X3 vs H locs hw hv9 hS => ?_)
    refine lv_i2l hx hb dX0_digest_30 rfl ?_
    refine lv_ladd hx hb dX0_digest_31 ?_
    refine lv_topl (fun v4 ev4 => ?_)
    have hw := hw v4 ev4
    refine lv_lstore_n (lv' := [(1, .long v4), (0, .ref (a 0)), (3, .int x3), (4, .int x4)]) hx hb dX0_digest_32 rfl hl (by decide) rfl (fun ls hl => ?_)
    obtain ⟨v5, ev5⟩ : ∃ y : Int32, y = x4 + 1 := ⟨_, rfl⟩
    have hw := hw v5 ev5
    refine lv_iinc (v := v5) (lv' := [(4, .int v5), (1, .long v4), (0, .ref (a 0)), (3, .int x3)]) hx hb dX0_digest_33 hl (k := 3) rfl (by rw [ev5]; rfl) (by decide) rfl (fun ls hl => ?_)
    refine lv_goto (tgt := 12) hx hb dX0_digest_36 (by decide) ?_
    exact hK12 _ _ _ _ hw hS (lv_sub hl [2, 1, 3, 0] rfl) ⟨by omega, by omega⟩
set_option maxHeartbeats 4000000 in
set_option maxRecDepth 100000 in
theorem k_X0_digest_12 {p : Program} {l : Launch} {e : Env} {s : State} {m : MethodId} {args : Array Value} {below : List Frame} {meth : Method} {c : Code} {D : va_G} {dT : Nat → ClassId} {a : Nat → Nat} {A : Nat → Prop} {vs0 : XE} {post : Int64 → XS → Prop} (hC : wCx RX0 cX0_digest 6 (some .long) D dT p s m args meth c) (hA : wAz A s) (hfl : l.stackTraces = false) : ∀ (X : XS) (x1 : Int64) (x3 : Int32) (x4 : Int32) (n : Nat), ∀ {vs : XE} {H : Heap} {locs : List Loc} {ls : Array Slot} {cells slots : Nat}, StX D dT a A s vs0 X vs H locs → lv_has ls 6 [(0, .ref (a 0)), (1, .long x1), (3, .int x3), (4, .int x4)] → cells + (n * 33 + 297) ≤ 685 ∧ slots + (n * 176 + 1419) ≤ 3470 → w_X0_digest_12 post n X x1 x3 x4 → W p l e rmX0_digest s m args below meth c H locs cells slots (MQ below (va_Ql (fun r u9 => post r u9.1) (wB D (XW dT a) (XI vs0) A) A) args s 685 3470 A) (F0 m 12 ls []) := by
  intro X x1 x3 x4 n
  induction n generalizing X x1 x3 x4 with
  | zero => intro vs H locs ls cells slots  hS hl hc hw; exact hw.elim
  | succ n ih =>
    intro vs H locs ls cells slots  hS hl hc hw
    exact k_X0_digest_12b hC hA hfl (fun X x1 x3 x4 hk {vs} {H} {locs} {ls} {cells} {slots}  hS hl hc => ih X x1 x3 x4  hS hl hc hk) X x1 x3 x4  hS hl ⟨by omega, by omega⟩ hw
set_option maxHeartbeats 4000000 in
set_option maxRecDepth 100000 in
theorem k_X0_digest_0 {p : Program} {l : Launch} {e : Env} {s : State} {m : MethodId} {args : Array Value} {below : List Frame} {meth : Method} {c : Code} {D : va_G} {dT : Nat → ClassId} {a : Nat → Nat} {A : Nat → Prop} {vs0 : XE} {post : Int64 → XS → Prop} (hC : wCx RX0 cX0_digest 6 (some .long) D dT p s m args meth c) (hA : wAz A s) (hfl : l.stackTraces = false) (X : XS) {vs : XE} {H : Heap} {locs : List Loc} {ls : Array Slot} {cells slots : Nat} (hS : StX D dT a A s vs0 X vs H locs) (hl : lv_has ls 6 [(0, .ref (a 0))]) (hc : cells + 685 ≤ 685 ∧ slots + 3470 ≤ 3470) (hw : w_X0_digest post X) : W p l e rmX0_digest s m args below meth c H locs cells slots (MQ below (va_Ql (fun r u9 => post r u9.1) (wB D (XW dT a) (XI vs0) A) A) args s 685 3470 A) (F0 m 0 ls []) := by
  have hx := hC.1
  have hb := hC.2.1
  have hown := hC.2.2.2.1
  have hts := hC.2.2.2.2.1
  unfold w_X0_digest at hw
  obtain ⟨hc1, hc2⟩ := hc
  refine lv_ldc2 (v := 17) hx hb hown (hts _ q923) dX0_digest_0 ?_
  refine lv_lstore_n (lv' := [(1, .long 17), (0, .ref (a 0))]) hx hb dX0_digest_3 rfl hl (by decide) rfl (fun ls hl => ?_)
  refine lv_aload_n hx hb dX0_digest_4 rfl (lv_at hl 1 rfl) ?_
  refine inv_q352 hC hA hfl hS hl.1 hw ⟨Nat.le_of_ble_eq_true rfl, Nat.le_of_ble_eq_true rfl⟩ (Nat.le_of_ble_eq_true rfl) ⟨(by show _ ≤ 685; omega), (by show _ ≤ 3470; omega)⟩ dX0_digest_5 (fun r1 X2 vs H locs hw hv9 hS => ?_)
  refine lv_istore_n (lv' := [(3, .int r1), (1, .long 17), (0, .ref (a 0))]) hx hb dX0_digest_8 rfl hl (by decide) rfl (fun ls hl => ?_)
  refine lv_iconst (v := 0) hx hb dX0_digest_9 (by decide) ?_
  refine lv_istore (lv' := [(4, .int 0), (3, .int r1), (1, .long 17), (0, .ref (a 0))]) hx hb dX0_digest_10 hl (by decide) rfl (fun ls hl => ?_)
  obtain ⟨n, hn9, hw⟩ := hw
  exact k_X0_digest_12 hC hA hfl _ _ _ _ n hS (lv_sub hl [3, 2, 1, 0] rfl) ⟨by omega, by omega⟩ hw
abbrev v_X0_digest (X : XS) (post : Int64 → XS → Prop) : Prop := w_X0_digest post X
set_option maxHeartbeats 4000000 in
set_option maxRecDepth 100000 in
theorem met_X0_digest (l : Launch) (hfl : l.stackTraces = false) (D : va_G) (dT : Nat → ClassId) (a : Nat → Nat) (sz : Nat) (X : XS) (vs0 : XE) (post : Int64 → XS → Prop) (hw : v_X0_digest X post) : Met l yX0_digest (ws_ yX0_digest cX0_digest 6 (some .long)) rmX0_digest (wPc D dT (XW dT a) (XI vs0) sz (X, vs0) [.ref (a 0)]) (va_Ql (fun r u9 => post r u9.1) (wB D (XW dT a) (XI vs0) (va_A ((XW dT a) (X, vs0)) sz)) (va_A ((XW dT a) (X, vs0)) sz)) 685 3470 (va_A ((XW dT a) (X, vs0)) sz) :=
  wEnt (Q := fun A => (va_Ql (fun r u9 => post r u9.1) (wB D (XW dT a) (XI vs0) A) A)) (by decide) (Nat.le_of_ble_eq_true rfl) (fun p e s m below meth c A ls hC _ hA hS hl => k_X0_digest_0 hC hA hfl _ hS hl ⟨by omega, by omega⟩ hw) sz
theorem hd_X0_digest : yX0_digest.cls ≠ "java/lang/invoke/MethodHandle" ∧ yX0_digest.cls ≠ "java/lang/invoke/VarHandle" ∧ (parseMethodDescriptor yX0_digest.desc).map (fun d => d.parameters.length) = some 0 := by decide +kernel
