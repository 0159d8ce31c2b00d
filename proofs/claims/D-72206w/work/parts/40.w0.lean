abbrev yX3_itemX : MethodName := yX3_item
abbrev cX3_itemX : ByteArray := cX3_item
/-! java/lang/Math.multiplyExact -/
def w_J2_multiplyExact_61 (p0 : Int64) (p2 : Int64) (post : Int64 → XS → Prop) (postX : Nat → XS → Prop) (X : XS) : Prop :=
  postX 2 X
def w_J2_multiplyExact_45 (p0 : Int64) (p2 : Int64) (post : Int64 → XS → Prop) (postX : Nat → XS → Prop) (X : XS) (x4 : Int64) : Prop :=
  (p0 = ((-9223372036854775808) : Int64) → ((p2 = ((-1) : Int64) → (w_J2_multiplyExact_61 p0 p2 post postX X)) ∧ (¬ p2 = ((-1) : Int64) → (post x4 X)))) ∧ (¬ p0 = ((-9223372036854775808) : Int64) → (post x4 X))
def w_J2_multiplyExact (p0 : Int64) (p2 : Int64) (post : Int64 → XS → Prop) (postX : Nat → XS → Prop) (X : XS) : Prop :=
  ∀ v1 : Int64, v1 = p0 * p2 → (v_J2_abs p0 (fun r2 => v_J2_abs p2 (fun r3 => ((((r2 ||| r3).toUInt64 >>> ((31 : Int32).toInt64.toUInt64 &&& Int64.toUInt64 63)).toInt64) = (0 : Int64) → (post v1 X)) ∧ (¬ (((r2 ||| r3).toUInt64 >>> ((31 : Int32).toInt64.toUInt64 &&& Int64.toUInt64 63)).toInt64) = (0 : Int64) → ((p2 = (0 : Int64) → (w_J2_multiplyExact_45 p0 p2 post postX X v1)) ∧ (¬ p2 = (0 : Int64) → ((¬ p2 = 0) ∧ (((v1 / p2) = p0 → (w_J2_multiplyExact_45 p0 p2 post postX X v1)) ∧ (¬ (v1 / p2) = p0 → (w_J2_multiplyExact_61 p0 p2 post postX X))))))))))
abbrev rmJ2_multiplyExact : Room := { frames := 8, cells := 1, slots := 6, locals := 120 }
set_option maxHeartbeats 4000000 in
set_option maxRecDepth 100000 in
theorem k_J2_multiplyExact_61 {p : Program} {l : Launch} {e : Env} {s : State} {m : MethodId} {args : Array Value} {below : List Frame} {meth : Method} {c : Code} {D : va_G} {dT : Nat → ClassId} {a : Nat → Nat} {A : Nat → Prop} {vs0 : XE} {p0 : Int64} {p2 : Int64} {post : Int64 → XS → Prop} {postX : Nat → XS → Prop} (hC : wCx RJ2 cJ2_multiplyExact 10 (some .long) D dT p s m args meth c) (hA : wAz A s) (hfl : l.stackTraces = false) (htb : ∀ z ∈ c.exceptionTable.toList, False) (X : XS) {vs : XE} {H : Heap} {locs : List Loc} {ls : Array Slot} {cells slots : Nat} (hS : StX D dT a A s vs0 X vs H locs) (hl : lv_has ls 10 []) (hc : cells + 1 ≤ 1 ∧ slots + 6 ≤ 6) (hw : w_J2_multiplyExact_61 p0 p2 post postX X) : W p l e rmJ2_multiplyExact s m args below meth c H locs cells slots (vx_MQ below (va_Ql (fun r u9 => post r u9.1) (wB D (XW dT a) (XI vs0) A) A) (XCJ D dT a [2] vs0 postX A) args s 1 6 A) (F0 m 61 ls []) := by
  have hx := hC.1
  have hb := hC.2.1
  have hown := hC.2.2.2.1
  have hts := hC.2.2.2.2.1
  unfold w_J2_multiplyExact_61 at hw
  obtain ⟨hc1, hc2⟩ := hc
  obtain ⟨sa9, hs9⟩ := hC.2.2.2.2.2.2.2.2.2.2.1.2
  refine vx_makeS (ci := 8) (T0 := TX0) hx hb hfl hown (by decide +kernel) (by decide +kernel) (hts _ q841) (hts _ q103) hs9 (jat_AEX hC hA) jgo_AEX hA.2.1 hA.2.2 hS.2.2.1 (hl.1.trans hC.2.2.1.symm) dJ2_multiplyExact_61 dJ2_multiplyExact_64 dJ2_multiplyExact_65 dJ2_multiplyExact_67 hC.2.2.2.2.2.2.2.1 hS.1 hS.2.1 hA.1 rfl (Nat.le_of_ble_eq_true rfl) (Nat.le_of_ble_eq_true rfl) (by show _ ≤ 1; omega) (by show _ ≤ 6; omega) (fun q H hP hD hS1 => ?_)
  rw [XW_push] at hP hD
  have hS : StX D dT a A s vs0 X (vs ++ [(q, .inr (8, []))]) H locs := ⟨hP, hD, hS1, fun v hv => List.mem_append_left _ (hS.2.2.2.1 v hv), fun v hv => List.mem_append_left _ (hS.2.2.2.2 v hv)⟩
  obtain ⟨ce9, g1, g2, g3⟩ := xe_cell hC.2.2.2.2.2.2.2.1 hS (List.mem_append_right _ (List.mem_singleton.mpr rfl)) (q := ("java/lang/ArithmeticException", TX0, 0)) rfl
  refine vx_athrow hx hb dJ2_multiplyExact_70 ?_
  exact xOutJ (k := 2) hC (fun z hz => (htb z hz).elim) (by decide) hw hS g1 g2 g3 (by omega) (by omega)
set_option maxHeartbeats 4000000 in
set_option maxRecDepth 100000 in
theorem k_J2_multiplyExact_45 {p : Program} {l : Launch} {e : Env} {s : State} {m : MethodId} {args : Array Value} {below : List Frame} {meth : Method} {c : Code} {D : va_G} {dT : Nat → ClassId} {a : Nat → Nat} {A : Nat → Prop} {vs0 : XE} {p0 : Int64} {p2 : Int64} {post : Int64 → XS → Prop} {postX : Nat → XS → Prop} (hC : wCx RJ2 cJ2_multiplyExact 10 (some .long) D dT p s m args meth c) (hA : wAz A s) (hfl : l.stackTraces = false) (htb : ∀ z ∈ c.exceptionTable.toList, False) (X : XS) (x4 : Int64) {vs : XE} {H : Heap} {locs : List Loc} {ls : Array Slot} {cells slots : Nat} (hS : StX D dT a A s vs0 X vs H locs) (hl : lv_has ls 10 [(0, .long p0), (2, .long p2), (4, .long x4)]) (hc : cells + 1 ≤ 1 ∧ slots + 6 ≤ 6) (hw : w_J2_multiplyExact_45 p0 p2 post postX X x4) : W p l e rmJ2_multiplyExact s m args below meth c H locs cells slots (vx_MQ below (va_Ql (fun r u9 => post r u9.1) (wB D (XW dT a) (XI vs0) A) A) (XCJ D dT a [2] vs0 postX A) args s 1 6 A) (F0 m 45 ls []) := by
  have hx := hC.1
  have hb := hC.2.1
  have hown := hC.2.2.2.1
  have hts := hC.2.2.2.2.1
  unfold w_J2_multiplyExact_45 at hw
  obtain ⟨hc1, hc2⟩ := hc
  refine lv_lload_n hx hb dJ2_multiplyExact_45 rfl (lv_at hl 0 rfl) ?_
  refine lv_ldc2 (v := (-9223372036854775808)) hx hb hown (hts _ q839) dJ2_multiplyExact_46 ?_
  refine lc_if_ne (tgt := 71) hx hb dJ2_multiplyExact_49 dJ2_multiplyExact_50 (by decide) (fun c1 => ?_) (fun c1 => ?_)
  · have hw := hw.2 c1
    refine lv_lload hx hb dJ2_multiplyExact_71 (lv_at hl 2 rfl) ?_
    exact vx_ret (wRetl hC hS hw (by omega) (by omega) dJ2_multiplyExact_73)
  · have hw := hw.1 c1
    refine lv_lload_n hx hb dJ2_multiplyExact_53 rfl (lv_at hl 1 rfl) ?_
    refine lv_ldc2 (v := (-1)) hx hb hown (hts _ q840) dJ2_multiplyExact_54 ?_
    refine lc_if_ne (tgt := 71) hx hb dJ2_multiplyExact_57 dJ2_multiplyExact_58 (by decide) (fun c2 => ?_) (fun c2 => ?_)
    · have hw := hw.2 c2
      refine lv_lload hx hb dJ2_multiplyExact_71 (lv_at hl 2 rfl) ?_
      exact vx_ret (wRetl hC hS hw (by omega) (by omega) dJ2_multiplyExact_73)
    · have hw := hw.1 c2
      exact k_J2_multiplyExact_61 hC hA hfl htb _ hS (lv_sub hl [] rfl) ⟨by omega, by omega⟩ hw
set_option maxHeartbeats 4000000 in
set_option maxRecDepth 100000 in
theorem k_J2_multiplyExact_0 {p : Program} {l : Launch} {e : Env} {s : State} {m : MethodId} {args : Array Value} {below : List Frame} {meth : Method} {c : Code} {D : va_G} {dT : Nat → ClassId} {a : Nat → Nat} {A : Nat → Prop} {vs0 : XE} {p0 : Int64} {p2 : Int64} {post : Int64 → XS → Prop} {postX : Nat → XS → Prop} (hC : wCx RJ2 cJ2_multiplyExact 10 (some .long) D dT p s m args meth c) (hA : wAz A s) (hfl : l.stackTraces = false) (htb : ∀ z ∈ c.exceptionTable.toList, False) (X : XS) {vs : XE} {H : Heap} {locs : List Loc} {ls : Array Slot} {cells slots : Nat} (hS : StX D dT a A s vs0 X vs H locs) (hl : lv_has ls 10 [(0, .long p0), (2, .long p2)]) (hc : cells + 1 ≤ 1 ∧ slots + 6 ≤ 6) (hw : w_J2_multiplyExact p0 p2 post postX X) : W p l e rmJ2_multiplyExact s m args below meth c H locs cells slots (vx_MQ below (va_Ql (fun r u9 => post r u9.1) (wB D (XW dT a) (XI vs0) A) A) (XCJ D dT a [2] vs0 postX A) args s 1 6 A) (F0 m 0 ls []) := by
  have hx := hC.1
  have hb := hC.2.1
  have hown := hC.2.2.2.1
  have hts := hC.2.2.2.2.1
  unfold w_J2_multiplyExact at hw
  obtain ⟨hc1, hc2⟩ := hc
  refine lv_lload_n hx hb dJ2_multiplyExact_0 rfl (lv_at hl 0 rfl) ?_
  refine lv_lload_n hx hb dJ2_multiplyExact_1 rfl (lv_at hl 1 rfl) ?_
  refine lv_lmul hx hb dJ2_multiplyExact_2 ?_
  refine lv_topl (fun v1 ev1 => ?_)
  have hw := hw v1 ev1
  refine lv_lstore (lv' := [(4, .long v1), (0, .long p0), (2, .long p2)]) hx hb dJ2_multiplyExact_3 hl (by decide) rfl (fun ls hl => ?_)
  refine lv_lload_n hx hb dJ2_multiplyExact_5 rfl (lv_at hl 1 rfl) ?_
  refine inv_q838 hC hS hl.1 hw ⟨Nat.le_of_ble_eq_true rfl, Nat.le_of_ble_eq_true rfl⟩ (Nat.le_of_ble_eq_true rfl) ⟨(by show _ ≤ 1; omega), (by show _ ≤ 6; omega)⟩ dJ2_multiplyExact_6 (fun r2 H locs hw hS => ?_)
  refine lv_lstore (lv' := [(6, .long r2), (4, .long v1), (0, .long p0), (2, .long p2)]) hx hb dJ2_multiplyExact_9 hl (by decide) rfl (fun ls hl => ?_)
  refine lv_lload_n hx hb dJ2_multiplyExact_11 rfl (lv_at hl 3 rfl) ?_
  refine inv_q838 hC hS hl.1 hw ⟨Nat.le_of_ble_eq_true rfl, Nat.le_of_ble_eq_true rfl⟩ (Nat.le_of_ble_eq_true rfl) ⟨(by show _ ≤ 1; omega), (by show _ ≤ 6; omega)⟩ dJ2_multiplyExact_12 (fun r3 H locs hw hS => ?_)
  refine lv_lstore (lv' := [(8, .long r3), (6, .long r2), (4, .long v1), (0, .long p0), (2, .long p2)]) hx hb dJ2_multiplyExact_15 hl (by decide) rfl (fun ls hl => ?_)
  refine lv_lload hx hb dJ2_multiplyExact_17 (lv_at hl 1 rfl) ?_
  refine lv_lload hx hb dJ2_multiplyExact_19 (lv_at hl 0 rfl) ?_
  refine lv_lor hx hb dJ2_multiplyExact_21 ?_
  refine lv_bipush (v := 31) hx hb dJ2_multiplyExact_22 (by decide) ?_
  refine lv_lushr hx hb dJ2_multiplyExact_24 rfl ?_
  refine lv_lconst (v := 0) hx hb dJ2_multiplyExact_25 (by decide) ?_
  refine lc_if_eq (tgt := 71) hx hb dJ2_multiplyExact_26 dJ2_multiplyExact_27 (by decide) (fun c4 => ?_) (fun c4 => ?_)
  · have hw := hw.1 c4
    refine lv_lload hx hb dJ2_multiplyExact_71 (lv_at hl 2 rfl) ?_
    exact vx_ret (wRetl hC hS hw (by omega) (by omega) dJ2_multiplyExact_73)
  · have hw := hw.2 c4
    refine lv_lload_n hx hb dJ2_multiplyExact_30 rfl (lv_at hl 4 rfl) ?_
    refine lv_lconst (v := 0) hx hb dJ2_multiplyExact_31 (by decide) ?_
    refine lc_if_eq (tgt := 45) hx hb dJ2_multiplyExact_32 dJ2_multiplyExact_33 (by decide) (fun c5 => ?_) (fun c5 => ?_)
    · have hw := hw.1 c5
      exact k_J2_multiplyExact_45 hC hA hfl htb _ _ hS (lv_sub hl [3, 4, 2] rfl) ⟨by omega, by omega⟩ hw
    · have hw := hw.2 c5
      refine lv_lload hx hb dJ2_multiplyExact_36 (lv_at hl 2 rfl) ?_
      refine lv_lload_n hx hb dJ2_multiplyExact_38 rfl (lv_at hl 4 rfl) ?_
      refine lv_ldiv hx hb dJ2_multiplyExact_39 hw.1 ?_
      have hw := hw.2
      refine lv_lload_n hx hb dJ2_multiplyExact_40 rfl (lv_at hl 3 rfl) ?_
      refine lc_if_ne (tgt := 61) hx hb dJ2_multiplyExact_41 dJ2_multiplyExact_42 (by decide) (fun c6 => ?_) (fun c6 => ?_)
      · have hw := hw.2 c6
        exact k_J2_multiplyExact_61 hC hA hfl htb _ hS (lv_sub hl [] rfl) ⟨by omega, by omega⟩ hw
      · have hw := hw.1 c6
        exact k_J2_multiplyExact_45 hC hA hfl htb _ _ hS (lv_sub hl [3, 4, 2] rfl) ⟨by omega, by omega⟩ hw
abbrev v_J2_multiplyExact (X : XS) (p0 : Int64) (p2 : Int64) (post : Int64 → XS → Prop) (postX : Nat → XS → Prop) : Prop := w_J2_multiplyExact p0 p2 post postX X
set_option maxHeartbeats 4000000 in
set_option maxRecDepth 100000 in
theorem met_J2_multiplyExact (l : Launch) (hfl : l.stackTraces = false) (D : va_G) (dT : Nat → ClassId) (a : Nat → Nat) (sz : Nat) (X : XS) (vs0 : XE) (p0 : Int64) (p2 : Int64) (post : Int64 → XS → Prop) (postX : Nat → XS → Prop) (hw : v_J2_multiplyExact X p0 p2 post postX) : vx_Met l yJ2_multiplyExact (ws_ yJ2_multiplyExact cJ2_multiplyExact 10 (some .long)) rmJ2_multiplyExact (wPc D dT (XW dT a) (XI vs0) sz (X, vs0) [.long p0, .long p2]) (va_Ql (fun r u9 => post r u9.1) (wB D (XW dT a) (XI vs0) (va_A ((XW dT a) (X, vs0)) sz)) (va_A ((XW dT a) (X, vs0)) sz)) (XCJ D dT a [2] vs0 postX (va_A ((XW dT a) (X, vs0)) sz)) 1 6 (va_A ((XW dT a) (X, vs0)) sz) :=
  xEntF (Q := fun A => (va_Ql (fun r u9 => post r u9.1) (wB D (XW dT a) (XI vs0) A) A)) (XC := fun A => (XCJ D dT a [2] vs0 postX A)) (by decide +kernel) (Nat.le_of_ble_eq_true rfl) (fun p e s m below meth c A ls hC htb hA hS hl => k_J2_multiplyExact_0 hC hA hfl htb _ hS hl ⟨by omega, by omega⟩ hw) sz
theorem hd_J2_multiplyExact : yJ2_multiplyExact.cls ≠ "java/lang/invoke/MethodHandle" ∧ yJ2_multiplyExact.cls ≠ "java/lang/invoke/VarHandle" ∧ (parseMethodDescriptor yJ2_multiplyExact.desc).map (fun d => d.parameters.length) = some 2 := by decide +kernel
section
variable {p : Program} {l : Launch} {e : Env} {R : Room} {s : State} {m : MethodId} {args : Array Value} {below : List Frame} {meth : Method} {c : Code} {H : Heap} {locs : List Loc} {cells slots : Nat} {Q : State → Prop} {cc : ByteArray} {nL : Nat} {ret : Option FieldType} {pc : Nat} {ls : Array Slot} {rest : List Value}
set_option maxHeartbeats 4000000 in
set_option maxRecDepth 100000 in
theorem invJ_q835 {D : va_G} {dT : Nat → ClassId} {a : Nat → Nat} {A : Nat → Prop} {vs0 : XE} {vs : XE} {X : XS} {p0 : Int64} {p2 : Int64} {post : Int64 → XS → Prop} {postX : Nat → XS → Prop} (hC : wCx RX3 cc nL ret D dT p s m args meth c) (hA : wAz A s) (hfl : l.stackTraces = false) (hS : StX D dT a A s vs0 X vs H locs) (hl : ls.size = nL) (hw : v_J2_multiplyExact X p0 p2 post postX) (hR : rmJ2_multiplyExact.frames + 1 ≤ R.frames ∧ 8 + (10 + 11) + rmJ2_multiplyExact.locals ≤ R.locals) (hrest : (rest.map fun v => v.category).sum ≤ 8) (hf : cells + 1 ≤ R.cells ∧ slots + 6 ≤ R.slots) (hdg : decode cc pc = .ok (.invokestatic 17, 3)) (kx : ∀ (k : Nat) (X1 : XS) (vs1 : XE) (H1 : Heap) (locs1 : List Loc) (q9 : Addr) (ce9 : Cell), k ∈ [2] → postX k X1 → (∀ v ∈ vs, v ∈ vs1) → StX D dT a A s vs0 X1 vs1 H1 locs1 → H1[q9]? = some ce9 → ce9.vm = .none → s.vm.findClass (jxN k) = some ce9.cls → vx_W p l e R s m args below meth c H1 locs1 (cells + 1) (slots + 6) Q (F0 m pc ls rest) q9) (kk : ∀ (r : Int64) (X1 : XS) (vs1 : XE) (H1 : Heap) (locs1 : List Loc), post r X1 → (∀ v ∈ vs, v ∈ vs1) → StX D dT a A s vs0 X1 vs1 H1 locs1 → W p l e R s m args below meth c H1 locs1 (cells + 1) (slots + 6) Q (F0 m (pc + 3) ls (.long r :: rest))) : W p l e R s m args below meth c H locs cells slots Q (F0 m pc ls (.long p2 :: .long p0 :: rest)) := by
  exact xJl hA hS (xRunS (As := [.long p0, .long p2]) (rest := rest) (mc := 1) (ms := 6) hC (met_J2_multiplyExact l hfl D dT a H.size X vs p0 p2 post postX hw) (lw_S q835 q836 q93 q837) ⟨⟨rfl, rfl⟩, hd_J2_multiplyExact, hR, hf⟩ hA hS.self hl rfl hrest hdg) kx kk
end
/-! LeastFrames_Sheet.item -/
def w_X3_itemX (j : Nat) (p1 : Int32) (post : Int64 → XS → Prop) (postX : Nat → XS → Prop) (X : XS) : Prop :=
  ∃ o1, X_sr X j = some o1 ∧ ((∀ n2 f3, o1.2 = .inl (n2, f3) → ((n2 ≤ 40) ∧ (vp_in p1 n2 → (post ((f3 p1.toNatClampNeg).toInt64) X)) ∧ (¬ vp_in p1 n2 → (postX 1 X)))) ∧ (∀ n2 f3, o1.2 = .inr (n2, f3) → (∃ o5, X_sr X j = some o5 ∧ (∃ n6 f7, o5.2 = .inr (n6, f7) ∧ ((n6 ≤ 40) ∧ (vp_in p1 n6 → (post (f7 p1.toNatClampNeg) X)) ∧ (¬ vp_in p1 n6 → (postX 1 X)))))))
abbrev rmX3_itemX : Room := { frames := 8, cells := 3, slots := 222, locals := 10300 }
set_option maxHeartbeats 4000000 in
set_option maxRecDepth 100000 in
theorem k_X3_itemX_0 {p : Program} {l : Launch} {e : Env} {s : State} {m : MethodId} {args : Array Value} {below : List Frame} {meth : Method} {c : Code} {D : va_G} {dT : Nat → ClassId} {a : Nat → Nat} {A : Nat → Prop} {vs0 : XE} {j : Nat} {p1 : Int32} {post : Int64 → XS → Prop} {postX : Nat → XS → Prop} (hC : wCx RX3 cX3_itemX 4 (some .long) D dT p s m args meth c) (hA : wAz A s) (hfl : l.stackTraces = false) (htb : ∀ z ∈ c.exceptionTable.toList, False) (hj : j < 4) (X : XS) {vs : XE} {H : Heap} {locs : List Loc} {ls : Array Slot} {cells slots : Nat} (hS : StX D dT a A s vs0 X vs H locs) (hl : lv_has ls 4 [(0, .ref (a (18 + j))), (1, .int p1)]) (hc : cells + 3 ≤ 3 ∧ slots + 222 ≤ 222) (hw : w_X3_itemX j p1 post postX X) : W p l e rmX3_itemX s m args below meth c H locs cells slots (vx_MQ below (va_Ql (fun r u9 => post r u9.1) (wB D (XW dT a) (XI vs0) A) A) (XCJ D dT a [1] vs0 postX A) args s 3 222 A) (F0 m 0 ls []) := by
  have hx := hC.1
  have hb := hC.2.1
  have hown := hC.2.2.2.1
  have hts := hC.2.2.2.2.1
  unfold w_X3_itemX at hw
  obtain ⟨hc1, hc2⟩ := hc
  refine lv_aload_n hx hb dX3_item_0 rfl (lv_at hl 0 rfl) ?_
  obtain ⟨o1, h_o1, hw⟩ := hw
  refine ld_q187 hC hS hj dX3_item_1 ?_
  refine opt_ref h_o1 ?_
  refine lv_astore_n (lv' := [(3, .ref o1.1), (0, .ref (a (18 + j))), (1, .int p1)]) hx hb dX3_item_4 rfl hl (by decide) rfl (fun ls hl => ?_)
  refine lv_aload_n hx hb dX3_item_5 rfl (lv_at hl 0 rfl) ?_
  rcases kk_n2 : o1.2 with ⟨n2, f3⟩ | ⟨n2, f3⟩ <;> have k_n2 := kk_n2
  · have hw := hw.1 _ _ k_n2
    refine io_SRI hC hS hj h_o1 k_n2 (hC.2.2.2.2.1 _ q300) dX3_item_6 ?_
    refine lv_if_eq (tgt := 24) hx hb dX3_item_9 (by decide) (fun z => absurd z (by decide)) (fun _ => ?_)
    refine lv_aload_n hx hb dX3_item_12 rfl (lv_at hl 0 rfl) ?_
    refine cs_SRI hC hS hj h_o1 k_n2 (hC.2.2.2.2.1 _ q300) dX3_item_13 ?_
    refine lv_astore_n (lv' := [(2, .ref o1.1), (3, .ref o1.1), (0, .ref (a (18 + j))), (1, .int p1)]) hx hb dX3_item_16 rfl hl (by decide) rfl (fun ls hl => ?_)
    refine lv_aload_n hx hb dX3_item_17 rfl (lv_at hl 0 rfl) ?_
    refine lv_iload_n hx hb dX3_item_18 rfl (lv_at hl 3 rfl) ?_
    have hn9 := hw.1
    refine jl_SRI hC hA hS hj h_o1 k_n2 hn9 hfl hl.1 ⟨Nat.le_of_ble_eq_true rfl, Nat.le_of_ble_eq_true rfl⟩ (Nat.le_of_ble_eq_true rfl) ⟨(by show _ ≤ 3; omega), (by show _ ≤ 222; omega)⟩ dX3_item_19 (fun hi4 => ?_) (fun hi4 q9 ce9 H hS g1 g2 g3 => ?_)
    · have hw := hw.2.1 hi4
      refine lv_i2l hx hb dX3_item_20 rfl ?_
      refine lv_goto (tgt := 33) hx hb dX3_item_21 (by decide) ?_
      exact vx_ret (wRetl hC hS hw (by omega) (by omega) dX3_item_33)
    · have hw := hw.2.2 hi4
      exact xOutJ (k := 1) hC (fun z hz => (htb z hz).elim) (by decide) hw hS g1 g2 g3 (by omega) (by omega)
  · have hw := hw.2 _ _ k_n2
    refine io_SRJ hC hS hj h_o1 k_n2 (hC.2.2.2.2.1 _ q300) dX3_item_6 ?_
    refine lv_if_eq (tgt := 24) hx hb dX3_item_9 (by decide) (fun _ => ?_) (fun z => absurd rfl z)
    refine lv_aload_n hx hb dX3_item_24 rfl (lv_at hl 1 rfl) ?_
    obtain ⟨o5, h_o5, hw⟩ := hw
    refine ld_q187 hC hS hj dX3_item_25 ?_
    refine opt_ref h_o5 ?_
    obtain ⟨n6, f7, k_n6, hw⟩ := hw
    refine cs_SRJ hC hS hj h_o5 k_n6 (hC.2.2.2.2.1 _ q301) dX3_item_28 ?_
    refine lv_iload_n hx hb dX3_item_31 rfl (lv_at hl 2 rfl) ?_
    have hn9 := hw.1
    refine jl_SRJ hC hA hS hj h_o5 k_n6 hn9 hfl hl.1 ⟨Nat.le_of_ble_eq_true rfl, Nat.le_of_ble_eq_true rfl⟩ (Nat.le_of_ble_eq_true rfl) ⟨(by show _ ≤ 3; omega), (by show _ ≤ 222; omega)⟩ dX3_item_32 (fun hi8 => ?_) (fun hi8 q9 ce9 H hS g1 g2 g3 => ?_)
    · have hw := hw.2.1 hi8
      exact vx_ret (wRetl hC hS hw (by omega) (by omega) dX3_item_33)
    · have hw := hw.2.2 hi8
      exact xOutJ (k := 1) hC (fun z hz => (htb z hz).elim) (by decide) hw hS g1 g2 g3 (by omega) (by omega)
abbrev v_X3_itemX (X : XS) (j : Nat) (p1 : Int32) (post : Int64 → XS → Prop) (postX : Nat → XS → Prop) : Prop := w_X3_itemX j p1 post postX X
set_option maxHeartbeats 4000000 in
set_option maxRecDepth 100000 in
theorem met_X3_itemX (l : Launch) (hfl : l.stackTraces = false) (D : va_G) (dT : Nat → ClassId) (a : Nat → Nat) (sz : Nat) (X : XS) (vs0 : XE) (j : Nat) (p1 : Int32) (hj : j < 4) (post : Int64 → XS → Prop) (postX : Nat → XS → Prop) (hw : v_X3_itemX X j p1 post postX) : vx_Met l yX3_itemX (ws_ yX3_itemX cX3_itemX 4 (some .long)) rmX3_itemX (wPc D dT (XW dT a) (XI vs0) sz (X, vs0) [.ref (a (18 + j)), .int p1]) (va_Ql (fun r u9 => post r u9.1) (wB D (XW dT a) (XI vs0) (va_A ((XW dT a) (X, vs0)) sz)) (va_A ((XW dT a) (X, vs0)) sz)) (XCJ D dT a [1] vs0 postX (va_A ((XW dT a) (X, vs0)) sz)) 3 222 (va_A ((XW dT a) (X, vs0)) sz) :=
  xEnt (Q := fun A => (va_Ql (fun r u9 => post r u9.1) (wB D (XW dT a) (XI vs0) A) A)) (XC := fun A => (XCJ D dT a [1] vs0 postX A)) (by decide) (Nat.le_of_ble_eq_true rfl) (fun p e s m below meth c A ls hC htb hA hS hl => k_X3_itemX_0 hC hA hfl htb hj _ hS hl ⟨by omega, by omega⟩ hw) sz
theorem hd_X3_itemX : yX3_itemX.cls ≠ "java/lang/invoke/MethodHandle" ∧ yX3_itemX.cls ≠ "java/lang/invoke/VarHandle" ∧ (parseMethodDescriptor yX3_itemX.desc).map (fun d => d.parameters.length) = some 1 := by decide +kernel
section
variable {p : Program} {l : Launch} {e : Env} {R : Room} {s : State} {m : MethodId} {args : Array Value} {below : List Frame} {meth : Method} {c : Code} {H : Heap} {locs : List Loc} {cells slots : Nat} {Q : State → Prop} {cc : ByteArray} {nL : Nat} {ret : Option FieldType} {pc : Nat} {ls : Array Slot} {rest : List Value}
set_option maxHeartbeats 4000000 in
set_option maxRecDepth 100000 in
theorem invJ_q302 {D : va_G} {dT : Nat → ClassId} {a : Nat → Nat} {A : Nat → Prop} {vs0 : XE} {vs : XE} {X : XS} {j : Nat} {p1 : Int32} {post : Int64 → XS → Prop} {postX : Nat → XS → Prop} (hC : wCx RX0 cc nL ret D dT p s m args meth c) (hA : wAz A s) (hfl : l.stackTraces = false) (hS : StX D dT a A s vs0 X vs H locs) (hj : j < 4) (hl : ls.size = nL) (hw : v_X3_itemX X j p1 post postX) (hR : rmX3_itemX.frames + 1 ≤ R.frames ∧ 8 + (4 + 11) + rmX3_itemX.locals ≤ R.locals) (hrest : (rest.map fun v => v.category).sum ≤ 8) (hf : cells + 3 ≤ R.cells ∧ slots + 222 ≤ R.slots) (hdg : decode cc pc = .ok (.invokevirtual 192, 3)) (kx : ∀ (k : Nat) (X1 : XS) (vs1 : XE) (H1 : Heap) (locs1 : List Loc) (q9 : Addr) (ce9 : Cell), k ∈ [1] → postX k X1 → (∀ v ∈ vs, v ∈ vs1) → StX D dT a A s vs0 X1 vs1 H1 locs1 → H1[q9]? = some ce9 → ce9.vm = .none → s.vm.findClass (jxN k) = some ce9.cls → vx_W p l e R s m args below meth c H1 locs1 (cells + 3) (slots + 222) Q (F0 m pc ls rest) q9) (kk : ∀ (r : Int64) (X1 : XS) (vs1 : XE) (H1 : Heap) (locs1 : List Loc), post r X1 → (∀ v ∈ vs, v ∈ vs1) → StX D dT a A s vs0 X1 vs1 H1 locs1 → W p l e R s m args below meth c H1 locs1 (cells + 3) (slots + 222) Q (F0 m (pc + 3) ls (.long r :: rest))) : W p l e R s m args below meth c H locs cells slots Q (F0 m pc ls (.int p1 :: .ref (a (18 + j)) :: rest)) := by
  exact xJl hA hS (xRunV (As := [.int p1]) (rest := rest) (mc := 3) (ms := 222) (18 + j) hC (met_X3_itemX l hfl D dT a H.size X vs j p1 hj post postX hw) (lw_V q302 q303 q304 q88 q305) ⟨⟨rfl, rfl⟩, hd_X3_itemX, hR, hf⟩ (XW_SH hj) rfl rfl hA hS.self hl rfl hrest hdg) kx kk
end
/-! LeastFrames_Sheet.lay -/
def w_X3_lay (j : Nat) (p1 : Int32) (p2 : Int32) (p3 : Int32) (post : XS → Prop) (postX : Nat → XS → Prop) (X : XS) : Prop :=
  (p1 = (0 : Int32) → (∃ o15, X_sr X j = some o15 ∧ ((∀ n16 f17, o15.2 = .inl (n16, f17) → ((n16 ≤ 40) ∧ (vp_in p2 n16 → ∀ X18 : XS, X18 = sX_sr X (upO (X_sr X) j (some (o15.1, .inl (n16, upd f17 p2.toNatClampNeg p3)))) → (post X18)) ∧ (¬ vp_in p2 n16 → (postX 1 X)))) ∧ (∀ n16 f17, o15.2 = .inr (n16, f17) → (postX 0 X))))) ∧ (¬ p1 = (0 : Int32) → (∃ o2, X_sr X j = some o2 ∧ ((∀ n3 f4, o2.2 = .inr (n3, f4) → ((n3 ≤ 40) ∧ (vp_in p2 n3 → (vp_in p2 n3 ∧ (∀ X6 : XS, X6 = sX_sr X (upO (X_sr X) j (some (o2.1, .inr (n3, vp_updL f4 p2.toNatClampNeg ((f4 p2.toNatClampNeg) + 0))))) → (v_J2_multiplyExact X6 (p3.toInt64 * p3.toInt64) p3.toInt64 (fun r9 X10 => X10 = X6 ∧ (vp_in p2 n3 ∧ (∀ X12 : XS, X12 = sX_sr X6 (upO (X_sr X6) j (some ((o2.1, (.inr (n3, vp_updL f4 p2.toNatClampNeg ((f4 p2.toNatClampNeg) + 0)) : SCon)).1, .inr (n3, vp_updL (vp_updL f4 p2.toNatClampNeg ((f4 p2.toNatClampNeg) + 0)) p2.toNatClampNeg r9)))) → (post X12)))) (fun x11 X10 => postX x11 X10))))) ∧ (¬ vp_in p2 n3 → (postX 1 X)))) ∧ (∀ n3 f4, o2.2 = .inl (n3, f4) → (postX 0 X)))))
abbrev rmX3_lay : Room := { frames := 9, cells := 7, slots := 638, locals := 10300 }
set_option maxHeartbeats 4000000 in
set_option maxRecDepth 100000 in
theorem k_X3_lay_0 {p : Program} {l : Launch} {e : Env} {s : State} {m : MethodId} {args : Array Value} {below : List Frame} {meth : Method} {c : Code} {D : va_G} {dT : Nat → ClassId} {a : Nat → Nat} {A : Nat → Prop} {vs0 : XE} {j : Nat} {p1 : Int32} {p2 : Int32} {p3 : Int32} {post : XS → Prop} {postX : Nat → XS → Prop} (hC : wCx RX3 cX3_lay 5 (none) D dT p s m args meth c) (hA : wAz A s) (hfl : l.stackTraces = false) (htb : ∀ z ∈ c.exceptionTable.toList, False) (hj : j < 4) (X : XS) {vs : XE} {H : Heap} {locs : List Loc} {ls : Array Slot} {cells slots : Nat} (hS : StX D dT a A s vs0 X vs H locs) (hl : lv_has ls 5 [(0, .ref (a (18 + j))), (1, .int p1), (2, .int p2), (3, .int p3)]) (hc : cells + 7 ≤ 7 ∧ slots + 638 ≤ 638) (hw : w_X3_lay j p1 p2 p3 post postX X) : W p l e rmX3_lay s m args below meth c H locs cells slots (vx_MQ below (va_Qv (fun u9 => post u9.1) (wB D (XW dT a) (XI vs0) A) A) (XCJ D dT a [0, 1, 2] vs0 postX A) args s 7 638 A) (F0 m 0 ls []) := by
  have hx := hC.1
  have hb := hC.2.1
  have hown := hC.2.2.2.1
  have hts := hC.2.2.2.2.1
  unfold w_X3_lay at hw
  obtain ⟨hc1, hc2⟩ := hc
  refine lv_iload_n hx hb dX3_lay_0 rfl (lv_at hl 1 rfl) ?_
  refine lv_if_ne (tgt := 15) hx hb dX3_lay_1 (by decide) (fun c1 => ?_) (fun c1 => ?_)
  · have hw := hw.2 c1
    refine lv_aload_n hx hb dX3_lay_15 rfl (lv_at hl 0 rfl) ?_
    obtain ⟨o2, h_o2, hw⟩ := hw
    refine ld_q187 hC hS hj dX3_lay_16 ?_
    refine opt_ref h_o2 ?_
    rcases kk_n3 : o2.2 with ⟨n3, f4⟩ | ⟨n3, f4⟩ <;> have k_n3 := kk_n3
    · have hw := hw.2 _ _ k_n3
      refine jc_SRJ hC hA hS hj h_o2 k_n3 hfl hl.1 ⟨Nat.le_of_ble_eq_true rfl, Nat.le_of_ble_eq_true rfl⟩ (Nat.le_of_ble_eq_true rfl) ⟨(by show _ ≤ 7; omega), (by show _ ≤ 638; omega)⟩ q301 dX3_lay_19 (fun q9 ce9 H hS g1 g2 g3 => ?_)
      exact xOutJ (k := 0) hC (fun z hz => (htb z hz).elim) (by decide) hw hS g1 g2 g3 (by omega) (by omega)
    · have hw := hw.1 _ _ k_n3
      refine cs_SRJ hC hS hj h_o2 k_n3 (hts _ q301) dX3_lay_19 ?_
      refine lv_astore (lv' := [(4, .ref o2.1), (0, .ref (a (18 + j))), (1, .int p1), (2, .int p2), (3, .int p3)]) hx hb dX3_lay_22 hl (by decide) rfl (fun ls hl => ?_)
      refine lv_aload hx hb dX3_lay_24 (lv_at hl 0 rfl) ?_
      refine lv_iload_n hx hb dX3_lay_26 rfl (lv_at hl 3 rfl) ?_
      refine lv_dup2_11 hx hb dX3_lay_27 rfl rfl ?_
      have hn9 := hw.1
      refine jl_SRJ hC hA hS hj h_o2 k_n3 hn9 hfl hl.1 ⟨Nat.le_of_ble_eq_true rfl, Nat.le_of_ble_eq_true rfl⟩ (Nat.le_of_ble_eq_true rfl) ⟨(by show _ ≤ 7; omega), (by show _ ≤ 638; omega)⟩ dX3_lay_28 (fun hi5 => ?_) (fun hi5 q9 ce9 H hS g1 g2 g3 => ?_)
      · have hw := hw.2.1 hi5
        refine lv_lconst (v := 0) hx hb dX3_lay_29 (by decide) ?_
        refine lv_ladd hx hb dX3_lay_30 ?_
        have hi := hw.1
        have hw := hw.2
        refine as_SRJ (r := o2) hC hS hj h_o2 k_n3 hi dX3_lay_31 (fun H locs hS => ?_)
        have hs7 : X_sr (sX_sr X (upO (X_sr X) j (some (o2.1, .inr (n3, vp_updL f4 p2.toNatClampNeg ((f4 p2.toNatClampNeg) + 0)))))) j = some (o2.1, .inr (n3, vp_updL f4 p2.toNatClampNeg ((f4 p2.toNatClampNeg) + 0))) := XSR_upO
        have hw := hw (sX_sr X (upO (X_sr X) j (some (o2.1, .inr (n3, vp_updL f4 p2.toNatClampNeg ((f4 p2.toNatClampNeg) + 0)))))) rfl
        generalize sX_sr X (upO (X_sr X) j (some (o2.1, .inr (n3, vp_updL f4 p2.toNatClampNeg ((f4 p2.toNatClampNeg) + 0))))) = X6 at hS hw hs7
        refine lv_aload hx hb dX3_lay_32 (lv_at hl 0 rfl) ?_
        refine lv_iload_n hx hb dX3_lay_34 rfl (lv_at hl 3 rfl) ?_
        refine lv_iload_n hx hb dX3_lay_35 rfl (lv_at hl 4 rfl) ?_
        refine lv_i2l hx hb dX3_lay_36 rfl ?_
        refine lv_iload_n hx hb dX3_lay_37 rfl (lv_at hl 4 rfl) ?_
        refine lv_i2l hx hb dX3_lay_38 rfl ?_
        refine lv_lmul hx hb dX3_lay_39 ?_
        refine lv_iload_n hx hb dX3_lay_40 rfl (lv_at hl 4 rfl) ?_
        refine lv_i2l hx hb dX3_lay_41 rfl ?_
        refine invJ_q835 hC hA hfl hS hl.1 hw ⟨Nat.le_of_ble_eq_true rfl, Nat.le_of_ble_eq_true rfl⟩ (Nat.le_of_ble_eq_true rfl) ⟨(by show _ ≤ 7; omega), (by show _ ≤ 638; omega)⟩ dX3_lay_42 (fun x11 X10 vs H locs q9 ce9 hx3 hw hv9 hS g1 g2 g3 => ?_) (fun r9 X10 vs H locs hw hv9 hS => ?_)
        · exact xOutJ hC (fun z hz => (htb z hz).elim) (by simp only [List.mem_cons, List.not_mem_nil, or_false] at hx3 ⊢; omega) hw hS g1 g2 g3 (by omega) (by omega)
        · obtain ⟨e9, hw⟩ := hw
          rw [e9] at hS
          have hi := hw.1
          have hw := hw.2
          refine as_SRJ (r := (o2.1, (.inr (n3, vp_updL f4 p2.toNatClampNeg ((f4 p2.toNatClampNeg) + 0)) : SCon))) hC hS hj hs7 (rfl : (o2.1, (.inr (n3, vp_updL f4 p2.toNatClampNeg ((f4 p2.toNatClampNeg) + 0)) : SCon)).2 = .inr (n3, vp_updL f4 p2.toNatClampNeg ((f4 p2.toNatClampNeg) + 0))) hi dX3_lay_45 (fun H locs hS => ?_)
          have hs13 : X_sr (sX_sr X6 (upO (X_sr X6) j (some ((o2.1, (.inr (n3, vp_updL f4 p2.toNatClampNeg ((f4 p2.toNatClampNeg) + 0)) : SCon)).1, .inr (n3, vp_updL (vp_updL f4 p2.toNatClampNeg ((f4 p2.toNatClampNeg) + 0)) p2.toNatClampNeg r9))))) j = some ((o2.1, (.inr (n3, vp_updL f4 p2.toNatClampNeg ((f4 p2.toNatClampNeg) + 0)) : SCon)).1, .inr (n3, vp_updL (vp_updL f4 p2.toNatClampNeg ((f4 p2.toNatClampNeg) + 0)) p2.toNatClampNeg r9)) := XSR_upO
          have hw := hw (sX_sr X6 (upO (X_sr X6) j (some ((o2.1, (.inr (n3, vp_updL f4 p2.toNatClampNeg ((f4 p2.toNatClampNeg) + 0)) : SCon)).1, .inr (n3, vp_updL (vp_updL f4 p2.toNatClampNeg ((f4 p2.toNatClampNeg) + 0)) p2.toNatClampNeg r9))))) rfl
          generalize sX_sr X6 (upO (X_sr X6) j (some ((o2.1, (.inr (n3, vp_updL f4 p2.toNatClampNeg ((f4 p2.toNatClampNeg) + 0)) : SCon)).1, .inr (n3, vp_updL (vp_updL f4 p2.toNatClampNeg ((f4 p2.toNatClampNeg) + 0)) p2.toNatClampNeg r9)))) = X12 at hS hw hs13
          exact vx_ret (wRetv hC hS hw (by omega) (by omega) dX3_lay_46)
      · have hw := hw.2.2 hi5
        exact xOutJ (k := 1) hC (fun z hz => (htb z hz).elim) (by decide) hw hS g1 g2 g3 (by omega) (by omega)
  · have hw := hw.1 c1
    refine lv_aload_n hx hb dX3_lay_4 rfl (lv_at hl 0 rfl) ?_
    obtain ⟨o15, h_o15, hw⟩ := hw
    refine ld_q187 hC hS hj dX3_lay_5 ?_
    refine opt_ref h_o15 ?_
    rcases kk_n16 : o15.2 with ⟨n16, f17⟩ | ⟨n16, f17⟩ <;> have k_n16 := kk_n16
    · have hw := hw.1 _ _ k_n16
      refine cs_SRI hC hS hj h_o15 k_n16 (hts _ q300) dX3_lay_8 ?_
      refine lv_iload_n hx hb dX3_lay_11 rfl (lv_at hl 2 rfl) ?_
      refine lv_iload_n hx hb dX3_lay_12 rfl (lv_at hl 3 rfl) ?_
      have hn9 := hw.1
      refine js_SRI hC hA hS hj h_o15 k_n16 hn9 hfl hl.1 ⟨Nat.le_of_ble_eq_true rfl, Nat.le_of_ble_eq_true rfl⟩ (Nat.le_of_ble_eq_true rfl) ⟨(by show _ ≤ 7; omega), (by show _ ≤ 638; omega)⟩ dX3_lay_13 (fun hi20 H locs hS => ?_) (fun hi20 q9 ce9 H hS g1 g2 g3 => ?_)
      · have hw := hw.2.1 hi20
        have hs19 : X_sr (sX_sr X (upO (X_sr X) j (some (o15.1, .inl (n16, upd f17 p2.toNatClampNeg p3))))) j = some (o15.1, .inl (n16, upd f17 p2.toNatClampNeg p3)) := XSR_upO
        have hw := hw (sX_sr X (upO (X_sr X) j (some (o15.1, .inl (n16, upd f17 p2.toNatClampNeg p3))))) rfl
        generalize sX_sr X (upO (X_sr X) j (some (o15.1, .inl (n16, upd f17 p2.toNatClampNeg p3)))) = X18 at hS hw hs19
        exact vx_ret (wRetv hC hS hw (by omega) (by omega) dX3_lay_14)
      · have hw := hw.2.2 hi20
        exact xOutJ (k := 1) hC (fun z hz => (htb z hz).elim) (by decide) hw hS g1 g2 g3 (by omega) (by omega)
    · have hw := hw.2 _ _ k_n16
      refine jc_SRI hC hA hS hj h_o15 k_n16 hfl hl.1 ⟨Nat.le_of_ble_eq_true rfl, Nat.le_of_ble_eq_true rfl⟩ (Nat.le_of_ble_eq_true rfl) ⟨(by show _ ≤ 7; omega), (by show _ ≤ 638; omega)⟩ q300 dX3_lay_8 (fun q9 ce9 H hS g1 g2 g3 => ?_)
      exact xOutJ (k := 0) hC (fun z hz => (htb z hz).elim) (by decide) hw hS g1 g2 g3 (by omega) (by omega)
abbrev v_X3_lay (X : XS) (j : Nat) (p1 : Int32) (p2 : Int32) (p3 : Int32) (post : XS → Prop) (postX : Nat → XS → Prop) : Prop := w_X3_lay j p1 p2 p3 post postX X
set_option maxHeartbeats 4000000 in
set_option maxRecDepth 100000 in
theorem met_X3_lay (l : Launch) (hfl : l.stackTraces = false) (D : va_G) (dT : Nat → ClassId) (a : Nat → Nat) (sz : Nat) (X : XS) (vs0 : XE) (j : Nat) (p1 : Int32) (p2 : Int32) (p3 : Int32) (hj : j < 4) (post : XS → Prop) (postX : Nat → XS → Prop) (hw : v_X3_lay X j p1 p2 p3 post postX) : vx_Met l yX3_lay (ws_ yX3_lay cX3_lay 5 (none)) rmX3_lay (wPc D dT (XW dT a) (XI vs0) sz (X, vs0) [.ref (a (18 + j)), .int p1, .int p2, .int p3]) (va_Qv (fun u9 => post u9.1) (wB D (XW dT a) (XI vs0) (va_A ((XW dT a) (X, vs0)) sz)) (va_A ((XW dT a) (X, vs0)) sz)) (XCJ D dT a [0, 1, 2] vs0 postX (va_A ((XW dT a) (X, vs0)) sz)) 7 638 (va_A ((XW dT a) (X, vs0)) sz) :=
  xEnt (Q := fun A => (va_Qv (fun u9 => post u9.1) (wB D (XW dT a) (XI vs0) A) A)) (XC := fun A => (XCJ D dT a [0, 1, 2] vs0 postX A)) (by decide) (Nat.le_of_ble_eq_true rfl) (fun p e s m below meth c A ls hC htb hA hS hl => k_X3_lay_0 hC hA hfl htb hj _ hS hl ⟨by omega, by omega⟩ hw) sz
theorem hd_X3_lay : yX3_lay.cls ≠ "java/lang/invoke/MethodHandle" ∧ yX3_lay.cls ≠ "java/lang/invoke/VarHandle" ∧ (parseMethodDescriptor yX3_lay.desc).map (fun d => d.parameters.length) = some 3 := by decide +kernel
section
variable {p : Program} {l : Launch} {e : Env} {R : Room} {s : State} {m : MethodId} {args : Array Value} {below : List Frame} {meth : Method} {c : Code} {H : Heap} {locs : List Loc} {cells slots : Nat} {Q : State → Prop} {cc : ByteArray} {nL : Nat} {ret : Option FieldType} {pc : Nat} {ls : Array Slot} {rest : List Value}
set_option maxHeartbeats 4000000 in
set_option maxRecDepth 100000 in
theorem invJ_q831 {D : va_G} {dT : Nat → ClassId} {a : Nat → Nat} {A : Nat → Prop} {vs0 : XE} {vs : XE} {X : XS} {j : Nat} {p1 : Int32} {p2 : Int32} {p3 : Int32} {post : XS → Prop} {postX : Nat → XS → Prop} (hC : wCx RX0 cc nL ret D dT p s m args meth c) (hA : wAz A s) (hfl : l.stackTraces = false) (hS : StX D dT a A s vs0 X vs H locs) (hj : j < 4) (hl : ls.size = nL) (hw : v_X3_lay X j p1 p2 p3 post postX) (hR : rmX3_lay.frames + 1 ≤ R.frames ∧ 8 + (5 + 11) + rmX3_lay.locals ≤ R.locals) (hrest : (rest.map fun v => v.category).sum ≤ 8) (hf : cells + 7 ≤ R.cells ∧ slots + 638 ≤ R.slots) (hdg : decode cc pc = .ok (.invokevirtual 330, 3)) (kx : ∀ (k : Nat) (X1 : XS) (vs1 : XE) (H1 : Heap) (locs1 : List Loc) (q9 : Addr) (ce9 : Cell), k ∈ [0, 1, 2] → postX k X1 → (∀ v ∈ vs, v ∈ vs1) → StX D dT a A s vs0 X1 vs1 H1 locs1 → H1[q9]? = some ce9 → ce9.vm = .none → s.vm.findClass (jxN k) = some ce9.cls → vx_W p l e R s m args below meth c H1 locs1 (cells + 7) (slots + 638) Q (F0 m pc ls rest) q9) (kk : ∀ (X1 : XS) (vs1 : XE) (H1 : Heap) (locs1 : List Loc), post X1 → (∀ v ∈ vs, v ∈ vs1) → StX D dT a A s vs0 X1 vs1 H1 locs1 → W p l e R s m args below meth c H1 locs1 (cells + 7) (slots + 638) Q (F0 m (pc + 3) ls (rest))) : W p l e R s m args below meth c H locs cells slots Q (F0 m pc ls (.int p3 :: .int p2 :: .int p1 :: .ref (a (18 + j)) :: rest)) := by
  exact xJv hA hS (xRunV (As := [.int p1, .int p2, .int p3]) (rest := rest) (mc := 7) (ms := 638) (18 + j) hC (met_X3_lay l hfl D dT a H.size X vs j p1 p2 p3 hj post postX hw) (lw_V q831 q832 q833 q88 q834) ⟨⟨rfl, rfl⟩, hd_X3_lay, hR, hf⟩ (XW_SH hj) rfl rfl hA hS.self hl rfl hrest hdg) kx kk
end
/-! LeastFrames.lose -/
def w_X0_lose (p1 : Int32) (post : Int32 → XS → Prop) (X : XS) : Prop :=
  v_X0_isSheet p1 (fun r1 => (r1 = (0 : Int32) → (post ((-2) : Int32) X)) ∧ (¬ r1 = (0 : Int32) → (vp_in p1 4 ∧ ((X_sr X p1.toNatClampNeg = none → (v_X0_finds X (1 : Int32) (fun r5 X6 => post r5 X6))) ∧ (∀ r4, X_sr X p1.toNatClampNeg = some r4 → (vp_in p1 4 ∧ (v_X3_size X p1.toNatClampNeg (fun r8 => vp_in p1 4 ∧ (∀ X10 : XS, X10 = sX_sr X (upO (X_sr X) p1.toNatClampNeg none) → (post r8 X10))))))))))
abbrev rmX0_lose : Room := { frames := 2, cells := 0, slots := 0, locals := 45 }
set_option maxHeartbeats 4000000 in
set_option maxRecDepth 100000 in
theorem k_X0_lose_0 {p : Program} {l : Launch} {e : Env} {s : State} {m : MethodId} {args : Array Value} {below : List Frame} {meth : Method} {c : Code} {D : va_G} {dT : Nat → ClassId} {a : Nat → Nat} {A : Nat → Prop} {vs0 : XE} {p1 : Int32} {post : Int32 → XS → Prop} (hC : wCx RX0 cX0_lose 3 (some .int) D dT p s m args meth c) (hA : wAz A s) (X : XS) {vs : XE} {H : Heap} {locs : List Loc} {ls : Array Slot} (hS : StX D dT a A s vs0 X vs H locs) (hl : lv_has ls 3 [(0, .ref (a 0)), (1, .int p1)])  (hw : w_X0_lose p1 post X) : W p l e rmX0_lose s m args below meth c H locs 0 0 (MQ below (va_Qi (fun r u9 => post r u9.1) (wB D (XW dT a) (XI vs0) A) A) args s 0 0 A) (F0 m 0 ls []) := by
  have hx := hC.1
  have hb := hC.2.1
  have hown := hC.2.2.2.1
  have hts := hC.2.2.2.2.1
  unfold w_X0_lose at hw
  refine lv_iload_n hx hb dX0_lose_0 rfl (lv_at hl 1 rfl) ?_
  refine inv_q289 hC hS hl.1 hw ⟨Nat.le_of_ble_eq_true rfl, Nat.le_of_ble_eq_true rfl⟩ (Nat.le_of_ble_eq_true rfl) ⟨Nat.zero_le _, Nat.zero_le _⟩ dX0_lose_1 (fun r1 H locs hw hS => ?_)
  refine lv_if_ne (tgt := 10) hx hb dX0_lose_4 (by decide) (fun c2 => ?_) (fun c2 => ?_)
  · have hw := hw.2 c2
    refine lv_aload_n hx hb dX0_lose_10 rfl (lv_at hl 0 rfl) ?_
    refine ld_q206 hC hS dX0_lose_11 ?_
    refine lv_iload_n hx hb dX0_lose_14 rfl (lv_at hl 1 rfl) ?_
    have hi3 := hw.1
    have hw := hw.2
    refine aa_SA hC hS hi3 dX0_lose_15 ?_
    refine ld_q188 hC hS (vp_lt hi3) dX0_lose_16 ?_
    refine opt_nn (tgt := 28) hx hb dX0_lose_19 (by decide) (fun hr4 => ?_) (fun r4 hr4 => ?_)
    · have hw := hw.1 hr4
      refine lv_aload_n hx hb dX0_lose_22 rfl (lv_at hl 0 rfl) ?_
      refine lv_iconst (v := 1) hx hb dX0_lose_23 (by decide) ?_
      refine inv_q292 hC hA hS hl.1 hw ⟨Nat.le_of_ble_eq_true rfl, Nat.le_of_ble_eq_true rfl⟩ (Nat.le_of_ble_eq_true rfl) ⟨Nat.zero_le _, Nat.zero_le _⟩ dX0_lose_24 (fun r5 X6 vs H locs hw hv9 hS => ?_)
      exact wReti hC hS hw (Nat.le_refl _) (Nat.le_refl _) dX0_lose_27
    · have hw := hw.2 _ hr4
      refine lv_aload_n hx hb dX0_lose_28 rfl (lv_at hl 0 rfl) ?_
      refine ld_q206 hC hS dX0_lose_29 ?_
      refine lv_iload_n hx hb dX0_lose_32 rfl (lv_at hl 1 rfl) ?_
      have hi7 := hw.1
      have hw := hw.2
      refine aa_SA hC hS hi7 dX0_lose_33 ?_
      refine inv_q296 hC hA hS (vp_lt hi7) hl.1 hw ⟨Nat.le_of_ble_eq_true rfl, Nat.le_of_ble_eq_true rfl⟩ (Nat.le_of_ble_eq_true rfl) ⟨Nat.zero_le _, Nat.zero_le _⟩ dX0_lose_34 (fun r8 H locs hw hS => ?_)
      refine lv_istore_n (lv' := [(2, .int r8), (0, .ref (a 0)), (1, .int p1)]) hx hb dX0_lose_37 rfl hl (by decide) rfl (fun ls hl => ?_)
      refine lv_aload_n hx hb dX0_lose_38 rfl (lv_at hl 1 rfl) ?_
      refine ld_q206 hC hS dX0_lose_39 ?_
      refine lv_iload_n hx hb dX0_lose_42 rfl (lv_at hl 2 rfl) ?_
      have hi9 := hw.1
      have hw := hw.2
      refine aa_SA hC hS hi9 dX0_lose_43 ?_
      refine lv_null hx hb dX0_lose_44 ?_
      refine st_rown hC hS (vp_lt hi9) dX0_lose_45 (fun H locs hS => ?_)
      have hw := hw (sX_sr X (upO (X_sr X) p1.toNatClampNeg none)) rfl
      generalize sX_sr X (upO (X_sr X) p1.toNatClampNeg none) = X10 at hS hw
      refine lv_iload_n hx hb dX0_lose_48 rfl (lv_at hl 0 rfl) ?_
      exact wReti hC hS hw (Nat.le_refl _) (Nat.le_refl _) dX0_lose_49
  · have hw := hw.1 c2
    refine lv_bipush (v := (-2)) hx hb dX0_lose_7 (by decide) ?_
    exact wReti hC hS hw (Nat.le_refl _) (Nat.le_refl _) dX0_lose_9
abbrev v_X0_lose (X : XS) (p1 : Int32) (post : Int32 → XS → Prop) : Prop := w_X0_lose p1 post X
set_option maxHeartbeats 4000000 in
set_option maxRecDepth 100000 in
theorem met_X0_lose (l : Launch) (D : va_G) (dT : Nat → ClassId) (a : Nat → Nat) (sz : Nat) (X : XS) (vs0 : XE) (p1 : Int32) (post : Int32 → XS → Prop) (hw : v_X0_lose X p1 post) : Met l yX0_lose (ws_ yX0_lose cX0_lose 3 (some .int)) rmX0_lose (wPc D dT (XW dT a) (XI vs0) sz (X, vs0) [.ref (a 0), .int p1]) (va_Qi (fun r u9 => post r u9.1) (wB D (XW dT a) (XI vs0) (va_A ((XW dT a) (X, vs0)) sz)) (va_A ((XW dT a) (X, vs0)) sz)) 0 0 (va_A ((XW dT a) (X, vs0)) sz) :=
  wEnt (Q := fun A => (va_Qi (fun r u9 => post r u9.1) (wB D (XW dT a) (XI vs0) A) A)) (by decide) (Nat.le_of_ble_eq_true rfl) (fun p e s m below meth c A ls hC _ hA hS hl => k_X0_lose_0 hC hA _ hS hl hw) sz
theorem hd_X0_lose : yX0_lose.cls ≠ "java/lang/invoke/MethodHandle" ∧ yX0_lose.cls ≠ "java/lang/invoke/VarHandle" ∧ (parseMethodDescriptor yX0_lose.desc).map (fun d => d.parameters.length) = some 1 := by decide +kernel
/-! LeastFrames.sheet -/
def w_X0_sheet_47 (p1 : Int32) (p2 : Int32) (p3 : Int32) (post : Int32 → XS → Prop) (X : XS) (y0 : Nat) : Prop :=
  v_X0_finds X (5 : Int32) (fun r1 X2 => post r1 X2)
def w_X0_sheet (p1 : Int32) (p2 : Int32) (p3 : Int32) (post : Int32 → XS → Prop) (X : XS) : Prop :=
  v_X0_isSheet p1 (fun r1 => (r1 = (0 : Int32) → (post ((-2) : Int32) X)) ∧ (¬ r1 = (0 : Int32) → (v_X0_isTwo p2 (fun r3 => (r3 = (0 : Int32) → (post ((-2) : Int32) X)) ∧ (¬ r3 = (0 : Int32) → ((p3 ≤ (40 : Int32) → (vp_in p1 4 ∧ ((p2 = (0 : Int32) → ((p3 ≤ 40) ∧ (¬ p3 < 0 → ∀ q11 : Nat, (∀ X13 : XS, X13 = sX_sr X (upO (X_sr X) p1.toNatClampNeg (some (q11, .inl (p3.toNatClampNeg, fun _ => 0)))) → (post p3 X13))) ∧ (p3 < 0 → (∀ q9 : Nat, (w_X0_sheet_47 p1 p2 p3 post X q9))))) ∧ (¬ p2 = (0 : Int32) → ((p3 ≤ 40) ∧ (¬ p3 < 0 → ∀ q8 : Nat, (∀ X10 : XS, X10 = sX_sr X (upO (X_sr X) p1.toNatClampNeg (some (q8, .inr (p3.toNatClampNeg, fun _ => 0)))) → (post p3 X10))) ∧ (p3 < 0 → (∀ q9 : Nat, (w_X0_sheet_47 p1 p2 p3 post X q9)))))))) ∧ (¬ p3 ≤ (40 : Int32) → (post ((-2) : Int32) X))))))))
abbrev rmX0_sheet : Room := { frames := 8, cells := 3, slots := 54, locals := 10300 }
set_option maxHeartbeats 4000000 in
set_option maxRecDepth 100000 in
theorem k_X0_sheet_47 {p : Program} {l : Launch} {e : Env} {s : State} {m : MethodId} {args : Array Value} {below : List Frame} {meth : Method} {c : Code} {D : va_G} {dT : Nat → ClassId} {a : Nat → Nat} {A : Nat → Prop} {vs0 : XE} {p1 : Int32} {p2 : Int32} {p3 : Int32} {post : Int32 → XS → Prop} (hC : wCx RX0 cX0_sheet 5 (some .int) D dT p s m args meth c) (hA : wAz A s) (hfl : l.stackTraces = false) (htb : c.exceptionTable.toList = tableOf [(23, 46, 47, 328)]) (X : XS) (y0 : Nat) {vs : XE} {H : Heap} {locs : List Loc} {ls : Array Slot} {cells slots : Nat} (hS : StX D dT a A s vs0 X vs H locs) (hl : lv_has ls 5 [(0, .ref (a 0))]) (hc : cells + 0 ≤ 3 ∧ slots + 0 ≤ 54) (hw : w_X0_sheet_47 p1 p2 p3 post X y0) : W p l e rmX0_sheet s m args below meth c H locs cells slots (MQ below (va_Qi (fun r u9 => post r u9.1) (wB D (XW dT a) (XI vs0) A) A) args s 3 54 A) (F0 m 47 ls [.ref y0]) := by
  have hx := hC.1
  have hb := hC.2.1
  have hown := hC.2.2.2.1
  have hts := hC.2.2.2.2.1
  unfold w_X0_sheet_47 at hw
  obtain ⟨hc1, hc2⟩ := hc
  refine lv_astore (lv' := [(4, .ref y0), (0, .ref (a 0))]) hx hb dX0_sheet_47 hl (by decide) rfl (fun ls hl => ?_)
  refine lv_aload_n hx hb dX0_sheet_49 rfl (lv_at hl 1 rfl) ?_
  refine lv_iconst (v := 5) hx hb dX0_sheet_50 (by decide) ?_
  refine inv_q292 hC hA hS hl.1 hw ⟨Nat.le_of_ble_eq_true rfl, Nat.le_of_ble_eq_true rfl⟩ (Nat.le_of_ble_eq_true rfl) ⟨(by show _ ≤ 3; omega), (by show _ ≤ 54; omega)⟩ dX0_sheet_51 (fun r1 X2 vs H locs hw hv9 hS => ?_)
  exact wReti hC hS hw (by omega) (by omega) dX0_sheet_54
set_option maxHeartbeats 4000000 in
set_option maxRecDepth 100000 in
theorem k_X0_sheet_0 {p : Program} {l : Launch} {e : Env} {s : State} {m : MethodId} {args : Array Value} {below : List Frame} {meth : Method} {c : Code} {D : va_G} {dT : Nat → ClassId} {a : Nat → Nat} {A : Nat → Prop} {vs0 : XE} {p1 : Int32} {p2 : Int32} {p3 : Int32} {post : Int32 → XS → Prop} (hC : wCx RX0 cX0_sheet 5 (some .int) D dT p s m args meth c) (hA : wAz A s) (hfl : l.stackTraces = false) (htb : c.exceptionTable.toList = tableOf [(23, 46, 47, 328)]) (X : XS) {vs : XE} {H : Heap} {locs : List Loc} {ls : Array Slot} {cells slots : Nat} (hS : StX D dT a A s vs0 X vs H locs) (hl : lv_has ls 5 [(0, .ref (a 0)), (1, .int p1), (2, .int p2), (3, .int p3)]) (hc : cells + 3 ≤ 3 ∧ slots + 54 ≤ 54) (hw : w_X0_sheet p1 p2 p3 post X) : W p l e rmX0_sheet s m args below meth c H locs cells slots (MQ below (va_Qi (fun r u9 => post r u9.1) (wB D (XW dT a) (XI vs0) A) A) args s 3 54 A) (F0 m 0 ls []) := by
  have hx := hC.1
  have hb := hC.2.1
  have hown := hC.2.2.2.1
  have hts := hC.2.2.2.2.1
  unfold w_X0_sheet at hw
  obtain ⟨hc1, hc2⟩ := hc
  refine lv_iload_n hx hb dX0_sheet_0 rfl (lv_at hl 1 rfl) ?_
  refine inv_q289 hC hS hl.1 hw ⟨Nat.le_of_ble_eq_true rfl, Nat.le_of_ble_eq_true rfl⟩ (Nat.le_of_ble_eq_true rfl) ⟨(by show _ ≤ 3; omega), (by show _ ≤ 54; omega)⟩ dX0_sheet_1 (fun r1 H locs hw hS => ?_)
  refine lv_if_eq (tgt := 20) hx hb dX0_sheet_4 (by decide) (fun c2 => ?_) (fun c2 => ?_)
  · have hw := hw.1 c2
    refine lv_bipush (v := (-2)) hx hb dX0_sheet_20 (by decide) ?_
    exact wReti hC hS hw (by omega) (by omega) dX0_sheet_22
  · have hw := hw.2 c2
    refine lv_iload_n hx hb dX0_sheet_7 rfl (lv_at hl 2 rfl) ?_
    refine inv_q267 hC hS hl.1 hw ⟨Nat.le_of_ble_eq_true rfl, Nat.le_of_ble_eq_true rfl⟩ (Nat.le_of_ble_eq_true rfl) ⟨(by show _ ≤ 3; omega), (by show _ ≤ 54; omega)⟩ dX0_sheet_8 (fun r3 H locs hw hS => ?_)
    refine lv_if_eq (tgt := 20) hx hb dX0_sheet_11 (by decide) (fun c4 => ?_) (fun c4 => ?_)
    · have hw := hw.1 c4
      refine lv_bipush (v := (-2)) hx hb dX0_sheet_20 (by decide) ?_
      exact wReti hC hS hw (by omega) (by omega) dX0_sheet_22
    · have hw := hw.2 c4
      refine lv_iload_n hx hb dX0_sheet_14 rfl (lv_at hl 3 rfl) ?_
      refine lv_bipush (v := 40) hx hb dX0_sheet_15 (by decide) ?_
      refine lv_icmp_le (tgt := 23) hx hb dX0_sheet_17 (by decide) (fun c5 => ?_) (fun c5 => ?_)
      · have hw := hw.1 c5
        refine lv_aload_n hx hb dX0_sheet_23 rfl (lv_at hl 0 rfl) ?_
        refine ld_q206 hC hS dX0_sheet_24 ?_
        refine lv_iload_n hx hb dX0_sheet_27 rfl (lv_at hl 1 rfl) ?_
        have hi6 := hw.1
        have hw := hw.2
        refine aa_SA hC hS hi6 dX0_sheet_28 ?_
        refine lv_iload_n hx hb dX0_sheet_29 rfl (lv_at hl 2 rfl) ?_
        refine lv_if_ne (tgt := 39) hx hb dX0_sheet_30 (by decide) (fun c7 => ?_) (fun c7 => ?_)
        · have hw := hw.2 c7
          refine lv_iload_n hx hb dX0_sheet_39 rfl (lv_at hl 3 rfl) ?_
          have hn9 := hw.1
          refine jna_J hC hA hS hn9 hfl hl.1 ⟨Nat.le_of_ble_eq_true rfl, Nat.le_of_ble_eq_true rfl⟩ (Nat.le_of_ble_eq_true rfl) ⟨(by show _ ≤ 3; omega), (by show _ ≤ 54; omega)⟩ dX0_sheet_40 (fun c9 q8 H hS hI_q8 => ?_) (fun c9 q9 ce9 H hS g1 g2 g3 => ?_)
          · have hw := hw.2.1 c9 q8
            refine st_rowr hC hS hI_q8 (vp_lt hi6) dX0_sheet_42 (fun H locs hS => ?_)
            have hw := hw (sX_sr X (upO (X_sr X) p1.toNatClampNeg (some (q8, .inr (p3.toNatClampNeg, fun _ => 0))))) rfl
            generalize sX_sr X (upO (X_sr X) p1.toNatClampNeg (some (q8, .inr (p3.toNatClampNeg, fun _ => 0)))) = X10 at hS hw
            refine lv_iload_n hx hb dX0_sheet_45 rfl (lv_at hl 3 rfl) ?_
            exact wReti hC hS hw (by omega) (by omega) dX0_sheet_46
          · have hw := hw.2.2 c9
            have hw := hw q9
            refine vx_catch (name := "java/lang/NegativeArraySizeException") (E := "java/lang/NegativeArraySizeException") hown [] ⟨23, 46, 47, 328⟩ [] (by rw [htb]; rfl) (fun z hz => absurd hz List.not_mem_nil) (by decide) (by decide) (hts _ q746) (va_Nw.use rfl (hC.2.2.2.2.2.2.2.2.1 _ nw_q766)) g1 g2 g3 ?_
            exact k_X0_sheet_47 hC hA hfl htb _ _ hS (lv_sub hl [0] rfl) ⟨by omega, by omega⟩ hw
        · have hw := hw.1 c7
          refine lv_iload_n hx hb dX0_sheet_33 rfl (lv_at hl 3 rfl) ?_
          have hn9 := hw.1
          refine jna_I hC hA hS hn9 hfl hl.1 ⟨Nat.le_of_ble_eq_true rfl, Nat.le_of_ble_eq_true rfl⟩ (Nat.le_of_ble_eq_true rfl) ⟨(by show _ ≤ 3; omega), (by show _ ≤ 54; omega)⟩ dX0_sheet_34 (fun c12 q11 H hS hI_q11 => ?_) (fun c12 q9 ce9 H hS g1 g2 g3 => ?_)
          · have hw := hw.2.1 c12 q11
            refine lv_goto (tgt := 42) hx hb dX0_sheet_36 (by decide) ?_
            refine st_rowr hC hS hI_q11 (vp_lt hi6) dX0_sheet_42 (fun H locs hS => ?_)
            have hw := hw (sX_sr X (upO (X_sr X) p1.toNatClampNeg (some (q11, .inl (p3.toNatClampNeg, fun _ => 0))))) rfl
            generalize sX_sr X (upO (X_sr X) p1.toNatClampNeg (some (q11, .inl (p3.toNatClampNeg, fun _ => 0)))) = X13 at hS hw
            refine lv_iload_n hx hb dX0_sheet_45 rfl (lv_at hl 3 rfl) ?_
            exact wReti hC hS hw (by omega) (by omega) dX0_sheet_46
          · have hw := hw.2.2 c12
            have hw := hw q9
            refine vx_catch (name := "java/lang/NegativeArraySizeException") (E := "java/lang/NegativeArraySizeException") hown [] ⟨23, 46, 47, 328⟩ [] (by rw [htb]; rfl) (fun z hz => absurd hz List.not_mem_nil) (by decide) (by decide) (hts _ q746) (va_Nw.use rfl (hC.2.2.2.2.2.2.2.2.1 _ nw_q766)) g1 g2 g3 ?_
            exact k_X0_sheet_47 hC hA hfl htb _ _ hS (lv_sub hl [0] rfl) ⟨by omega, by omega⟩ hw
      · have hw := hw.2 c5
        refine lv_bipush (v := (-2)) hx hb dX0_sheet_20 (by decide) ?_
        exact wReti hC hS hw (by omega) (by omega) dX0_sheet_22
abbrev v_X0_sheet (X : XS) (p1 : Int32) (p2 : Int32) (p3 : Int32) (post : Int32 → XS → Prop) : Prop := w_X0_sheet p1 p2 p3 post X
set_option maxHeartbeats 4000000 in
set_option maxRecDepth 100000 in
theorem met_X0_sheet (l : Launch) (hfl : l.stackTraces = false) (D : va_G) (dT : Nat → ClassId) (a : Nat → Nat) (sz : Nat) (X : XS) (vs0 : XE) (p1 : Int32) (p2 : Int32) (p3 : Int32) (post : Int32 → XS → Prop) (hw : v_X0_sheet X p1 p2 p3 post) : Met l yX0_sheet (wsW_ yX0_sheet cX0_sheet 5 (some .int) [(23, 46, 47, 328)]) rmX0_sheet (wPc D dT (XW dT a) (XI vs0) sz (X, vs0) [.ref (a 0), .int p1, .int p2, .int p3]) (va_Qi (fun r u9 => post r u9.1) (wB D (XW dT a) (XI vs0) (va_A ((XW dT a) (X, vs0)) sz)) (va_A ((XW dT a) (X, vs0)) sz)) 3 54 (va_A ((XW dT a) (X, vs0)) sz) :=
  wEntH (Q := fun A => (va_Qi (fun r u9 => post r u9.1) (wB D (XW dT a) (XI vs0) A) A)) (by decide) (Nat.le_of_ble_eq_true rfl) (fun p e s m below meth c A ls hC htb hA hS hl => k_X0_sheet_0 hC hA hfl htb _ hS hl ⟨by omega, by omega⟩ hw) sz
theorem hd_X0_sheet : yX0_sheet.cls ≠ "java/lang/invoke/MethodHandle" ∧ yX0_sheet.cls ≠ "java/lang/invoke/VarHandle" ∧ (parseMethodDescriptor yX0_sheet.desc).map (fun d => d.parameters.length) = some 3 := by decide +kernel
/-! LeastFrames.put -/
def w_X0_put (p1 : Int32) (p2 : Int32) (p3 : Int32) (p4 : Int32) (post : Int32 → XS → Prop) (X : XS) : Prop :=
  v_X0_isSheet p1 (fun r1 => (r1 = (0 : Int32) → (post ((-2) : Int32) X)) ∧ (¬ r1 = (0 : Int32) → (v_X0_isTwo p2 (fun r3 => (r3 = (0 : Int32) → (post ((-2) : Int32) X)) ∧ (¬ r3 = (0 : Int32) → (vp_in p1 4 ∧ ((X_sr X p1.toNatClampNeg = none → (v_X0_finds X (1 : Int32) (fun r7 X8 => post r7 X8))) ∧ (∀ r6, X_sr X p1.toNatClampNeg = some r6 → (vp_in p1 4 ∧ (v_X3_lay X p1.toNatClampNeg p2 p3 p4 (fun X10 => post (1 : Int32) X10) (fun x11 X10 => (x11 = 0 → (∀ q9 : Nat, (v_X0_finds X10 (3 : Int32) (fun r12 X13 => post r12 X13)))) ∧ (x11 = 1 → (∀ q9 : Nat, (v_X0_finds X10 (2 : Int32) (fun r14 X15 => post r14 X15)))) ∧ (x11 = 2 → (∀ q9 : Nat, (v_X0_finds X10 (6 : Int32) (fun r16 X17 => post r16 X17)))))))))))))))
abbrev rmX0_put : Room := { frames := 10, cells := 7, slots := 638, locals := 10324 }
set_option maxHeartbeats 4000000 in
set_option maxRecDepth 100000 in
theorem k_X0_put_0 {p : Program} {l : Launch} {e : Env} {s : State} {m : MethodId} {args : Array Value} {below : List Frame} {meth : Method} {c : Code} {D : va_G} {dT : Nat → ClassId} {a : Nat → Nat} {A : Nat → Prop} {vs0 : XE} {p1 : Int32} {p2 : Int32} {p3 : Int32} {p4 : Int32} {post : Int32 → XS → Prop} (hC : wCx RX0 cX0_put 6 (some .int) D dT p s m args meth c) (hA : wAz A s) (hfl : l.stackTraces = false) (htb : c.exceptionTable.toList = tableOf [(35, 49, 50, 334), (35, 49, 58, 336), (35, 49, 66, 338)]) (X : XS) {vs : XE} {H : Heap} {locs : List Loc} {ls : Array Slot} {cells slots : Nat} (hS : StX D dT a A s vs0 X vs H locs) (hl : lv_has ls 6 [(0, .ref (a 0)), (1, .int p1), (2, .int p2), (3, .int p3), (4, .int p4)]) (hc : cells + 7 ≤ 7 ∧ slots + 638 ≤ 638) (hw : w_X0_put p1 p2 p3 p4 post X) : W p l e rmX0_put s m args below meth c H locs cells slots (MQ below (va_Qi (fun r u9 => post r u9.1) (wB D (XW dT a) (XI vs0) A) A) args s 7 638 A) (F0 m 0 ls []) := by
  have hx := hC.1
  have hb := hC.2.1
  have hown := hC.2.2.2.1
  have hts := hC.2.2.2.2.1
  unfold w_X0_put at hw
  obtain ⟨hc1, hc2⟩ := hc
  refine lv_iload_n hx hb dX0_put_0 rfl (lv_at hl 1 rfl) ?_
  refine inv_q289 hC hS hl.1 hw ⟨Nat.le_of_ble_eq_true rfl, Nat.le_of_ble_eq_true rfl⟩ (Nat.le_of_ble_eq_true rfl) ⟨(by show _ ≤ 7; omega), (by show _ ≤ 638; omega)⟩ dX0_put_1 (fun r1 H locs hw hS => ?_)
  refine lv_if_eq (tgt := 14) hx hb dX0_put_4 (by decide) (fun c2 => ?_) (fun c2 => ?_)
  · have hw := hw.1 c2
    refine lv_bipush (v := (-2)) hx hb dX0_put_14 (by decide) ?_
    exact wReti hC hS hw (by omega) (by omega) dX0_put_16
  · have hw := hw.2 c2
    refine lv_iload_n hx hb dX0_put_7 rfl (lv_at hl 2 rfl) ?_
    refine inv_q267 hC hS hl.1 hw ⟨Nat.le_of_ble_eq_true rfl, Nat.le_of_ble_eq_true rfl⟩ (Nat.le_of_ble_eq_true rfl) ⟨(by show _ ≤ 7; omega), (by show _ ≤ 638; omega)⟩ dX0_put_8 (fun r3 H locs hw hS => ?_)
    refine lv_if_ne (tgt := 17) hx hb dX0_put_11 (by decide) (fun c4 => ?_) (fun c4 => ?_)
    · have hw := hw.2 c4
      refine lv_aload_n hx hb dX0_put_17 rfl (lv_at hl 0 rfl) ?_
      refine ld_q206 hC hS dX0_put_18 ?_
      refine lv_iload_n hx hb dX0_put_21 rfl (lv_at hl 1 rfl) ?_
      have hi5 := hw.1
      have hw := hw.2
      refine aa_SA hC hS hi5 dX0_put_22 ?_
      refine ld_q188 hC hS (vp_lt hi5) dX0_put_23 ?_
      refine opt_nn (tgt := 35) hx hb dX0_put_26 (by decide) (fun hr6 => ?_) (fun r6 hr6 => ?_)
      · have hw := hw.1 hr6
        refine lv_aload_n hx hb dX0_put_29 rfl (lv_at hl 0 rfl) ?_
        refine lv_iconst (v := 1) hx hb dX0_put_30 (by decide) ?_
        refine inv_q292 hC hA hS hl.1 hw ⟨Nat.le_of_ble_eq_true rfl, Nat.le_of_ble_eq_true rfl⟩ (Nat.le_of_ble_eq_true rfl) ⟨(by show _ ≤ 7; omega), (by show _ ≤ 638; omega)⟩ dX0_put_31 (fun r7 X8 vs H locs hw hv9 hS => ?_)
        exact wReti hC hS hw (by omega) (by omega) dX0_put_34
      · have hw := hw.2 _ hr6
        refine lv_aload_n hx hb dX0_put_35 rfl (lv_at hl 0 rfl) ?_
        refine ld_q206 hC hS dX0_put_36 ?_
        refine lv_iload_n hx hb dX0_put_39 rfl (lv_at hl 1 rfl) ?_
        have hi9 := hw.1
        have hw := hw.2
        refine aa_SA hC hS hi9 dX0_put_40 ?_
        refine lv_iload_n hx hb dX0_put_41 rfl (lv_at hl 2 rfl) ?_
        refine lv_iload_n hx hb dX0_put_42 rfl (lv_at hl 3 rfl) ?_
        refine lv_iload hx hb dX0_put_43 (lv_at hl 4 rfl) ?_
        refine invJ_q831 hC hA hfl hS (vp_lt hi9) hl.1 hw ⟨Nat.le_of_ble_eq_true rfl, Nat.le_of_ble_eq_true rfl⟩ (Nat.le_of_ble_eq_true rfl) ⟨(by show _ ≤ 7; omega), (by show _ ≤ 638; omega)⟩ dX0_put_45 (fun x11 X10 vs H locs q9 ce9 hx3 hw hv9 hS g1 g2 g3 => ?_) (fun X10 vs H locs hw hv9 hS => ?_)
        · simp only [List.mem_cons, List.not_mem_nil, or_false] at hx3
          rcases hx3 with rfl | rfl | rfl
          · have hw := hw.1 rfl
            have hw := hw q9
            refine vx_catch (name := "java/lang/ClassCastException") (E := "java/lang/ClassCastException") hown [] ⟨35, 49, 50, 334⟩ [⟨35, 49, 58, 336⟩, ⟨35, 49, 66, 338⟩] (by rw [htb]; rfl) (fun z hz => absurd hz List.not_mem_nil) (by decide) (by decide) (hts _ q784) (va_Nw.use rfl (hC.2.2.2.2.2.2.2.2.1 _ nw_q796)) g1 g2 g3 ?_
            refine lv_astore (lv' := [(5, .ref q9), (0, .ref (a 0)), (1, .int p1), (2, .int p2), (3, .int p3), (4, .int p4)]) hx hb dX0_put_50 hl (by decide) rfl (fun ls hl => ?_)
            refine lv_aload_n hx hb dX0_put_52 rfl (lv_at hl 1 rfl) ?_
            refine lv_iconst (v := 3) hx hb dX0_put_53 (by decide) ?_
            refine inv_q292 hC hA hS hl.1 hw ⟨Nat.le_of_ble_eq_true rfl, Nat.le_of_ble_eq_true rfl⟩ (Nat.le_of_ble_eq_true rfl) ⟨(by show _ ≤ 7; omega), (by show _ ≤ 638; omega)⟩ dX0_put_54 (fun r12 X13 vs H locs hw hv9 hS => ?_)
            exact wReti hC hS hw (by omega) (by omega) dX0_put_57
          · have hw := hw.2.1 rfl
            have hw := hw q9
            refine vx_catch (name := "java/lang/ArrayIndexOutOfBoundsException") (E := "java/lang/ArrayIndexOutOfBoundsException") hown [⟨35, 49, 50, 334⟩] ⟨35, 49, 58, 336⟩ [⟨35, 49, 66, 338⟩] (by rw [htb]; rfl) (fun z hz => by cases List.mem_singleton.mp hz; exact Or.inr ⟨by decide, _, hts _ q784, hC.2.2.2.2.2.2.2.2.2.2.2 _ nc_3⟩) (by decide) (by decide) (hts _ q798) (va_Nw.use rfl (hC.2.2.2.2.2.2.2.2.1 _ nw_q813)) g1 g2 g3 ?_
            refine lv_astore (lv' := [(5, .ref q9), (0, .ref (a 0)), (1, .int p1), (2, .int p2), (3, .int p3), (4, .int p4)]) hx hb dX0_put_58 hl (by decide) rfl (fun ls hl => ?_)
            refine lv_aload_n hx hb dX0_put_60 rfl (lv_at hl 1 rfl) ?_
            refine lv_iconst (v := 2) hx hb dX0_put_61 (by decide) ?_
            refine inv_q292 hC hA hS hl.1 hw ⟨Nat.le_of_ble_eq_true rfl, Nat.le_of_ble_eq_true rfl⟩ (Nat.le_of_ble_eq_true rfl) ⟨(by show _ ≤ 7; omega), (by show _ ≤ 638; omega)⟩ dX0_put_62 (fun r14 X15 vs H locs hw hv9 hS => ?_)
            exact wReti hC hS hw (by omega) (by omega) dX0_put_65
          · have hw := hw.2.2 rfl
            have hw := hw q9
            refine vx_catch (name := "java/lang/ArithmeticException") (E := "java/lang/ArithmeticException") hown [⟨35, 49, 50, 334⟩, ⟨35, 49, 58, 336⟩] ⟨35, 49, 66, 338⟩ [] (by rw [htb]; rfl) (fun z hz => by
                simp only [List.mem_cons, List.not_mem_nil, or_false] at hz
                rcases hz with rfl | rfl
                · exact Or.inr ⟨by decide, _, hts _ q784, hC.2.2.2.2.2.2.2.2.2.2.2 _ nc_4⟩
                · exact Or.inr ⟨by decide, _, hts _ q798, hC.2.2.2.2.2.2.2.2.2.2.2 _ nc_5⟩) (by decide) (by decide) (hts _ q817) (va_Nw.use rfl (hC.2.2.2.2.2.2.2.2.1 _ nw_q829)) g1 g2 g3 ?_
            refine lv_astore (lv' := [(5, .ref q9), (0, .ref (a 0)), (1, .int p1), (2, .int p2), (3, .int p3), (4, .int p4)]) hx hb dX0_put_66 hl (by decide) rfl (fun ls hl => ?_)
            refine lv_aload_n hx hb dX0_put_68 rfl (lv_at hl 1 rfl) ?_
            refine lv_bipush (v := 6) hx hb dX0_put_69 (by decide) ?_
            refine inv_q292 hC hA hS hl.1 hw ⟨Nat.le_of_ble_eq_true rfl, Nat.le_of_ble_eq_true rfl⟩ (Nat.le_of_ble_eq_true rfl) ⟨(by show _ ≤ 7; omega), (by show _ ≤ 638; omega)⟩ dX0_put_71 (fun r16 X17 vs H locs hw hv9 hS => ?_)
            exact wReti hC hS hw (by omega) (by omega) dX0_put_74
        · refine lv_iconst (v := 1) hx hb dX0_put_48 (by decide) ?_
          exact wReti hC hS hw (by omega) (by omega) dX0_put_49
    · have hw := hw.1 c4
      refine lv_bipush (v := (-2)) hx hb dX0_put_14 (by decide) ?_
      exact wReti hC hS hw (by omega) (by omega) dX0_put_16
abbrev v_X0_put (X : XS) (p1 : Int32) (p2 : Int32) (p3 : Int32) (p4 : Int32) (post : Int32 → XS → Prop) : Prop := w_X0_put p1 p2 p3 p4 post X
set_option maxHeartbeats 4000000 in
set_option maxRecDepth 100000 in
theorem met_X0_put (l : Launch) (hfl : l.stackTraces = false) (D : va_G) (dT : Nat → ClassId) (a : Nat → Nat) (sz : Nat) (X : XS) (vs0 : XE) (p1 : Int32) (p2 : Int32) (p3 : Int32) (p4 : Int32) (post : Int32 → XS → Prop) (hw : v_X0_put X p1 p2 p3 p4 post) : Met l yX0_put (wsW_ yX0_put cX0_put 6 (some .int) [(35, 49, 50, 334), (35, 49, 58, 336), (35, 49, 66, 338)]) rmX0_put (wPc D dT (XW dT a) (XI vs0) sz (X, vs0) [.ref (a 0), .int p1, .int p2, .int p3, .int p4]) (va_Qi (fun r u9 => post r u9.1) (wB D (XW dT a) (XI vs0) (va_A ((XW dT a) (X, vs0)) sz)) (va_A ((XW dT a) (X, vs0)) sz)) 7 638 (va_A ((XW dT a) (X, vs0)) sz) :=
  wEntH (Q := fun A => (va_Qi (fun r u9 => post r u9.1) (wB D (XW dT a) (XI vs0) A) A)) (by decide) (Nat.le_of_ble_eq_true rfl) (fun p e s m below meth c A ls hC htb hA hS hl => k_X0_put_0 hC hA hfl htb _ hS hl ⟨by omega, by omega⟩ hw) sz
theorem hd_X0_put : yX0_put.cls ≠ "java/lang/invoke/MethodHandle" ∧ yX0_put.cls ≠ "java/lang/invoke/VarHandle" ∧ (parseMethodDescriptor yX0_put.desc).map (fun d => d.parameters.length) = some 4 := by decide +kernel
/-! LeastFrames.get -/
def w_X0_get (p1 : Int32) (p2 : Int32) (post : Int64 → XS → Prop) (X : XS) : Prop :=
  v_X0_isSheet p1 (fun r1 => (r1 = (0 : Int32) → (v_X0_no ((-2) : Int32) (fun r15 => post r15 X))) ∧ (¬ r1 = (0 : Int32) → (vp_in p1 4 ∧ ((X_sr X p1.toNatClampNeg = none → (v_X0_finds X (1 : Int32) (fun r5 X6 => v_X0_no r5 (fun r7 => post r7 X6)))) ∧ (∀ r4, X_sr X p1.toNatClampNeg = some r4 → (vp_in p1 4 ∧ (v_X3_itemX X p1.toNatClampNeg p2 (fun r9 X10 => post r9 X10) (fun x11 X10 => (x11 = 1 → (∀ q9 : Nat, (v_X0_finds X10 (2 : Int32) (fun r12 X13 => v_X0_no r12 (fun r14 => post r14 X13)))))))))))))
abbrev rmX0_get : Room := { frames := 9, cells := 3, slots := 222, locals := 10323 }
set_option maxHeartbeats 4000000 in
set_option maxRecDepth 100000 in
theorem k_X0_get_0 {p : Program} {l : Launch} {e : Env} {s : State} {m : MethodId} {args : Array Value} {below : List Frame} {meth : Method} {c : Code} {D : va_G} {dT : Nat → ClassId} {a : Nat → Nat} {A : Nat → Prop} {vs0 : XE} {p1 : Int32} {p2 : Int32} {post : Int64 → XS → Prop} (hC : wCx RX0 cX0_get 4 (some .long) D dT p s m args meth c) (hA : wAz A s) (hfl : l.stackTraces = false) (htb : c.exceptionTable.toList = tableOf [(34, 44, 45, 336)]) (X : XS) {vs : XE} {H : Heap} {locs : List Loc} {ls : Array Slot} {cells slots : Nat} (hS : StX D dT a A s vs0 X vs H locs) (hl : lv_has ls 4 [(0, .ref (a 0)), (1, .int p1), (2, .int p2)]) (hc : cells + 3 ≤ 3 ∧ slots + 222 ≤ 222) (hw : w_X0_get p1 p2 post X) : W p l e rmX0_get s m args below meth c H locs cells slots (MQ below (va_Ql (fun r u9 => post r u9.1) (wB D (XW dT a) (XI vs0) A) A) args s 3 222 A) (F0 m 0 ls []) := by
  have hx := hC.1
  have hb := hC.2.1
  have hown := hC.2.2.2.1
  have hts := hC.2.2.2.2.1
  unfold w_X0_get at hw
  obtain ⟨hc1, hc2⟩ := hc
  refine lv_iload_n hx hb dX0_get_0 rfl (lv_at hl 1 rfl) ?_
  refine inv_q289 hC hS hl.1 hw ⟨Nat.le_of_ble_eq_true rfl, Nat.le_of_ble_eq_true rfl⟩ (Nat.le_of_ble_eq_true rfl) ⟨(by show _ ≤ 3; omega), (by show _ ≤ 222; omega)⟩ dX0_get_1 (fun r1 H locs hw hS => ?_)
  refine lv_if_ne (tgt := 13) hx hb dX0_get_4 (by decide) (fun c2 => ?_) (fun c2 => ?_)
  · have hw := hw.2 c2
    refine lv_aload_n hx hb dX0_get_13 rfl (lv_at hl 0 rfl) ?_
    refine ld_q206 hC hS dX0_get_14 ?_
    refine lv_iload_n hx hb dX0_get_17 rfl (lv_at hl 1 rfl) ?_
    have hi3 := hw.1
    have hw := hw.2
    refine aa_SA hC hS hi3 dX0_get_18 ?_
    refine ld_q188 hC hS (vp_lt hi3) dX0_get_19 ?_
    refine opt_nn (tgt := 34) hx hb dX0_get_22 (by decide) (fun hr4 => ?_) (fun r4 hr4 => ?_)
    · have hw := hw.1 hr4
      refine lv_aload_n hx hb dX0_get_25 rfl (lv_at hl 0 rfl) ?_
      refine lv_iconst (v := 1) hx hb dX0_get_26 (by decide) ?_
      refine inv_q292 hC hA hS hl.1 hw ⟨Nat.le_of_ble_eq_true rfl, Nat.le_of_ble_eq_true rfl⟩ (Nat.le_of_ble_eq_true rfl) ⟨(by show _ ≤ 3; omega), (by show _ ≤ 222; omega)⟩ dX0_get_27 (fun r5 X6 vs H locs hw hv9 hS => ?_)
      refine inv_q348 hC hS hl.1 hw ⟨Nat.le_of_ble_eq_true rfl, Nat.le_of_ble_eq_true rfl⟩ (Nat.le_of_ble_eq_true rfl) ⟨(by show _ ≤ 3; omega), (by show _ ≤ 222; omega)⟩ dX0_get_30 (fun r7 H locs hw hS => ?_)
      exact wRetl hC hS hw (by omega) (by omega) dX0_get_33
    · have hw := hw.2 _ hr4
      refine lv_aload_n hx hb dX0_get_34 rfl (lv_at hl 0 rfl) ?_
      refine ld_q206 hC hS dX0_get_35 ?_
      refine lv_iload_n hx hb dX0_get_38 rfl (lv_at hl 1 rfl) ?_
      have hi8 := hw.1
      have hw := hw.2
      refine aa_SA hC hS hi8 dX0_get_39 ?_
      refine lv_iload_n hx hb dX0_get_40 rfl (lv_at hl 2 rfl) ?_
      refine invJ_q302 hC hA hfl hS (vp_lt hi8) hl.1 hw ⟨Nat.le_of_ble_eq_true rfl, Nat.le_of_ble_eq_true rfl⟩ (Nat.le_of_ble_eq_true rfl) ⟨(by show _ ≤ 3; omega), (by show _ ≤ 222; omega)⟩ dX0_get_41 (fun x11 X10 vs H locs q9 ce9 hx3 hw hv9 hS g1 g2 g3 => ?_) (fun r9 X10 vs H locs hw hv9 hS => ?_)
      · simp only [List.mem_cons, List.not_mem_nil, or_false] at hx3
        subst hx3
        have hw := hw rfl
        have hw := hw q9
        refine vx_catch (name := "java/lang/ArrayIndexOutOfBoundsException") (E := "java/lang/ArrayIndexOutOfBoundsException") hown [] ⟨34, 44, 45, 336⟩ [] (by rw [htb]; rfl) (fun z hz => absurd hz List.not_mem_nil) (by decide) (by decide) (hts _ q798) (va_Nw.use rfl (hC.2.2.2.2.2.2.2.2.1 _ nw_q813)) g1 g2 g3 ?_
        refine lv_astore_n (lv' := [(3, .ref q9), (0, .ref (a 0)), (1, .int p1), (2, .int p2)]) hx hb dX0_get_45 rfl hl (by decide) rfl (fun ls hl => ?_)
        refine lv_aload_n hx hb dX0_get_46 rfl (lv_at hl 1 rfl) ?_
        refine lv_iconst (v := 2) hx hb dX0_get_47 (by decide) ?_
        refine inv_q292 hC hA hS hl.1 hw ⟨Nat.le_of_ble_eq_true rfl, Nat.le_of_ble_eq_true rfl⟩ (Nat.le_of_ble_eq_true rfl) ⟨(by show _ ≤ 3; omega), (by show _ ≤ 222; omega)⟩ dX0_get_48 (fun r12 X13 vs H locs hw hv9 hS => ?_)
        refine inv_q348 hC hS hl.1 hw ⟨Nat.le_of_ble_eq_true rfl, Nat.le_of_ble_eq_true rfl⟩ (Nat.le_of_ble_eq_true rfl) ⟨(by show _ ≤ 3; omega), (by show _ ≤ 222; omega)⟩ dX0_get_51 (fun r14 H locs hw hS => ?_)
        exact wRetl hC hS hw (by omega) (by omega) dX0_get_54
      · exact wRetl hC hS hw (by omega) (by omega) dX0_get_44
  · have hw := hw.1 c2
    refine lv_bipush (v := (-2)) hx hb dX0_get_7 (by decide) ?_
    refine inv_q348 hC hS hl.1 hw ⟨Nat.le_of_ble_eq_true rfl, Nat.le_of_ble_eq_true rfl⟩ (Nat.le_of_ble_eq_true rfl) ⟨(by show _ ≤ 3; omega), (by show _ ≤ 222; omega)⟩ dX0_get_9 (fun r15 H locs hw hS => ?_)
    exact wRetl hC hS hw (by omega) (by omega) dX0_get_12
abbrev v_X0_get (X : XS) (p1 : Int32) (p2 : Int32) (post : Int64 → XS → Prop) : Prop := w_X0_get p1 p2 post X
set_option maxHeartbeats 4000000 in
set_option maxRecDepth 100000 in
theorem met_X0_get (l : Launch) (hfl : l.stackTraces = false) (D : va_G) (dT : Nat → ClassId) (a : Nat → Nat) (sz : Nat) (X : XS) (vs0 : XE) (p1 : Int32) (p2 : Int32) (post : Int64 → XS → Prop) (hw : v_X0_get X p1 p2 post) : Met l yX0_get (wsW_ yX0_get cX0_get 4 (some .long) [(34, 44, 45, 336)]) rmX0_get (wPc D dT (XW dT a) (XI vs0) sz (X, vs0) [.ref (a 0), .int p1, .int p2]) (va_Ql (fun r u9 => post r u9.1) (wB D (XW dT a) (XI vs0) (va_A ((XW dT a) (X, vs0)) sz)) (va_A ((XW dT a) (X, vs0)) sz)) 3 222 (va_A ((XW dT a) (X, vs0)) sz) :=
  wEntH (Q := fun A => (va_Ql (fun r u9 => post r u9.1) (wB D (XW dT a) (XI vs0) A) A)) (by decide) (Nat.le_of_ble_eq_true rfl) (fun p e s m below meth c A ls hC htb hA hS hl => k_X0_get_0 hC hA hfl htb _ hS hl ⟨by omega, by omega⟩ hw) sz
theorem hd_X0_get : yX0_get.cls ≠ "java/lang/invoke/MethodHandle" ∧ yX0_get.cls ≠ "java/lang/invoke/VarHandle" ∧ (parseMethodDescriptor yX0_get.desc).map (fun d => d.parameters.length) = some 2 := by decide +kernel
/-! LeastFrames.copy -/
def w_X0_copy (p1 : Int32) (p2 : Int32) (p3 : Int32) (p4 : Int32) (p5 : Int32) (post : Int32 → XS → Prop) (X : XS) : Prop :=
  v_X0_isSheet p1 (fun r1 => (r1 = (0 : Int32) → (post ((-2) : Int32) X)) ∧ (¬ r1 = (0 : Int32) → (v_X0_isSheet p3 (fun r3 => (r3 = (0 : Int32) → (post ((-2) : Int32) X)) ∧ (¬ r3 = (0 : Int32) → (vp_in p1 4 ∧ (vp_in p3 4 ∧ (cpyW X p1.toNatClampNeg p3.toNatClampNeg p2 p4 p5 (fun X7 => post (1 : Int32) X7) (∀ q9 : Nat, (v_X0_finds X (1 : Int32) (fun r8 X9 => post r8 X9))) (∀ q9 : Nat, (v_X0_finds X (4 : Int32) (fun r10 X11 => post r10 X11))) (∀ q9 : Nat, (v_X0_finds X (2 : Int32) (fun r12 X13 => post r12 X13)))))))))))
abbrev rmX0_copy : Room := { frames := 9, cells := 3, slots := 1010, locals := 10300 }
set_option maxHeartbeats 4000000 in
set_option maxRecDepth 100000 in
theorem k_X0_copy_0 {p : Program} {l : Launch} {e : Env} {s : State} {m : MethodId} {args : Array Value} {below : List Frame} {meth : Method} {c : Code} {D : va_G} {dT : Nat → ClassId} {a : Nat → Nat} {A : Nat → Prop} {vs0 : XE} {p1 : Int32} {p2 : Int32} {p3 : Int32} {p4 : Int32} {p5 : Int32} {post : Int32 → XS → Prop} (hC : wCx RX0 cX0_copy 7 (some .int) D dT p s m args meth c) (hA : wAz A s) (hfl : l.stackTraces = false) (htb : c.exceptionTable.toList = tableOf [(17, 44, 45, 346), (17, 44, 53, 348), (17, 44, 61, 350)]) (X : XS) {vs : XE} {H : Heap} {locs : List Loc} {ls : Array Slot} {cells slots : Nat} (hS : StX D dT a A s vs0 X vs H locs) (hl : lv_has ls 7 [(0, .ref (a 0)), (1, .int p1), (2, .int p2), (3, .int p3), (4, .int p4), (5, .int p5)]) (hc : cells + 3 ≤ 3 ∧ slots + 1010 ≤ 1010) (hw : w_X0_copy p1 p2 p3 p4 p5 post X) : W p l e rmX0_copy s m args below meth c H locs cells slots (MQ below (va_Qi (fun r u9 => post r u9.1) (wB D (XW dT a) (XI vs0) A) A) args s 3 1010 A) (F0 m 0 ls []) := by
  have hx := hC.1
  have hb := hC.2.1
  have hown := hC.2.2.2.1
  have hts := hC.2.2.2.2.1
  unfold w_X0_copy at hw
  obtain ⟨hc1, hc2⟩ := hc
  refine lv_iload_n hx hb dX0_copy_0 rfl (lv_at hl 1 rfl) ?_
  refine inv_q289 hC hS hl.1 hw ⟨Nat.le_of_ble_eq_true rfl, Nat.le_of_ble_eq_true rfl⟩ (Nat.le_of_ble_eq_true rfl) ⟨(by show _ ≤ 3; omega), (by show _ ≤ 1010; omega)⟩ dX0_copy_1 (fun r1 H locs hw hS => ?_)
  refine lv_if_eq (tgt := 14) hx hb dX0_copy_4 (by decide) (fun c2 => ?_) (fun c2 => ?_)
  · have hw := hw.1 c2
    refine lv_bipush (v := (-2)) hx hb dX0_copy_14 (by decide) ?_
    exact wReti hC hS hw (by omega) (by omega) dX0_copy_16
  · have hw := hw.2 c2
    refine lv_iload_n hx hb dX0_copy_7 rfl (lv_at hl 3 rfl) ?_
    refine inv_q289 hC hS hl.1 hw ⟨Nat.le_of_ble_eq_true rfl, Nat.le_of_ble_eq_true rfl⟩ (Nat.le_of_ble_eq_true rfl) ⟨(by show _ ≤ 3; omega), (by show _ ≤ 1010; omega)⟩ dX0_copy_8 (fun r3 H locs hw hS => ?_)
    refine lv_if_ne (tgt := 17) hx hb dX0_copy_11 (by decide) (fun c4 => ?_) (fun c4 => ?_)
    · have hw := hw.2 c4
      refine lv_aload_n hx hb dX0_copy_17 rfl (lv_at hl 0 rfl) ?_
      refine ld_q206 hC hS dX0_copy_18 ?_
      refine lv_iload_n hx hb dX0_copy_21 rfl (lv_at hl 1 rfl) ?_
      have hi5 := hw.1
      have hw := hw.2
      refine aa_SA hC hS hi5 dX0_copy_22 ?_
      refine ld_q188 hC hS (vp_lt hi5) dX0_copy_23 ?_
      refine lv_iload_n hx hb dX0_copy_26 rfl (lv_at hl 2 rfl) ?_
      refine lv_aload_n hx hb dX0_copy_27 rfl (lv_at hl 0 rfl) ?_
      refine ld_q206 hC hS dX0_copy_28 ?_
      refine lv_iload_n hx hb dX0_copy_31 rfl (lv_at hl 3 rfl) ?_
      have hi6 := hw.1
      have hw := hw.2
      refine aa_SA hC hS hi6 dX0_copy_32 ?_
      refine ld_q188 hC hS (vp_lt hi6) dX0_copy_33 ?_
      refine lv_iload hx hb dX0_copy_36 (lv_at hl 4 rfl) ?_
      refine lv_iload hx hb dX0_copy_38 (lv_at hl 5 rfl) ?_
      refine jcp hC hA hS (vp_lt hi5) (vp_lt hi6) hw hfl hl.1 ⟨Nat.le_of_ble_eq_true rfl, Nat.le_of_ble_eq_true rfl⟩ (Nat.le_of_ble_eq_true rfl) ⟨(by show _ ≤ 3; omega), (by show _ ≤ 1010; omega)⟩ dX0_copy_40 (fun X7 H locs hw hS => ?_) (fun q9 ce9 H hw hS g1 g2 g3 => ?_) (fun q9 ce9 H hw hS g1 g2 g3 => ?_) (fun q9 ce9 H hw hS g1 g2 g3 => ?_)
      · refine lv_iconst (v := 1) hx hb dX0_copy_43 (by decide) ?_
        exact wReti hC hS hw (by omega) (by omega) dX0_copy_44
      · have hw := hw q9
        refine vx_catch (name := "java/lang/NullPointerException") (E := "java/lang/NullPointerException") hown [] ⟨17, 44, 45, 346⟩ [⟨17, 44, 53, 348⟩, ⟨17, 44, 61, 350⟩] (by rw [htb]; rfl) (fun z hz => absurd hz List.not_mem_nil) (by decide) (by decide) (hts _ q852) (va_Nw.use rfl (hC.2.2.2.2.2.2.2.2.1 _ nw_q871)) g1 g2 g3 ?_
        refine lv_astore (lv' := [(6, .ref q9), (0, .ref (a 0)), (1, .int p1), (2, .int p2), (3, .int p3), (4, .int p4), (5, .int p5)]) hx hb dX0_copy_45 hl (by decide) rfl (fun ls hl => ?_)
        refine lv_aload_n hx hb dX0_copy_47 rfl (lv_at hl 1 rfl) ?_
        refine lv_iconst (v := 1) hx hb dX0_copy_48 (by decide) ?_
        refine inv_q292 hC hA hS hl.1 hw ⟨Nat.le_of_ble_eq_true rfl, Nat.le_of_ble_eq_true rfl⟩ (Nat.le_of_ble_eq_true rfl) ⟨(by show _ ≤ 3; omega), (by show _ ≤ 1010; omega)⟩ dX0_copy_49 (fun r8 X9 vs H locs hw hv9 hS => ?_)
        exact wReti hC hS hw (by omega) (by omega) dX0_copy_52
      · have hw := hw q9
        refine vx_catch (name := "java/lang/ArrayStoreException") (E := "java/lang/ArrayStoreException") hown [⟨17, 44, 45, 346⟩] ⟨17, 44, 53, 348⟩ [⟨17, 44, 61, 350⟩] (by rw [htb]; rfl) (fun z hz => by cases List.mem_singleton.mp hz; exact Or.inr ⟨by decide, _, hts _ q852, hC.2.2.2.2.2.2.2.2.2.2.2 _ nc_6⟩) (by decide) (by decide) (hts _ q874) (va_Nw.use rfl (hC.2.2.2.2.2.2.2.2.1 _ nw_q886)) g1 g2 g3 ?_
        refine lv_astore (lv' := [(6, .ref q9), (0, .ref (a 0)), (1, .int p1), (2, .int p2), (3, .int p3), (4, .int p4), (5, .int p5)]) hx hb dX0_copy_53 hl (by decide) rfl (fun ls hl => ?_)
        refine lv_aload_n hx hb dX0_copy_55 rfl (lv_at hl 1 rfl) ?_
        refine lv_iconst (v := 4) hx hb dX0_copy_56 (by decide) ?_
        refine inv_q292 hC hA hS hl.1 hw ⟨Nat.le_of_ble_eq_true rfl, Nat.le_of_ble_eq_true rfl⟩ (Nat.le_of_ble_eq_true rfl) ⟨(by show _ ≤ 3; omega), (by show _ ≤ 1010; omega)⟩ dX0_copy_57 (fun r10 X11 vs H locs hw hv9 hS => ?_)
        exact wReti hC hS hw (by omega) (by omega) dX0_copy_60
      · have hw := hw q9
        refine vx_catch (name := "java/lang/IndexOutOfBoundsException") (E := "java/lang/ArrayIndexOutOfBoundsException") hown [⟨17, 44, 45, 346⟩, ⟨17, 44, 53, 348⟩] ⟨17, 44, 61, 350⟩ [] (by rw [htb]; rfl) (fun z hz => by
            simp only [List.mem_cons, List.not_mem_nil, or_false] at hz
            rcases hz with rfl | rfl
            · exact Or.inr ⟨by decide, _, hts _ q852, hC.2.2.2.2.2.2.2.2.2.2.2 _ nc_7⟩
            · exact Or.inr ⟨by decide, _, hts _ q874, hC.2.2.2.2.2.2.2.2.2.2.2 _ nc_8⟩) (by decide) (by decide) (hts _ q888) (va_Nw.use rfl (hC.2.2.2.2.2.2.2.2.1 _ nw_q1331)) g1 g2 g3 ?_
        refine lv_astore (lv' := [(6, .ref q9), (0, .ref (a 0)), (1, .int p1), (2, .int p2), (3, .int p3), (4, .int p4), (5, .int p5)]) hx hb dX0_copy_61 hl (by decide) rfl (fun ls hl => ?_)
        refine lv_aload_n hx hb dX0_copy_63 rfl (lv_at hl 1 rfl) ?_
        refine lv_iconst (v := 2) hx hb dX0_copy_64 (by decide) ?_
        refine inv_q292 hC hA hS hl.1 hw ⟨Nat.le_of_ble_eq_true rfl, Nat.le_of_ble_eq_true rfl⟩ (Nat.le_of_ble_eq_true rfl) ⟨(by show _ ≤ 3; omega), (by show _ ≤ 1010; omega)⟩ dX0_copy_65 (fun r12 X13 vs H locs hw hv9 hS => ?_)
        exact wReti hC hS hw (by omega) (by omega) dX0_copy_68
    · have hw := hw.1 c4
      refine lv_bipush (v := (-2)) hx hb dX0_copy_14 (by decide) ?_
      exact wReti hC hS hw (by omega) (by omega) dX0_copy_16
abbrev v_X0_copy (X : XS) (p1 : Int32) (p2 : Int32) (p3 : Int32) (p4 : Int32) (p5 : Int32) (post : Int32 → XS → Prop) : Prop := w_X0_copy p1 p2 p3 p4 p5 post X
set_option maxHeartbeats 4000000 in
set_option maxRecDepth 100000 in
theorem met_X0_copy (l : Launch) (hfl : l.stackTraces = false) (D : va_G) (dT : Nat → ClassId) (a : Nat → Nat) (sz : Nat) (X : XS) (vs0 : XE) (p1 : Int32) (p2 : Int32) (p3 : Int32) (p4 : Int32) (p5 : Int32) (post : Int32 → XS → Prop) (hw : v_X0_copy X p1 p2 p3 p4 p5 post) : Met l yX0_copy (wsW_ yX0_copy cX0_copy 7 (some .int) [(17, 44, 45, 346), (17, 44, 53, 348), (17, 44, 61, 350)]) rmX0_copy (wPc D dT (XW dT a) (XI vs0) sz (X, vs0) [.ref (a 0), .int p1, .int p2, .int p3, .int p4, .int p5]) (va_Qi (fun r u9 => post r u9.1) (wB D (XW dT a) (XI vs0) (va_A ((XW dT a) (X, vs0)) sz)) (va_A ((XW dT a) (X, vs0)) sz)) 3 1010 (va_A ((XW dT a) (X, vs0)) sz) :=
  wEntH (Q := fun A => (va_Qi (fun r u9 => post r u9.1) (wB D (XW dT a) (XI vs0) A) A)) (by decide) (Nat.le_of_ble_eq_true rfl) (fun p e s m below meth c A ls hC htb hA hS hl => k_X0_copy_0 hC hA hfl htb _ hS hl ⟨by omega, by omega⟩ hw) sz
theorem hd_X0_copy : yX0_copy.cls ≠ "java/lang/invoke/MethodHandle" ∧ yX0_copy.cls ≠ "java/lang/invoke/VarHandle" ∧ (parseMethodDescriptor yX0_copy.desc).map (fun d => d.parameters.length) = some 5 := by decide +kernel
