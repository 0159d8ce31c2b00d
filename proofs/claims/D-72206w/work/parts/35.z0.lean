/-! LeastFrames_Program.solves -/
def w_X2_solves_57 (p1 : Int32) (K25 : XS → Int32 → Prop) (post : Int64 → XS → Prop) (postX : Exn → XS → Prop) (X : XS) (x2 : Int32) (y0 : Int32) (y1 : Int32) : Prop :=
  vp_in y1 10 ∧ (∀ X1 : XS, X1 = sX_signs X (upd (X_signs X) y1.toNatClampNeg y0) → (∀ v2 : Int32, v2 = x2 + 1 → (K25 X1 v2)))
def w_X2_solves_84b (p1 : Int32) (K84 : XS → Int64 → Int32 → Prop) (post : Int64 → XS → Prop) (postX : Exn → XS → Prop) (X : XS) (x3 : Int64) (x5 : Int32) : Prop :=
  ((X_high X) ≤ x5 → (post x3 X)) ∧ (¬ (X_high X) ≤ x5 → (vp_in x5 10 ∧ (((X_basis X x5.toNatClampNeg) = ((-1) : Int32) → (∀ v3 : Int32, v3 = x5 + 1 → (K84 X x3 v3))) ∧ (¬ (X_basis X x5.toNatClampNeg) = ((-1) : Int32) → (vp_in x5 10 ∧ (v_X0_quad X (X_basis X x5.toNatClampNeg) (fun r4 => vp_in x5 10 ∧ (v_J2_abs (X_rows X x5.toNatClampNeg (10 : Int32).toNatClampNeg) (fun r6 => ∀ v7 : Int64, v7 = x3 + (r4.toInt64 * r6) → (∀ v8 : Int32, v8 = x5 + 1 → (K84 X v7 v8)))))))))))
def w_X2_solves_84 (p1 : Int32) (post : Int64 → XS → Prop) (postX : Exn → XS → Prop) : Nat → XS → Int64 → Int32 → Prop
  | 0, _, _, _ => False
  | n + 1, X, x3, x5 => w_X2_solves_84b p1 (w_X2_solves_84 p1 post postX n) post postX X x3 x5
def w_X2_solves_66b (p1 : Int32) (K66 : XS → Int32 → Prop) (post : Int64 → XS → Prop) (postX : Exn → XS → Prop) (X : XS) (x2 : Int32) : Prop :=
  (x2 = (0 : Int32) → (∃ n, w_X2_solves_84 p1 post postX n X 0 0)) ∧ (¬ x2 = (0 : Int32) → (v_X2_betters X p1 (fun r2 X3 => K66 X3 r2)))
def w_X2_solves_66 (p1 : Int32) (post : Int64 → XS → Prop) (postX : Exn → XS → Prop) : Nat → XS → Int32 → Prop
  | 0, _, _ => False
  | n + 1, X, x2 => w_X2_solves_66b p1 (w_X2_solves_66 p1 post postX n) post postX X x2
def w_X2_solves_25b (p1 : Int32) (K25 : XS → Int32 → Prop) (post : Int64 → XS → Prop) (postX : Exn → XS → Prop) (X : XS) (x2 : Int32) : Prop :=
  ((X_high X) ≤ x2 → (∃ n, w_X2_solves_66 p1 post postX n X 1)) ∧ (¬ (X_high X) ≤ x2 → (vp_in x2 10 ∧ (((0 : Int64) ≤ (X_rows X x2.toNatClampNeg (10 : Int32).toNatClampNeg) → (w_X2_solves_57 p1 K25 post postX X x2 1 x2)) ∧ (¬ (0 : Int64) ≤ (X_rows X x2.toNatClampNeg (10 : Int32).toNatClampNeg) → (w_X2_solves_57 p1 K25 post postX X x2 (-1) x2)))))
def w_X2_solves_25 (p1 : Int32) (post : Int64 → XS → Prop) (postX : Exn → XS → Prop) : Nat → XS → Int32 → Prop
  | 0, _, _ => False
  | n + 1, X, x2 => w_X2_solves_25b p1 (w_X2_solves_25 p1 post postX n) post postX X x2
def w_X2_solves (p1 : Int32) (post : Int64 → XS → Prop) (postX : Exn → XS → Prop) (X : XS) : Prop :=
  v_X2_clears X p1 (10 : Int32) (fun r1 X2 => (r1 = (0 : Int32) → (∀ q4 : Nat, (v_X2_fault X2 p1 (fun r5 X6 => postX (q4, r5) X6)))) ∧ (¬ r1 = (0 : Int32) → (∃ n, w_X2_solves_25 p1 post postX n X2 0)))
abbrev rmX2_solves : Room := { frames := 7, cells := 1, slots := 7, locals := 160 }
set_option maxHeartbeats 4000000 in
set_option maxRecDepth 100000 in
theorem k_X2_solves_57 {p : Program} {l : Launch} {e : Env} {s : State} {m : MethodId} {args : Array Value} {below : List Frame} {meth : Method} {c : Code} {D : va_G} {dT : Nat → ClassId} {a : Nat → Nat} {A : Nat → Prop} {vs0 : XE} {p1 : Int32} {K25 : XS → Int32 → Prop} {post : Int64 → XS → Prop} {postX : Exn → XS → Prop} (hC : wCx RX2 cX2_solves 6 (some .long) D dT p s m args meth c) (hA : wAz A s) (hfl : l.stackTraces = false) (htb : ∀ z ∈ c.exceptionTable.toList, False) (hK25 : ∀ (X : XS) (x2 : Int32), K25 X x2 → ∀ {vs : XE} {H : Heap} {locs : List Loc} {ls : Array Slot} {cells slots : Nat}, StX D dT a A s vs0 X vs H locs → lv_has ls 6 [(0, .ref (a 22)), (1, .int p1), (2, .int x2)] → cells + 0 ≤ 1 ∧ slots + 0 ≤ 7 → W p l e rmX2_solves s m args below meth c H locs cells slots (vx_MQ below (va_Ql (fun r u9 => post r u9.1) (wB D (XW dT a) (XI vs0) A) A) (XCU D dT a vs0 postX A) args s 1 7 A) (F0 m 25 ls [])) (X : XS) (x2 : Int32) (y0 : Int32) (y1 : Int32) {vs : XE} {H : Heap} {locs : List Loc} {ls : Array Slot} {cells slots : Nat} (hS : StX D dT a A s vs0 X vs H locs) (hl : lv_has ls 6 [(0, .ref (a 22)), (1, .int p1), (2, .int x2)]) (hc : cells + 0 ≤ 1 ∧ slots + 0 ≤ 7) (hw : w_X2_solves_57 p1 K25 post postX X x2 y0 y1) : W p l e rmX2_solves s m args below meth c H locs cells slots (vx_MQ below (va_Ql (fun r u9 => post r u9.1) (wB D (XW dT a) (XI vs0) A) A) (XCU D dT a vs0 postX A) args s 1 7 A) (F0 m 57 ls [.int y0, .int y1, .ref (a 36)]) := by
  have hx := hC.1
  have hb := hC.2.1
  have hown := hC.2.2.2.1
  have hts := hC.2.2.2.2.1
  unfold w_X2_solves_57 at hw
  obtain ⟨hc1, hc2⟩ := hc
  have hi := hw.1
  have hw := hw.2
  refine as_SG hC hS hi dX2_solves_57 (fun H locs hS => ?_)
  have hw := hw (sX_signs X (upd (X_signs X) y1.toNatClampNeg y0)) rfl
  generalize sX_signs X (upd (X_signs X) y1.toNatClampNeg y0) = X1 at hS hw
  obtain ⟨v2, ev2⟩ : ∃ y : Int32, y = x2 + 1 := ⟨_, rfl⟩
  have hw := hw v2 ev2
  refine lv_iinc (v := v2) (lv' := [(2, .int v2), (0, .ref (a 22)), (1, .int p1)]) hx hb dX2_solves_58 hl (k := 2) rfl (by rw [ev2]; rfl) (by decide) rfl (fun ls hl => ?_)
  refine lv_goto (tgt := 25) hx hb dX2_solves_61 (by decide) ?_
  exact hK25 _ _ hw hS (lv_sub hl [1, 2, 0] rfl) ⟨by omega, by omega⟩
set_option maxHeartbeats 4000000 in
set_option maxRecDepth 100000 in
theorem k_X2_solves_84b {p : Program} {l : Launch} {e : Env} {s : State} {m : MethodId} {args : Array Value} {below : List Frame} {meth : Method} {c : Code} {D : va_G} {dT : Nat → ClassId} {a : Nat → Nat} {A : Nat → Prop} {vs0 : XE} {p1 : Int32} {K84 : XS → Int64 → Int32 → Prop} {post : Int64 → XS → Prop} {postX : Exn → XS → Prop} (hC : wCx RX2 cX2_solves 6 (some .long) D dT p s m args meth c) (hA : wAz A s) (hfl : l.stackTraces = false) (htb : ∀ z ∈ c.exceptionTable.toList, False) (hK84 : ∀ (X : XS) (x3 : Int64) (x5 : Int32), K84 X x3 x5 → ∀ {vs : XE} {H : Heap} {locs : List Loc} {ls : Array Slot} {cells slots : Nat}, StX D dT a A s vs0 X vs H locs → lv_has ls 6 [(0, .ref (a 22)), (3, .long x3), (5, .int x5)] → cells + 0 ≤ 1 ∧ slots + 0 ≤ 7 → W p l e rmX2_solves s m args below meth c H locs cells slots (vx_MQ below (va_Ql (fun r u9 => post r u9.1) (wB D (XW dT a) (XI vs0) A) A) (XCU D dT a vs0 postX A) args s 1 7 A) (F0 m 84 ls [])) (X : XS) (x3 : Int64) (x5 : Int32) {vs : XE} {H : Heap} {locs : List Loc} {ls : Array Slot} {cells slots : Nat} (hS : StX D dT a A s vs0 X vs H locs) (hl : lv_has ls 6 [(0, .ref (a 22)), (3, .long x3), (5, .int x5)]) (hc : cells + 0 ≤ 1 ∧ slots + 0 ≤ 7) (hw : w_X2_solves_84b p1 K84 post postX X x3 x5) : W p l e rmX2_solves s m args below meth c H locs cells slots (vx_MQ below (va_Ql (fun r u9 => post r u9.1) (wB D (XW dT a) (XI vs0) A) A) (XCU D dT a vs0 postX A) args s 1 7 A) (F0 m 84 ls []) := by
  have hx := hC.1
  have hb := hC.2.1
  have hown := hC.2.2.2.1
  have hts := hC.2.2.2.2.1
  unfold w_X2_solves_84b at hw
  obtain ⟨hc1, hc2⟩ := hc
  refine lv_iload hx hb dX2_solves_84 (lv_at hl 2 rfl) ?_
  refine lv_aload_n hx hb dX2_solves_86 rfl (lv_at hl 0 rfl) ?_
  refine ld_q159 hC hS dX2_solves_87 ?_
  refine lv_icmp_ge (tgt := 142) hx hb dX2_solves_90 (by decide) (fun c1 => ?_) (fun c1 => ?_)
  · have hw := hw.1 c1
    refine lv_lload_n hx hb dX2_solves_142 rfl (lv_at hl 1 rfl) ?_
    exact vx_ret (wRetl hC hS hw (by omega) (by omega) dX2_solves_143)
  · have hw := hw.2 c1
    refine lv_aload_n hx hb dX2_solves_93 rfl (lv_at hl 0 rfl) ?_
    refine ld_q156 hC hS dX2_solves_94 ?_
    refine lv_iload hx hb dX2_solves_97 (lv_at hl 2 rfl) ?_
    refine al_BA hC hS hw.1 dX2_solves_99 ?_
    have hw := hw.2
    refine lv_iconst (v := (-1)) hx hb dX2_solves_100 (by decide) ?_
    refine lv_icmp_eq (tgt := 136) hx hb dX2_solves_101 (by decide) (fun c2 => ?_) (fun c2 => ?_)
    · have hw := hw.1 c2
      obtain ⟨v3, ev3⟩ : ∃ y : Int32, y = x5 + 1 := ⟨_, rfl⟩
      have hw := hw v3 ev3
      refine lv_iinc (v := v3) (lv' := [(5, .int v3), (0, .ref (a 22)), (3, .long x3)]) hx hb dX2_solves_136 hl (k := 2) rfl (by rw [ev3]; rfl) (by decide) rfl (fun ls hl => ?_)
      refine lv_goto (tgt := 84) hx hb dX2_solves_139 (by decide) ?_
      exact hK84 _ _ _ hw hS (lv_sub hl [1, 2, 0] rfl) ⟨by omega, by omega⟩
    · have hw := hw.2 c2
      refine lv_lload_n hx hb dX2_solves_104 rfl (lv_at hl 1 rfl) ?_
      refine lv_aload_n hx hb dX2_solves_105 rfl (lv_at hl 0 rfl) ?_
      refine ld_q163 hC hS dX2_solves_106 ?_
      refine lv_aload_n hx hb dX2_solves_109 rfl (lv_at hl 0 rfl) ?_
      refine ld_q156 hC hS dX2_solves_110 ?_
      refine lv_iload hx hb dX2_solves_113 (lv_at hl 2 rfl) ?_
      refine al_BA hC hS hw.1 dX2_solves_115 ?_
      have hw := hw.2
      refine inv_q493 hC hA hS hl.1 hw ⟨Nat.le_of_ble_eq_true rfl, Nat.le_of_ble_eq_true rfl⟩ (Nat.le_of_ble_eq_true rfl) ⟨(by show _ ≤ 1; omega), (by show _ ≤ 7; omega)⟩ dX2_solves_116 (fun r4 H locs hw hS => ?_)
      refine lv_i2l hx hb dX2_solves_119 rfl ?_
      refine lv_aload_n hx hb dX2_solves_120 rfl (lv_at hl 0 rfl) ?_
      refine ld_q153 hC hS dX2_solves_121 ?_
      refine lv_iload hx hb dX2_solves_124 (lv_at hl 2 rfl) ?_
      have hi5 := hw.1
      have hw := hw.2
      refine aa_RS hC hS hi5 dX2_solves_126 ?_
      refine lv_bipush (v := 10) hx hb dX2_solves_127 (by decide) ?_
      refine al_ROW hC hS (vp_lt hi5) (by unfold vp_in; decide) dX2_solves_129 ?_
      refine inv_q498 hC hS hl.1 hw ⟨Nat.le_of_ble_eq_true rfl, Nat.le_of_ble_eq_true rfl⟩ (Nat.le_of_ble_eq_true rfl) ⟨(by show _ ≤ 1; omega), (by show _ ≤ 7; omega)⟩ dX2_solves_130 (fun r6 H locs hw hS => ?_)
      refine lv_lmul hx hb dX2_solves_133 ?_
      refine lv_ladd hx hb dX2_solves_134 ?_
      refine lv_topl (fun v7 ev7 => ?_)
      have hw := hw v7 ev7
      refine lv_lstore_n (lv' := [(3, .long v7), (0, .ref (a 22)), (5, .int x5)]) hx hb dX2_solves_135 rfl hl (by decide) rfl (fun ls hl => ?_)
      obtain ⟨v8, ev8⟩ : ∃ y : Int32, y = x5 + 1 := ⟨_, rfl⟩
      have hw := hw v8 ev8
      refine lv_iinc (v := v8) (lv' := [(5, .int v8), (3, .long v7), (0, .ref (a 22))]) hx hb dX2_solves_136 hl (k := 2) rfl (by rw [ev8]; rfl) (by decide) rfl (fun ls hl => ?_)
      refine lv_goto (tgt := 84) hx hb dX2_solves_139 (by decide) ?_
      exact hK84 _ _ _ hw hS (lv_sub hl [2, 1, 0] rfl) ⟨by omega, by omega⟩
set_option maxHeartbeats 4000000 in
set_option maxRecDepth 100000 in
theorem k_X2_solves_84 {p : Program} {l : Launch} {e : Env} {s : State} {m : MethodId} {args : Array Value} {below : List Frame} {meth : Method} {c : Code} {D : va_G} {dT : Nat → ClassId} {a : Nat → Nat} {A : Nat → Prop} {vs0 : XE} {p1 : Int32} {post : Int64 → XS → Prop} {postX : Exn → XS → Prop} (hC : wCx RX2 cX2_solves 6 (some .long) D dT p s m args meth c) (hA : wAz A s) (hfl : l.stackTraces = false) (htb : ∀ z ∈ c.exceptionTable.toList, False) : ∀ (X : XS) (x3 : Int64) (x5 : Int32) (n : Nat), ∀ {vs : XE} {H : Heap} {locs : List Loc} {ls : Array Slot} {cells slots : Nat}, StX D dT a A s vs0 X vs H locs → lv_has ls 6 [(0, .ref (a 22)), (3, .long x3), (5, .int x5)] → cells + 0 ≤ 1 ∧ slots + 0 ≤ 7 → w_X2_solves_84 p1 post postX n X x3 x5 → W p l e rmX2_solves s m args below meth c H locs cells slots (vx_MQ below (va_Ql (fun r u9 => post r u9.1) (wB D (XW dT a) (XI vs0) A) A) (XCU D dT a vs0 postX A) args s 1 7 A) (F0 m 84 ls []) := by
  intro X x3 x5 n
  induction n generalizing X x3 x5 with
  | zero => intro vs H locs ls cells slots  hS hl hc hw; exact hw.elim
  | succ n ih =>
    intro vs H locs ls cells slots  hS hl hc hw
    exact k_X2_solves_84b hC hA hfl htb (fun X x3 x5 hk {vs} {H} {locs} {ls} {cells} {slots}  hS hl hc => ih X x3 x5  hS hl hc hk) X x3 x5  hS hl hc hw
set_option maxHeartbeats 4000000 in
set_option maxRecDepth 100000 in
theorem k_X2_solves_66b {p : Program} {l : Launch} {e : Env} {s : State} {m : MethodId} {args : Array Value} {below : List Frame} {meth : Method} {c : Code} {D : va_G} {dT : Nat → ClassId} {a : Nat → Nat} {A : Nat → Prop} {vs0 : XE} {p1 : Int32} {K66 : XS → Int32 → Prop} {post : Int64 → XS → Prop} {postX : Exn → XS → Prop} (hC : wCx RX2 cX2_solves 6 (some .long) D dT p s m args meth c) (hA : wAz A s) (hfl : l.stackTraces = false) (htb : ∀ z ∈ c.exceptionTable.toList, False) (hK66 : ∀ (X : XS) (x2 : Int32), K66 X x2 → ∀ {vs : XE} {H : Heap} {locs : List Loc} {ls : Array Slot} {cells slots : Nat}, StX D dT a A s vs0 X vs H locs → lv_has ls 6 [(0, .ref (a 22)), (1, .int p1), (2, .int x2)] → cells + 0 ≤ 1 ∧ slots + 0 ≤ 7 → W p l e rmX2_solves s m args below meth c H locs cells slots (vx_MQ below (va_Ql (fun r u9 => post r u9.1) (wB D (XW dT a) (XI vs0) A) A) (XCU D dT a vs0 postX A) args s 1 7 A) (F0 m 66 ls [])) (X : XS) (x2 : Int32) {vs : XE} {H : Heap} {locs : List Loc} {ls : Array Slot} {cells slots : Nat} (hS : StX D dT a A s vs0 X vs H locs) (hl : lv_has ls 6 [(0, .ref (a 22)), (1, .int p1), (2, .int x2)]) (hc : cells + 0 ≤ 1 ∧ slots + 0 ≤ 7) (hw : w_X2_solves_66b p1 K66 post postX X x2) : W p l e rmX2_solves s m args below meth c H locs cells slots (vx_MQ below (va_Ql (fun r u9 => post r u9.1) (wB D (XW dT a) (XI vs0) A) A) (XCU D dT a vs0 postX A) args s 1 7 A) (F0 m 66 ls []) := by
  have hx := hC.1
  have hb := hC.2.1
  have hown := hC.2.2.2.1
  have hts := hC.2.2.2.2.1
  unfold w_X2_solves_66b at hw
  obtain ⟨hc1, hc2⟩ := hc
  refine lv_iload_n hx hb dX2_solves_66 rfl (lv_at hl 2 rfl) ?_
  refine lv_if_eq (tgt := 79) hx hb dX2_solves_67 (by decide) (fun c1 => ?_) (fun c1 => ?_)
  · have hw := hw.1 c1
    refine lv_lconst (v := 0) hx hb dX2_solves_79 (by decide) ?_
    refine lv_lstore_n (lv' := [(3, .long 0), (0, .ref (a 22)), (1, .int p1), (2, .int x2)]) hx hb dX2_solves_80 rfl hl (by decide) rfl (fun ls hl => ?_)
    refine lv_iconst (v := 0) hx hb dX2_solves_81 (by decide) ?_
    refine lv_istore (lv' := [(5, .int 0), (3, .long 0), (0, .ref (a 22)), (1, .int p1), (2, .int x2)]) hx hb dX2_solves_82 hl (by decide) rfl (fun ls hl => ?_)
    obtain ⟨n, hw⟩ := hw
    exact k_X2_solves_84 hC hA hfl htb _ _ _ n hS (lv_sub hl [2, 1, 0] rfl) ⟨by omega, by omega⟩ hw
  · have hw := hw.2 c1
    refine lv_aload_n hx hb dX2_solves_70 rfl (lv_at hl 0 rfl) ?_
    refine lv_iload_n hx hb dX2_solves_71 rfl (lv_at hl 1 rfl) ?_
    refine inv_q481 hC hA hS hl.1 hw ⟨Nat.le_of_ble_eq_true rfl, Nat.le_of_ble_eq_true rfl⟩ (Nat.le_of_ble_eq_true rfl) ⟨(by show _ ≤ 1; omega), (by show _ ≤ 7; omega)⟩ dX2_solves_72 (fun r2 X3 vs H locs hw hv9 hS => ?_)
    refine lv_istore_n (lv' := [(2, .int r2), (0, .ref (a 22)), (1, .int p1)]) hx hb dX2_solves_75 rfl hl (by decide) rfl (fun ls hl => ?_)
    refine lv_goto (tgt := 66) hx hb dX2_solves_76 (by decide) ?_
    exact hK66 _ _ hw hS (lv_sub hl [1, 2, 0] rfl) ⟨by omega, by omega⟩
set_option maxHeartbeats 4000000 in
set_option maxRecDepth 100000 in
theorem k_X2_solves_66 {p : Program} {l : Launch} {e : Env} {s : State} {m : MethodId} {args : Array Value} {below : List Frame} {meth : Method} {c : Code} {D : va_G} {dT : Nat → ClassId} {a : Nat → Nat} {A : Nat → Prop} {vs0 : XE} {p1 : Int32} {post : Int64 → XS → Prop} {postX : Exn → XS → Prop} (hC : wCx RX2 cX2_solves 6 (some .long) D dT p s m args meth c) (hA : wAz A s) (hfl : l.stackTraces = false) (htb : ∀ z ∈ c.exceptionTable.toList, False) : ∀ (X : XS) (x2 : Int32) (n : Nat), ∀ {vs : XE} {H : Heap} {locs : List Loc} {ls : Array Slot} {cells slots : Nat}, StX D dT a A s vs0 X vs H locs → lv_has ls 6 [(0, .ref (a 22)), (1, .int p1), (2, .int x2)] → cells + 0 ≤ 1 ∧ slots + 0 ≤ 7 → w_X2_solves_66 p1 post postX n X x2 → W p l e rmX2_solves s m args below meth c H locs cells slots (vx_MQ below (va_Ql (fun r u9 => post r u9.1) (wB D (XW dT a) (XI vs0) A) A) (XCU D dT a vs0 postX A) args s 1 7 A) (F0 m 66 ls []) := by
  intro X x2 n
  induction n generalizing X x2 with
  | zero => intro vs H locs ls cells slots  hS hl hc hw; exact hw.elim
  | succ n ih =>
    intro vs H locs ls cells slots  hS hl hc hw
    exact k_X2_solves_66b hC hA hfl htb (fun X x2 hk {vs} {H} {locs} {ls} {cells} {slots}  hS hl hc => ih X x2  hS hl hc hk) X x2  hS hl hc hw
set_option maxHeartbeats 4000000 in
set_option maxRecDepth 100000 in
theorem k_X2_solves_25b {p : Program} {l : Launch} {e : Env} {s : State} {m : MethodId} {args : Array Value} {below : List Frame} {meth : Method} {c : Code} {D : va_G} {dT : Nat → ClassId} {a : Nat → Nat} {A : Nat → Prop} {vs0 : XE} {p1 : Int32} {K25 : XS → Int32 → Prop} {post : Int64 → XS → Prop} {postX : Exn → XS → Prop} (hC : wCx RX2 cX2_solves 6 (some .long) D dT p s m args meth c) (hA : wAz A s) (hfl : l.stackTraces = false) (htb : ∀ z ∈ c.exceptionTable.toList, False) (hK25 : ∀ (X : XS) (x2 : Int32), K25 X x2 → ∀ {vs : XE} {H : Heap} {locs : List Loc} {ls : Array Slot} {cells slots : Nat}, StX D dT a A s vs0 X vs H locs → lv_has ls 6 [(0, .ref (a 22)), (1, .int p1), (2, .int x2)] → cells + 0 ≤ 1 ∧ slots + 0 ≤ 7 → W p l e rmX2_solves s m args below meth c H locs cells slots (vx_MQ below (va_Ql (fun r u9 => post r u9.1) (wB D (XW dT a) (XI vs0) A) A) (XCU D dT a vs0 postX A) args s 1 7 A) (F0 m 25 ls [])) (X : XS) (x2 : Int32) {vs : XE} {H : Heap} {locs : List Loc} {ls : Array Slot} {cells slots : Nat} (hS : StX D dT a A s vs0 X vs H locs) (hl : lv_has ls 6 [(0, .ref (a 22)), (1, .int p1), (2, .int x2)]) (hc : cells + 0 ≤ 1 ∧ slots + 0 ≤ 7) (hw : w_X2_solves_25b p1 K25 post postX X x2) : W p l e rmX2_solves s m args below meth c H locs cells slots (vx_MQ below (va_Ql (fun r u9 => post r u9.1) (wB D (XW dT a) (XI vs0) A) A) (XCU D dT a vs0 postX A) args s 1 7 A) (F0 m 25 ls []) := by
  have hx := hC.1
  have hb := hC.2.1
  have hown := hC.2.2.2.1
  have hts := hC.2.2.2.2.1
  unfold w_X2_solves_25b at hw
  obtain ⟨hc1, hc2⟩ := hc
  refine lv_iload_n hx hb dX2_solves_25 rfl (lv_at hl 2 rfl) ?_
  refine lv_aload_n hx hb dX2_solves_26 rfl (lv_at hl 0 rfl) ?_
  refine ld_q159 hC hS dX2_solves_27 ?_
  refine lv_icmp_ge (tgt := 64) hx hb dX2_solves_30 (by decide) (fun c1 => ?_) (fun c1 => ?_)
  · have hw := hw.1 c1
    refine lv_iconst (v := 1) hx hb dX2_solves_64 (by decide) ?_
    refine lv_istore_n (lv' := [(2, .int 1), (0, .ref (a 22)), (1, .int p1)]) hx hb dX2_solves_65 rfl hl (by decide) rfl (fun ls hl => ?_)
    obtain ⟨n, hw⟩ := hw
    exact k_X2_solves_66 hC hA hfl htb _ _ n hS (lv_sub hl [1, 2, 0] rfl) ⟨by omega, by omega⟩ hw
  · have hw := hw.2 c1
    refine lv_aload_n hx hb dX2_solves_33 rfl (lv_at hl 0 rfl) ?_
    refine ld_q158 hC hS dX2_solves_34 ?_
    refine lv_iload_n hx hb dX2_solves_37 rfl (lv_at hl 2 rfl) ?_
    refine lv_aload_n hx hb dX2_solves_38 rfl (lv_at hl 0 rfl) ?_
    refine ld_q153 hC hS dX2_solves_39 ?_
    refine lv_iload_n hx hb dX2_solves_42 rfl (lv_at hl 2 rfl) ?_
    have hi2 := hw.1
    have hw := hw.2
    refine aa_RS hC hS hi2 dX2_solves_43 ?_
    refine lv_bipush (v := 10) hx hb dX2_solves_44 (by decide) ?_
    refine al_ROW hC hS (vp_lt hi2) (by unfold vp_in; decide) dX2_solves_46 ?_
    refine lv_lconst (v := 0) hx hb dX2_solves_47 (by decide) ?_
    refine lc_if_ge (tgt := 56) hx hb dX2_solves_48 dX2_solves_49 (by decide) (fun c3 => ?_) (fun c3 => ?_)
    · have hw := hw.1 c3
      refine lv_iconst (v := 1) hx hb dX2_solves_56 (by decide) ?_
      exact k_X2_solves_57 hC hA hfl htb hK25 _ _ _ _ hS (lv_sub hl [0, 1, 2] rfl) ⟨by omega, by omega⟩ hw
    · have hw := hw.2 c3
      refine lv_iconst (v := (-1)) hx hb dX2_solves_52 (by decide) ?_
      refine lv_goto (tgt := 57) hx hb dX2_solves_53 (by decide) ?_
      exact k_X2_solves_57 hC hA hfl htb hK25 _ _ _ _ hS (lv_sub hl [0, 1, 2] rfl) ⟨by omega, by omega⟩ hw
set_option maxHeartbeats 4000000 in
set_option maxRecDepth 100000 in
theorem k_X2_solves_25 {p : Program} {l : Launch} {e : Env} {s : State} {m : MethodId} {args : Array Value} {below : List Frame} {meth : Method} {c : Code} {D : va_G} {dT : Nat → ClassId} {a : Nat → Nat} {A : Nat → Prop} {vs0 : XE} {p1 : Int32} {post : Int64 → XS → Prop} {postX : Exn → XS → Prop} (hC : wCx RX2 cX2_solves 6 (some .long) D dT p s m args meth c) (hA : wAz A s) (hfl : l.stackTraces = false) (htb : ∀ z ∈ c.exceptionTable.toList, False) : ∀ (X : XS) (x2 : Int32) (n : Nat), ∀ {vs : XE} {H : Heap} {locs : List Loc} {ls : Array Slot} {cells slots : Nat}, StX D dT a A s vs0 X vs H locs → lv_has ls 6 [(0, .ref (a 22)), (1, .int p1), (2, .int x2)] → cells + 0 ≤ 1 ∧ slots + 0 ≤ 7 → w_X2_solves_25 p1 post postX n X x2 → W p l e rmX2_solves s m args below meth c H locs cells slots (vx_MQ below (va_Ql (fun r u9 => post r u9.1) (wB D (XW dT a) (XI vs0) A) A) (XCU D dT a vs0 postX A) args s 1 7 A) (F0 m 25 ls []) := by
  intro X x2 n
  induction n generalizing X x2 with
  | zero => intro vs H locs ls cells slots  hS hl hc hw; exact hw.elim
  | succ n ih =>
    intro vs H locs ls cells slots  hS hl hc hw
    exact k_X2_solves_25b hC hA hfl htb (fun X x2 hk {vs} {H} {locs} {ls} {cells} {slots}  hS hl hc => ih X x2  hS hl hc hk) X x2  hS hl hc hw
set_option maxHeartbeats 4000000 in
set_option maxRecDepth 100000 in
theorem k_X2_solves_0 {p : Program} {l : Launch} {e : Env} {s : State} {m : MethodId} {args : Array Value} {below : List Frame} {meth : Method} {c : Code} {D : va_G} {dT : Nat → ClassId} {a : Nat → Nat} {A : Nat → Prop} {vs0 : XE} {p1 : Int32} {post : Int64 → XS → Prop} {postX : Exn → XS → Prop} (hC : wCx RX2 cX2_solves 6 (some .long) D dT p s m args meth c) (hA : wAz A s) (hfl : l.stackTraces = false) (htb : ∀ z ∈ c.exceptionTable.toList, False) (X : XS) {vs : XE} {H : Heap} {locs : List Loc} {ls : Array Slot} {cells slots : Nat} (hS : StX D dT a A s vs0 X vs H locs) (hl : lv_has ls 6 [(0, .ref (a 22)), (1, .int p1)]) (hc : cells + 1 ≤ 1 ∧ slots + 7 ≤ 7) (hw : w_X2_solves p1 post postX X) : W p l e rmX2_solves s m args below meth c H locs cells slots (vx_MQ below (va_Ql (fun r u9 => post r u9.1) (wB D (XW dT a) (XI vs0) A) A) (XCU D dT a vs0 postX A) args s 1 7 A) (F0 m 0 ls []) := by
  have hx := hC.1
  have hb := hC.2.1
  have hown := hC.2.2.2.1
  have hts := hC.2.2.2.2.1
  unfold w_X2_solves at hw
  obtain ⟨hc1, hc2⟩ := hc
  refine lv_aload_n hx hb dX2_solves_0 rfl (lv_at hl 0 rfl) ?_
  refine lv_iload_n hx hb dX2_solves_1 rfl (lv_at hl 1 rfl) ?_
  refine lv_bipush (v := 10) hx hb dX2_solves_2 (by decide) ?_
  refine inv_q369 hC hA hS hl.1 hw ⟨Nat.le_of_ble_eq_true rfl, Nat.le_of_ble_eq_true rfl⟩ (Nat.le_of_ble_eq_true rfl) ⟨(by show _ ≤ 1; omega), (by show _ ≤ 7; omega)⟩ dX2_solves_4 (fun r1 X2 vs H locs hw hv9 hS => ?_)
  refine lv_if_ne (tgt := 23) hx hb dX2_solves_7 (by decide) (fun c3 => ?_) (fun c3 => ?_)
  · have hw := hw.2 c3
    refine lv_iconst (v := 0) hx hb dX2_solves_23 (by decide) ?_
    refine lv_istore_n (lv' := [(2, .int 0), (0, .ref (a 22)), (1, .int p1)]) hx hb dX2_solves_24 rfl hl (by decide) rfl (fun ls hl => ?_)
    obtain ⟨n, hw⟩ := hw
    exact k_X2_solves_25 hC hA hfl htb _ _ n hS (lv_sub hl [1, 2, 0] rfl) ⟨by omega, by omega⟩ hw
  · have hw := hw.1 c3
    refine nwF_q395 hC hA hS ⟨(by show _ ≤ 1; omega), (by show _ ≤ 7; omega)⟩ dX2_solves_10 (fun q4 H hS hq_q4 => ?_)
    have hw := hw q4
    refine lv_dup hx hb dX2_solves_13 rfl ?_
    refine lv_aload_n hx hb dX2_solves_14 rfl (lv_at hl 0 rfl) ?_
    refine lv_iload_n hx hb dX2_solves_15 rfl (lv_at hl 1 rfl) ?_
    refine invF_q452 hC hA hS hl.1 hw ⟨Nat.le_of_ble_eq_true rfl, Nat.le_of_ble_eq_true rfl⟩ (Nat.le_of_ble_eq_true rfl) ⟨(by show _ ≤ 1; omega), (by show _ ≤ 7; omega)⟩ dX2_solves_16 (fun r5 X6 vs H locs hw hv9 hS hk9 hj9 => ?_)
    have hq_q4 := hq_q4.moved hk9 hj9
    refine mkF_q456 hfl hC hA hS hq_q4 hl.1 ⟨Nat.le_of_ble_eq_true rfl, Nat.le_of_ble_eq_true rfl⟩ (Nat.le_of_ble_eq_true rfl) ⟨(by show _ ≤ 1; omega), (by show _ ≤ 7; omega)⟩ dX2_solves_19 (fun vs H locs hS fx7 hkp hm9 => ?_)
    refine vx_athrow hx hb dX2_solves_22 ?_
    obtain ⟨ce9, g1, g2, g3⟩ := xUnb_cell hC hS fx7
    exact xOutU hC (fun z hz => (htb z hz).elim) hw fx7 hS g1 g2 g3 (by omega) (by omega)
abbrev v_X2_solves (X : XS) (p1 : Int32) (post : Int64 → XS → Prop) (postX : Exn → XS → Prop) : Prop := w_X2_solves p1 post postX X
set_option maxHeartbeats 4000000 in
set_option maxRecDepth 100000 in
theorem met_X2_solves (l : Launch) (hfl : l.stackTraces = false) (D : va_G) (dT : Nat → ClassId) (a : Nat → Nat) (sz : Nat) (X : XS) (vs0 : XE) (p1 : Int32) (post : Int64 → XS → Prop) (postX : Exn → XS → Prop) (hw : v_X2_solves X p1 post postX) : vx_Met l yX2_solves (ws_ yX2_solves cX2_solves 6 (some .long)) rmX2_solves (wPc D dT (XW dT a) (XI vs0) sz (X, vs0) [.ref (a 22), .int p1]) (va_Ql (fun r u9 => post r u9.1) (wB D (XW dT a) (XI vs0) (va_A ((XW dT a) (X, vs0)) sz)) (va_A ((XW dT a) (X, vs0)) sz)) (XCU D dT a vs0 postX (va_A ((XW dT a) (X, vs0)) sz)) 1 7 (va_A ((XW dT a) (X, vs0)) sz) :=
  xEnt (Q := fun A => (va_Ql (fun r u9 => post r u9.1) (wB D (XW dT a) (XI vs0) A) A)) (XC := fun A => (XCU D dT a vs0 postX A)) (by decide) (Nat.le_of_ble_eq_true rfl) (fun p e s m below meth c A ls hC htb hA hS hl => k_X2_solves_0 hC hA hfl htb _ hS hl ⟨by omega, by omega⟩ hw) sz
theorem hd_X2_solves : yX2_solves.cls ≠ "java/lang/invoke/MethodHandle" ∧ yX2_solves.cls ≠ "java/lang/invoke/VarHandle" ∧ (parseMethodDescriptor yX2_solves.desc).map (fun d => d.parameters.length) = some 1 := by decide +kernel
section
variable {p : Program} {l : Launch} {e : Env} {R : Room} {s : State} {m : MethodId} {args : Array Value} {below : List Frame} {meth : Method} {c : Code} {H : Heap} {locs : List Loc} {cells slots : Nat} {Q : State → Prop} {cc : ByteArray} {nL : Nat} {ret : Option FieldType} {pc : Nat} {ls : Array Slot} {rest : List Value}
set_option maxHeartbeats 4000000 in
set_option maxRecDepth 100000 in
theorem inv_q365 {D : va_G} {dT : Nat → ClassId} {a : Nat → Nat} {A : Nat → Prop} {vs0 : XE} {vs : XE} {X : XS} {p1 : Int32} {post : Int64 → XS → Prop} {postX : Exn → XS → Prop} (hC : wCx RX0 cc nL ret D dT p s m args meth c) (hA : wAz A s) (hfl : l.stackTraces = false) (hS : StX D dT a A s vs0 X vs H locs) (hl : ls.size = nL) (hw : v_X2_solves X p1 post postX) (hR : rmX2_solves.frames + 1 ≤ R.frames ∧ 8 + (6 + 11) + rmX2_solves.locals ≤ R.locals) (hrest : (rest.map fun v => v.category).sum ≤ 8) (hf : cells + 1 ≤ R.cells ∧ slots + 7 ≤ R.slots) (hdg : decode cc pc = .ok (.invokevirtual 77, 3)) (kx : ∀ (x : Exn) (X1 : XS) (vs1 : XE) (H1 : Heap) (locs1 : List Loc), postX x X1 → (∀ v ∈ vs, v ∈ vs1) → StX D dT a A s vs0 X1 vs1 H1 locs1 → isUnb x vs1 → vx_W p l e R s m args below meth c H1 locs1 (cells + 1) (slots + 7) Q (F0 m pc ls rest) x.1) (kk : ∀ (r : Int64) (X1 : XS) (vs1 : XE) (H1 : Heap) (locs1 : List Loc), post r X1 → (∀ v ∈ vs, v ∈ vs1) → StX D dT a A s vs0 X1 vs1 H1 locs1 → W p l e R s m args below meth c H1 locs1 (cells + 1) (slots + 7) Q (F0 m (pc + 3) ls (.long r :: rest))) : W p l e R s m args below meth c H locs cells slots Q (F0 m pc ls (.int p1 :: .ref (a 22) :: rest)) := by
  exact xTl hA hS (xRunV (As := [.int p1]) (rest := rest) (mc := 1) (ms := 7) 22 hC (met_X2_solves l hfl D dT a H.size X vs p1 post postX hw) (lw_V q365 q366 q367 q87 q368) ⟨⟨rfl, rfl⟩, hd_X2_solves, hR, hf⟩ XW_22 rfl rfl hA hS.self hl rfl hrest hdg) kx kk
end
/-! LeastFrames.volumeOf -/
def w_X0_volumeOf (p1 : Int32) (post : Vol → XS → Prop) (postX : Exn → XS → Prop) (X : XS) : Prop :=
  v_X2_solves X p1 (fun r1 X2 => ∀ q4 : Nat, (v_X6_init r1 (X_below X2) (fun r5 r6 => post (q4, r5, r6) X2))) (fun x3 X2 => postX x3 X2)
abbrev rmX0_volumeOf : Room := { frames := 8, cells := 2, slots := 9, locals := 185 }
set_option maxHeartbeats 4000000 in
set_option maxRecDepth 100000 in
theorem k_X0_volumeOf_0 {p : Program} {l : Launch} {e : Env} {s : State} {m : MethodId} {args : Array Value} {below : List Frame} {meth : Method} {c : Code} {D : va_G} {dT : Nat → ClassId} {a : Nat → Nat} {A : Nat → Prop} {vs0 : XE} {p1 : Int32} {post : Vol → XS → Prop} {postX : Exn → XS → Prop} (hC : wCx RX0 cX0_volumeOf 4 (some (.object "LeastFrames$Volume")) D dT p s m args meth c) (hA : wAz A s) (hfl : l.stackTraces = false) (htb : ∀ z ∈ c.exceptionTable.toList, False) (X : XS) {vs : XE} {H : Heap} {locs : List Loc} {ls : Array Slot} {cells slots : Nat} (hS : StX D dT a A s vs0 X vs H locs) (hl : lv_has ls 4 [(0, .ref (a 0)), (1, .int p1)]) (hc : cells + 2 ≤ 2 ∧ slots + 9 ≤ 9) (hw : w_X0_volumeOf p1 post postX X) : W p l e rmX0_volumeOf s m args below meth c H locs cells slots (vx_MQ below (va_Qr (fun u9 : (XS × XE) × Vol => post u9.2 u9.1.1) (fun u9 a9 t9 => a9 = u9.2.1 ∧ volC u9.2 ∈ u9.1.2 ∧ wB D (XW dT a) (XI vs0) A u9.1 t9) A) (XCU D dT a vs0 postX A) args s 2 9 A) (F0 m 0 ls []) := by
  have hx := hC.1
  have hb := hC.2.1
  have hown := hC.2.2.2.1
  have hts := hC.2.2.2.2.1
  unfold w_X0_volumeOf at hw
  obtain ⟨hc1, hc2⟩ := hc
  refine lv_aload_n hx hb dX0_volumeOf_0 rfl (lv_at hl 0 rfl) ?_
  refine ld_q198 hC hS dX0_volumeOf_1 ?_
  refine lv_iload_n hx hb dX0_volumeOf_4 rfl (lv_at hl 1 rfl) ?_
  refine inv_q365 hC hA hfl hS hl.1 hw ⟨Nat.le_of_ble_eq_true rfl, Nat.le_of_ble_eq_true rfl⟩ (Nat.le_of_ble_eq_true rfl) ⟨(by show _ ≤ 2; omega), (by show _ ≤ 9; omega)⟩ dX0_volumeOf_5 (fun x3 X2 vs H locs hw hv9 hS f_x3 => ?_) (fun r1 X2 vs H locs hw hv9 hS => ?_)
  · obtain ⟨ce9, g1, g2, g3⟩ := xUnb_cell hC hS f_x3
    exact xOutU hC (fun z hz => (htb z hz).elim) hw f_x3 hS g1 g2 g3 (by omega) (by omega)
  · refine lv_lstore_n (lv' := [(2, .long r1), (0, .ref (a 0)), (1, .int p1)]) hx hb dX0_volumeOf_8 rfl hl (by decide) rfl (fun ls hl => ?_)
    refine nw_new_q501 hC hA hS ⟨(by show _ ≤ 2; omega), (by show _ ≤ 9; omega)⟩ dX0_volumeOf_9 (fun q4 vs H hS hraw_q4 hv9 hf0_q4 hfL_q4 => ?_)
    have hw := hw q4
    refine lv_dup hx hb dX0_volumeOf_12 rfl ?_
    refine lv_lload_n hx hb dX0_volumeOf_13 rfl (lv_at hl 0 rfl) ?_
    refine lv_aload_n hx hb dX0_volumeOf_14 rfl (lv_at hl 1 rfl) ?_
    refine ld_q198 hC hS dX0_volumeOf_15 ?_
    refine ld_q162 hC hS dX0_volumeOf_18 ?_
    refine mk_q503 hC hA hS hraw_q4 hfL_q4 hf0_q4 hl.1 hw ⟨Nat.le_of_ble_eq_true rfl, Nat.le_of_ble_eq_true rfl⟩ (Nat.le_of_ble_eq_true rfl) ⟨(by show _ ≤ 2; omega), (by show _ ≤ 9; omega)⟩ dX0_volumeOf_21 (fun r5 r6 vs H locs hw hS fv7 hkp => ?_)
    exact vx_ret (xRetV hC hS fv7 hw (by omega) (by omega) dX0_volumeOf_24)
abbrev v_X0_volumeOf (X : XS) (p1 : Int32) (post : Vol → XS → Prop) (postX : Exn → XS → Prop) : Prop := w_X0_volumeOf p1 post postX X
set_option maxHeartbeats 4000000 in
set_option maxRecDepth 100000 in
theorem met_X0_volumeOf (l : Launch) (hfl : l.stackTraces = false) (D : va_G) (dT : Nat → ClassId) (a : Nat → Nat) (sz : Nat) (X : XS) (vs0 : XE) (p1 : Int32) (post : Vol → XS → Prop) (postX : Exn → XS → Prop) (hw : v_X0_volumeOf X p1 post postX) : vx_Met l yX0_volumeOf (ws_ yX0_volumeOf cX0_volumeOf 4 (some (.object "LeastFrames$Volume"))) rmX0_volumeOf (wPc D dT (XW dT a) (XI vs0) sz (X, vs0) [.ref (a 0), .int p1]) (va_Qr (fun u9 : (XS × XE) × Vol => post u9.2 u9.1.1) (fun u9 a9 t9 => a9 = u9.2.1 ∧ volC u9.2 ∈ u9.1.2 ∧ wB D (XW dT a) (XI vs0) (va_A ((XW dT a) (X, vs0)) sz) u9.1 t9) (va_A ((XW dT a) (X, vs0)) sz)) (XCU D dT a vs0 postX (va_A ((XW dT a) (X, vs0)) sz)) 2 9 (va_A ((XW dT a) (X, vs0)) sz) :=
  xEnt (Q := fun A => (va_Qr (fun u9 : (XS × XE) × Vol => post u9.2 u9.1.1) (fun u9 a9 t9 => a9 = u9.2.1 ∧ volC u9.2 ∈ u9.1.2 ∧ wB D (XW dT a) (XI vs0) A u9.1 t9) A)) (XC := fun A => (XCU D dT a vs0 postX A)) (by decide) (Nat.le_of_ble_eq_true rfl) (fun p e s m below meth c A ls hC htb hA hS hl => k_X0_volumeOf_0 hC hA hfl htb _ hS hl ⟨by omega, by omega⟩ hw) sz
theorem hd_X0_volumeOf : yX0_volumeOf.cls ≠ "java/lang/invoke/MethodHandle" ∧ yX0_volumeOf.cls ≠ "java/lang/invoke/VarHandle" ∧ (parseMethodDescriptor yX0_volumeOf.desc).map (fun d => d.parameters.length) = some 1 := by decide +kernel
section
variable {p : Program} {l : Launch} {e : Env} {R : Room} {s : State} {m : MethodId} {args : Array Value} {below : List Frame} {meth : Method} {c : Code} {H : Heap} {locs : List Loc} {cells slots : Nat} {Q : State → Prop} {cc : ByteArray} {nL : Nat} {ret : Option FieldType} {pc : Nat} {ls : Array Slot} {rest : List Value}
set_option maxHeartbeats 4000000 in
set_option maxRecDepth 100000 in
theorem inv_q361 {D : va_G} {dT : Nat → ClassId} {a : Nat → Nat} {A : Nat → Prop} {vs0 : XE} {vs : XE} {X : XS} {p1 : Int32} {post : Vol → XS → Prop} {postX : Exn → XS → Prop} (hC : wCx RX0 cc nL ret D dT p s m args meth c) (hA : wAz A s) (hfl : l.stackTraces = false) (hS : StX D dT a A s vs0 X vs H locs) (hl : ls.size = nL) (hw : v_X0_volumeOf X p1 post postX) (hR : rmX0_volumeOf.frames + 1 ≤ R.frames ∧ 8 + (4 + 11) + rmX0_volumeOf.locals ≤ R.locals) (hrest : (rest.map fun v => v.category).sum ≤ 8) (hf : cells + 2 ≤ R.cells ∧ slots + 9 ≤ R.slots) (hdg : decode cc pc = .ok (.invokevirtual 101, 3)) (kx : ∀ (x : Exn) (X1 : XS) (vs1 : XE) (H1 : Heap) (locs1 : List Loc), postX x X1 → (∀ v ∈ vs, v ∈ vs1) → StX D dT a A s vs0 X1 vs1 H1 locs1 → isUnb x vs1 → vx_W p l e R s m args below meth c H1 locs1 (cells + 2) (slots + 9) Q (F0 m pc ls rest) x.1) (kk : ∀ (r : Vol) (X1 : XS) (vs1 : XE) (H1 : Heap) (locs1 : List Loc), post r X1 → (∀ v ∈ vs, v ∈ vs1) → StX D dT a A s vs0 X1 vs1 H1 locs1 → volC r ∈ vs1 → W p l e R s m args below meth c H1 locs1 (cells + 2) (slots + 9) Q (F0 m (pc + 3) ls (.ref r.1 :: rest))) : W p l e R s m args below meth c H locs cells slots Q (F0 m pc ls (.int p1 :: .ref (a 0) :: rest)) := by
  exact xTr hA hS (xRunV (As := [.int p1]) (rest := rest) (mc := 2) (ms := 9) 0 hC (met_X0_volumeOf l hfl D dT a H.size X vs p1 post postX hw) (lw_V q361 q363 qs9 q85 q364) ⟨⟨rfl, rfl⟩, hd_X0_volumeOf, hR, hf⟩ XW_0 rfl rfl hA hS.self hl rfl hrest hdg) kx kk
end
/-! LeastFrames.framed -/
def w_X0_framed_52 (K8 : XS → Int32 → Int32 → Prop) (post : Int32 → XS → Prop) (X : XS) (x1 : Int32) (x2 : Int32) : Prop :=
  ∀ v1 : Int32, v1 = x2 + (-1) → (K8 X x1 v1)
def w_X0_framed_8b (K8 : XS → Int32 → Int32 → Prop) (post : Int32 → XS → Prop) (X : XS) (x1 : Int32) (x2 : Int32) : Prop :=
  (x2 < (0 : Int32) → (post x1 X)) ∧ (¬ x2 < (0 : Int32) → (v_X0_isIn x1 x2 (fun r2 => (r2 = (0 : Int32) → (∀ v13 : Int32, v13 = x2 + (-1) → (K8 X x1 v13))) ∧ (¬ r2 = (0 : Int32) → (∃ v4, X_least X = some v4 ∧ (v_X0_volumeOf X (x1 &&& ((1 <<< (x2 &&& 31)) ^^^ (-1))) (fun r5 X6 => v_X6_isLess X6 v4 r5 (fun r8 => (r8 = (0 : Int32) → (∀ v10 : Int32, v10 = x1 &&& ((1 <<< (x2 &&& 31)) ^^^ (-1)) → (w_X0_framed_52 K8 post X6 v10 x2))) ∧ (¬ r8 = (0 : Int32) → (w_X0_framed_52 K8 post X6 x1 x2)))) (fun x7 X6 => ∀ v11 : Int32, v11 = x1 ||| (1 <<< (x2 &&& 31)) → (∀ v12 : Int32, v12 = x2 + (-1) → (K8 X6 v11 v12)))))))))
def w_X0_framed_8 (post : Int32 → XS → Prop) : Nat → XS → Int32 → Int32 → Prop
  | 0, _, _, _ => False
  | n + 1, X, x1, x2 => w_X0_framed_8b  (w_X0_framed_8 post n) post X x1 x2
def w_X0_framed (post : Int32 → XS → Prop) (X : XS) : Prop :=
  ∀ v1 : Int32, v1 = X_bars X → (∃ n, n ≤ 11 ∧ w_X0_framed_8 post n X v1 9)
abbrev rmX0_framed : Room := { frames := 9, cells := 22, slots := 99, locals := 208 }
set_option maxHeartbeats 4000000 in
set_option maxRecDepth 100000 in
theorem k_X0_framed_52 {p : Program} {l : Launch} {e : Env} {s : State} {m : MethodId} {args : Array Value} {below : List Frame} {meth : Method} {c : Code} {D : va_G} {dT : Nat → ClassId} {a : Nat → Nat} {A : Nat → Prop} {vs0 : XE} {nK : Nat} {K8 : XS → Int32 → Int32 → Prop} {post : Int32 → XS → Prop} (hC : wCx RX0 cX0_framed 4 (some .int) D dT p s m args meth c) (hA : wAz A s) (hfl : l.stackTraces = false) (htb : c.exceptionTable.toList = tableOf [(23, 52, 55, 109)]) (hK8 : ∀ (X : XS) (x1 : Int32) (x2 : Int32), K8 X x1 x2 → ∀ {vs : XE} {H : Heap} {locs : List Loc} {ls : Array Slot} {cells slots : Nat}, StX D dT a A s vs0 X vs H locs → lv_has ls 4 [(0, .ref (a 0)), (1, .int x1), (2, .int x2)] → cells + (nK * 2 + 0) ≤ 22 ∧ slots + (nK * 9 + 0) ≤ 99 → W p l e rmX0_framed s m args below meth c H locs cells slots (MQ below (va_Qi (fun r u9 => post r u9.1) (wB D (XW dT a) (XI vs0) A) A) args s 22 99 A) (F0 m 8 ls [])) (X : XS) (x1 : Int32) (x2 : Int32) {vs : XE} {H : Heap} {locs : List Loc} {ls : Array Slot} {cells slots : Nat} (hS : StX D dT a A s vs0 X vs H locs) (hl : lv_has ls 4 [(0, .ref (a 0)), (1, .int x1), (2, .int x2)]) (hc : cells + (0 + (nK * 2 + 0)) ≤ 22 ∧ slots + (0 + (nK * 9 + 0)) ≤ 99) (hw : w_X0_framed_52 K8 post X x1 x2) : W p l e rmX0_framed s m args below meth c H locs cells slots (MQ below (va_Qi (fun r u9 => post r u9.1) (wB D (XW dT a) (XI vs0) A) A) args s 22 99 A) (F0 m 52 ls []) := by
  have hx := hC.1
  have hb := hC.2.1
  have hown := hC.2.2.2.1
  have hts := hC.2.2.2.2.1
  unfold w_X0_framed_52 at hw
  obtain ⟨hc1, hc2⟩ := hc
  refine lv_goto (tgt := 62) hx hb dX0_framed_52 (by decide) ?_
  obtain ⟨v1, ev1⟩ : ∃ y : Int32, y = x2 + (-1) := ⟨_, rfl⟩
  have hw := hw v1 ev1
  refine lv_iinc (v := v1) (lv' := [(2, .int v1), (0, .ref (a 0)), (1, .int x1)]) hx hb dX0_framed_62 hl (k := 2) rfl (by rw [ev1]; rfl) (by decide) rfl (fun ls hl => ?_)
  refine lv_goto (tgt := 8) hx hb dX0_framed_65 (by decide) ?_
  exact hK8 _ _ _ hw hS (lv_sub hl [1, 2, 0] rfl) ⟨by omega, by omega⟩
set_option maxHeartbeats 4000000 in
set_option maxRecDepth 100000 in
theorem k_X0_framed_8b {p : Program} {l : Launch} {e : Env} {s : State} {m : MethodId} {args : Array Value} {below : List Frame} {meth : Method} {c : Code} {D : va_G} {dT : Nat → ClassId} {a : Nat → Nat} {A : Nat → Prop} {vs0 : XE} {nK : Nat} {K8 : XS → Int32 → Int32 → Prop} {post : Int32 → XS → Prop} (hC : wCx RX0 cX0_framed 4 (some .int) D dT p s m args meth c) (hA : wAz A s) (hfl : l.stackTraces = false) (htb : c.exceptionTable.toList = tableOf [(23, 52, 55, 109)]) (hK8 : ∀ (X : XS) (x1 : Int32) (x2 : Int32), K8 X x1 x2 → ∀ {vs : XE} {H : Heap} {locs : List Loc} {ls : Array Slot} {cells slots : Nat}, StX D dT a A s vs0 X vs H locs → lv_has ls 4 [(0, .ref (a 0)), (1, .int x1), (2, .int x2)] → cells + (nK * 2 + 0) ≤ 22 ∧ slots + (nK * 9 + 0) ≤ 99 → W p l e rmX0_framed s m args below meth c H locs cells slots (MQ below (va_Qi (fun r u9 => post r u9.1) (wB D (XW dT a) (XI vs0) A) A) args s 22 99 A) (F0 m 8 ls [])) (X : XS) (x1 : Int32) (x2 : Int32) {vs : XE} {H : Heap} {locs : List Loc} {ls : Array Slot} {cells slots : Nat} (hS : StX D dT a A s vs0 X vs H locs) (hl : lv_has ls 4 [(0, .ref (a 0)), (1, .int x1), (2, .int x2)]) (hc : cells + (2 + (nK * 2 + 0)) ≤ 22 ∧ slots + (9 + (nK * 9 + 0)) ≤ 99) (hw : w_X0_framed_8b K8 post X x1 x2) : W p l e rmX0_framed s m args below meth c H locs cells slots (MQ below (va_Qi (fun r u9 => post r u9.1) (wB D (XW dT a) (XI vs0) A) A) args s 22 99 A) (F0 m 8 ls []) := by
  have hx := hC.1
  have hb := hC.2.1
  have hown := hC.2.2.2.1
  have hts := hC.2.2.2.2.1
  unfold w_X0_framed_8b at hw
  obtain ⟨hc1, hc2⟩ := hc
  refine lv_iload_n hx hb dX0_framed_8 rfl (lv_at hl 2 rfl) ?_
  refine lv_if_lt (tgt := 68) hx hb dX0_framed_9 (by decide) (fun c1 => ?_) (fun c1 => ?_)
  · have hw := hw.1 c1
    refine lv_iload_n hx hb dX0_framed_68 rfl (lv_at hl 1 rfl) ?_
    exact wReti hC hS hw (by omega) (by omega) dX0_framed_69
  · have hw := hw.2 c1
    refine lv_iload_n hx hb dX0_framed_12 rfl (lv_at hl 1 rfl) ?_
    refine lv_iload_n hx hb dX0_framed_13 rfl (lv_at hl 2 rfl) ?_
    refine inv_q341 hC hS hl.1 hw ⟨Nat.le_of_ble_eq_true rfl, Nat.le_of_ble_eq_true rfl⟩ (Nat.le_of_ble_eq_true rfl) ⟨(by show _ ≤ 22; omega), (by show _ ≤ 99; omega)⟩ dX0_framed_14 (fun r2 H locs hw hS => ?_)
    refine lv_if_ne (tgt := 23) hx hb dX0_framed_17 (by decide) (fun c3 => ?_) (fun c3 => ?_)
    · have hw := hw.2 c3
      refine lv_aload_n hx hb dX0_framed_23 rfl (lv_at hl 0 rfl) ?_
      obtain ⟨v4, hl_v4, hw⟩ := hw
      have f_v4 := hS.2.2.2.1 v4 hl_v4
      refine ld_q200 hC hS dX0_framed_24 ?_
      refine opt_ref hl_v4 ?_
      refine lv_aload_n hx hb dX0_framed_27 rfl (lv_at hl 0 rfl) ?_
      refine lv_iload_n hx hb dX0_framed_28 rfl (lv_at hl 1 rfl) ?_
      refine lv_iconst (v := 1) hx hb dX0_framed_29 (by decide) ?_
      refine lv_iload_n hx hb dX0_framed_30 rfl (lv_at hl 2 rfl) ?_
      refine lv_ishl hx hb dX0_framed_31 ?_
      refine lv_iconst (v := (-1)) hx hb dX0_framed_32 (by decide) ?_
      refine lv_ixor hx hb dX0_framed_33 ?_
      refine lv_iand hx hb dX0_framed_34 ?_
      refine inv_q361 hC hA hfl hS hl.1 hw ⟨Nat.le_of_ble_eq_true rfl, Nat.le_of_ble_eq_true rfl⟩ (Nat.le_of_ble_eq_true rfl) ⟨(by show _ ≤ 22; omega), (by show _ ≤ 99; omega)⟩ dX0_framed_35 (fun x7 X6 vs H locs hw hv9 hS f_x7 => ?_) (fun r5 X6 vs H locs hw hv9 hS f_r5 => ?_)
      · have f_v4 := hv9 _ f_v4
        obtain ⟨ce9, g1, g2, g3⟩ := xUnb_cell hC hS f_x7
        refine vx_catch (name := "LeastFrames$Unborne") (E := "LeastFrames$Unborne") hown [] ⟨23, 52, 55, 109⟩ [] (by rw [htb]; rfl) (fun z hz => absurd hz List.not_mem_nil) (by decide) (by decide) (hts _ q356) (va_Nw.use rfl (hC.2.2.2.2.2.2.2.2.1 _ nw_q397)) g1 g2 g3 ?_
        refine lv_astore_n (lv' := [(3, .ref x7.1), (0, .ref (a 0)), (1, .int x1), (2, .int x2)]) hx hb dX0_framed_55 rfl hl (by decide) rfl (fun ls hl => ?_)
        refine lv_iload_n hx hb dX0_framed_56 rfl (lv_at hl 2 rfl) ?_
        refine lv_iconst (v := 1) hx hb dX0_framed_57 (by decide) ?_
        refine lv_iload_n hx hb dX0_framed_58 rfl (lv_at hl 3 rfl) ?_
        refine lv_ishl hx hb dX0_framed_59 ?_
        refine lv_ior hx hb dX0_framed_60 ?_
        refine lv_topi (fun v11 ev11 => ?_)
        have hw := hw v11 ev11
        refine lv_istore_n (lv' := [(1, .int v11), (3, .ref x7.1), (0, .ref (a 0)), (2, .int x2)]) hx hb dX0_framed_61 rfl hl (by decide) rfl (fun ls hl => ?_)
        obtain ⟨v12, ev12⟩ : ∃ y : Int32, y = x2 + (-1) := ⟨_, rfl⟩
        have hw := hw v12 ev12
        refine lv_iinc (v := v12) (lv' := [(2, .int v12), (1, .int v11), (3, .ref x7.1), (0, .ref (a 0))]) hx hb dX0_framed_62 hl (k := 3) rfl (by rw [ev12]; rfl) (by decide) rfl (fun ls hl => ?_)
        refine lv_goto (tgt := 8) hx hb dX0_framed_65 (by decide) ?_
        exact hK8 _ _ _ hw hS (lv_sub hl [3, 1, 0] rfl) ⟨by omega, by omega⟩
      · have f_v4 := hv9 _ f_v4
        refine inv_q527 hC hA hS f_v4 f_r5 hl.1 hw ⟨Nat.le_of_ble_eq_true rfl, Nat.le_of_ble_eq_true rfl⟩ (Nat.le_of_ble_eq_true rfl) ⟨(by show _ ≤ 22; omega), (by show _ ≤ 99; omega)⟩ dX0_framed_38 (fun r8 H locs hw hS => ?_)
        refine lv_if_ne (tgt := 52) hx hb dX0_framed_41 (by decide) (fun c9 => ?_) (fun c9 => ?_)
        · have hw := hw.2 c9
          exact k_X0_framed_52 hC hA hfl htb hK8 _ _ _ hS (lv_sub hl [0, 1, 2] rfl) ⟨by omega, by omega⟩ hw
        · have hw := hw.1 c9
          refine lv_iload_n hx hb dX0_framed_44 rfl (lv_at hl 1 rfl) ?_
          refine lv_iconst (v := 1) hx hb dX0_framed_45 (by decide) ?_
          refine lv_iload_n hx hb dX0_framed_46 rfl (lv_at hl 2 rfl) ?_
          refine lv_ishl hx hb dX0_framed_47 ?_
          refine lv_iconst (v := (-1)) hx hb dX0_framed_48 (by decide) ?_
          refine lv_ixor hx hb dX0_framed_49 ?_
          refine lv_iand hx hb dX0_framed_50 ?_
          refine lv_topi (fun v10 ev10 => ?_)
          have hw := hw v10 ev10
          refine lv_istore_n (lv' := [(1, .int v10), (0, .ref (a 0)), (2, .int x2)]) hx hb dX0_framed_51 rfl hl (by decide) rfl (fun ls hl => ?_)
          exact k_X0_framed_52 hC hA hfl htb hK8 _ _ _ hS (lv_sub hl [1, 0, 2] rfl) ⟨by omega, by omega⟩ hw
    · have hw := hw.1 c3
      refine lv_goto (tgt := 62) hx hb dX0_framed_20 (by decide) ?_
      obtain ⟨v13, ev13⟩ : ∃ y : Int32, y = x2 + (-1) := ⟨_, rfl⟩
      have hw := hw v13 ev13
      refine lv_iinc (v := v13) (lv' := [(2, .int v13), (0, .ref (a 0)), (1, .int x1)]) hx hb dX0_framed_62 hl (k := 2) rfl (by rw [ev13]; rfl) (by decide) rfl (fun ls hl => ?_)
      refine lv_goto (tgt := 8) hx hb dX0_framed_65 (by decide) ?_
      exact hK8 _ _ _ hw hS (lv_sub hl [1, 2, 0] rfl) ⟨by omega, by omega⟩
set_option maxHeartbeats 4000000 in
set_option maxRecDepth 100000 in
theorem k_X0_framed_8 {p : Program} {l : Launch} {e : Env} {s : State} {m : MethodId} {args : Array Value} {below : List Frame} {meth : Method} {c : Code} {D : va_G} {dT : Nat → ClassId} {a : Nat → Nat} {A : Nat → Prop} {vs0 : XE} {post : Int32 → XS → Prop} (hC : wCx RX0 cX0_framed 4 (some .int) D dT p s m args meth c) (hA : wAz A s) (hfl : l.stackTraces = false) (htb : c.exceptionTable.toList = tableOf [(23, 52, 55, 109)]) : ∀ (X : XS) (x1 : Int32) (x2 : Int32) (n : Nat), ∀ {vs : XE} {H : Heap} {locs : List Loc} {ls : Array Slot} {cells slots : Nat}, StX D dT a A s vs0 X vs H locs → lv_has ls 4 [(0, .ref (a 0)), (1, .int x1), (2, .int x2)] → cells + (n * 2 + 0) ≤ 22 ∧ slots + (n * 9 + 0) ≤ 99 → w_X0_framed_8 post n X x1 x2 → W p l e rmX0_framed s m args below meth c H locs cells slots (MQ below (va_Qi (fun r u9 => post r u9.1) (wB D (XW dT a) (XI vs0) A) A) args s 22 99 A) (F0 m 8 ls []) := by
  intro X x1 x2 n
  induction n generalizing X x1 x2 with
  | zero => intro vs H locs ls cells slots  hS hl hc hw; exact hw.elim
  | succ n ih =>
    intro vs H locs ls cells slots  hS hl hc hw
    exact k_X0_framed_8b hC hA hfl htb (fun X x1 x2 hk {vs} {H} {locs} {ls} {cells} {slots}  hS hl hc => ih X x1 x2  hS hl hc hk) X x1 x2  hS hl ⟨by omega, by omega⟩ hw
set_option maxHeartbeats 4000000 in
set_option maxRecDepth 100000 in
theorem k_X0_framed_0 {p : Program} {l : Launch} {e : Env} {s : State} {m : MethodId} {args : Array Value} {below : List Frame} {meth : Method} {c : Code} {D : va_G} {dT : Nat → ClassId} {a : Nat → Nat} {A : Nat → Prop} {vs0 : XE} {post : Int32 → XS → Prop} (hC : wCx RX0 cX0_framed 4 (some .int) D dT p s m args meth c) (hA : wAz A s) (hfl : l.stackTraces = false) (htb : c.exceptionTable.toList = tableOf [(23, 52, 55, 109)]) (X : XS) {vs : XE} {H : Heap} {locs : List Loc} {ls : Array Slot} {cells slots : Nat} (hS : StX D dT a A s vs0 X vs H locs) (hl : lv_has ls 4 [(0, .ref (a 0))]) (hc : cells + 22 ≤ 22 ∧ slots + 99 ≤ 99) (hw : w_X0_framed post X) : W p l e rmX0_framed s m args below meth c H locs cells slots (MQ below (va_Qi (fun r u9 => post r u9.1) (wB D (XW dT a) (XI vs0) A) A) args s 22 99 A) (F0 m 0 ls []) := by
  have hx := hC.1
  have hb := hC.2.1
  have hown := hC.2.2.2.1
  have hts := hC.2.2.2.2.1
  unfold w_X0_framed at hw
  obtain ⟨hc1, hc2⟩ := hc
  refine lv_aload_n hx hb dX0_framed_0 rfl (lv_at hl 0 rfl) ?_
  refine ld_q197 hC hS dX0_framed_1 ?_
  refine lv_topi (fun v1 ev1 => ?_)
  have hw := hw v1 ev1
  refine lv_istore_n (lv' := [(1, .int v1), (0, .ref (a 0))]) hx hb dX0_framed_4 rfl hl (by decide) rfl (fun ls hl => ?_)
  refine lv_bipush (v := 9) hx hb dX0_framed_5 (by decide) ?_
  refine lv_istore_n (lv' := [(2, .int 9), (1, .int v1), (0, .ref (a 0))]) hx hb dX0_framed_7 rfl hl (by decide) rfl (fun ls hl => ?_)
  obtain ⟨n, hn9, hw⟩ := hw
  exact k_X0_framed_8 hC hA hfl htb _ _ _ n hS (lv_sub hl [2, 1, 0] rfl) ⟨by omega, by omega⟩ hw
abbrev v_X0_framed (X : XS) (post : Int32 → XS → Prop) : Prop := w_X0_framed post X
set_option maxHeartbeats 4000000 in
set_option maxRecDepth 100000 in
theorem met_X0_framed (l : Launch) (hfl : l.stackTraces = false) (D : va_G) (dT : Nat → ClassId) (a : Nat → Nat) (sz : Nat) (X : XS) (vs0 : XE) (post : Int32 → XS → Prop) (hw : v_X0_framed X post) : Met l yX0_framed (wsW_ yX0_framed cX0_framed 4 (some .int) [(23, 52, 55, 109)]) rmX0_framed (wPc D dT (XW dT a) (XI vs0) sz (X, vs0) [.ref (a 0)]) (va_Qi (fun r u9 => post r u9.1) (wB D (XW dT a) (XI vs0) (va_A ((XW dT a) (X, vs0)) sz)) (va_A ((XW dT a) (X, vs0)) sz)) 22 99 (va_A ((XW dT a) (X, vs0)) sz) :=
  wEntH (Q := fun A => (va_Qi (fun r u9 => post r u9.1) (wB D (XW dT a) (XI vs0) A) A)) (by decide) (Nat.le_of_ble_eq_true rfl) (fun p e s m below meth c A ls hC htb hA hS hl => k_X0_framed_0 hC hA hfl htb _ hS hl ⟨by omega, by omega⟩ hw) sz
theorem hd_X0_framed : yX0_framed.cls ≠ "java/lang/invoke/MethodHandle" ∧ yX0_framed.cls ≠ "java/lang/invoke/VarHandle" ∧ (parseMethodDescriptor yX0_framed.desc).map (fun d => d.parameters.length) = some 0 := by decide +kernel
section
variable {p : Program} {l : Launch} {e : Env} {R : Room} {s : State} {m : MethodId} {args : Array Value} {below : List Frame} {meth : Method} {c : Code} {H : Heap} {locs : List Loc} {cells slots : Nat} {Q : State → Prop} {cc : ByteArray} {nL : Nat} {ret : Option FieldType} {pc : Nat} {ls : Array Slot} {rest : List Value}
set_option maxHeartbeats 4000000 in
set_option maxRecDepth 100000 in
theorem inv_q523 {D : va_G} {dT : Nat → ClassId} {a : Nat → Nat} {A : Nat → Prop} {vs0 : XE} {vs : XE} {X : XS} {post : Int32 → XS → Prop} (hC : wCx RX0 cc nL ret D dT p s m args meth c) (hA : wAz A s) (hfl : l.stackTraces = false) (hS : StX D dT a A s vs0 X vs H locs) (hl : ls.size = nL) (hw : v_X0_framed X post) (hR : rmX0_framed.frames + 1 ≤ R.frames ∧ 8 + (4 + 11) + rmX0_framed.locals ≤ R.locals) (hrest : (rest.map fun v => v.category).sum ≤ 8) (hf : cells + 22 ≤ R.cells ∧ slots + 99 ≤ R.slots) (hdg : decode cc pc = .ok (.invokevirtual 114, 3))  (kk : ∀ (r : Int32) (X1 : XS) (vs1 : XE) (H1 : Heap) (locs1 : List Loc), post r X1 → (∀ v ∈ vs, v ∈ vs1) → StX D dT a A s vs0 X1 vs1 H1 locs1 → W p l e R s m args below meth c H1 locs1 (cells + 22) (slots + 99) Q (F0 m (pc + 3) ls (.int r :: rest))) : W p l e R s m args below meth c H locs cells slots Q (F0 m pc ls (.ref (a 0) :: rest)) := by
  exact xNi hA hS (wRunVW (As := []) (rest := rest) (mc := 22) (ms := 99) 0 hC (met_X0_framed l hfl D dT a H.size X vs post hw) (lw_VW q523 q525 qs21 q85 q526) ⟨⟨rfl, rfl⟩, hd_X0_framed, hR, hf⟩ XW_0 rfl rfl hA hS.self hl rfl hrest hdg) kk
end
/-! LeastFrames.borne -/
def w_X0_borne_79b (K79 : XS → Int32 → Prop) (post : XS → Prop) (postX : Exn → XS → Prop) (X : XS) (x1 : Int32) : Prop :=
  ((X_high X) ≤ x1 → (∀ X2 : XS, X2 = sX_pullsBelow X (X_below X) → (post X2))) ∧ (¬ (X_high X) ≤ x1 → (vp_in x1 10 ∧ (((X_basis X x1.toNatClampNeg) = ((-1) : Int32) → (∀ v4 : Int32, v4 = x1 + 1 → (K79 X v4))) ∧ (¬ (X_basis X x1.toNatClampNeg) = ((-1) : Int32) → (vp_in x1 10 ∧ (vp_in x1 10 ∧ (vp_in (X_basis X x1.toNatClampNeg) 10 ∧ (∀ X6 : XS, X6 = sX_pulls X (vp_updL (X_pulls X) (X_basis X x1.toNatClampNeg).toNatClampNeg (X_rows X x1.toNatClampNeg (10 : Int32).toNatClampNeg)) → (∀ v7 : Int32, v7 = x1 + 1 → (K79 X6 v7))))))))))
def w_X0_borne_79 (post : XS → Prop) (postX : Exn → XS → Prop) : Nat → XS → Int32 → Prop
  | 0, _, _ => False
  | n + 1, X, x1 => w_X0_borne_79b  (w_X0_borne_79 post postX n) post postX X x1
def w_X0_borne_58b (K58 : XS → Int32 → Prop) (post : XS → Prop) (postX : Exn → XS → Prop) (X : XS) (x1 : Int32) : Prop :=
  ((10 : Int32) ≤ x1 → (∃ n, w_X0_borne_79 post postX n X 0)) ∧ (¬ (10 : Int32) ≤ x1 → (vp_in x1 10 ∧ (∀ X2 : XS, X2 = sX_pulls X (vp_updL (X_pulls X) x1.toNatClampNeg 0) → (∀ v3 : Int32, v3 = x1 + 1 → (K58 X2 v3)))))
def w_X0_borne_58 (post : XS → Prop) (postX : Exn → XS → Prop) : Nat → XS → Int32 → Prop
  | 0, _, _ => False
  | n + 1, X, x1 => w_X0_borne_58b  (w_X0_borne_58 post postX n) post postX X x1
def w_X0_borne_45 (post : XS → Prop) (postX : Exn → XS → Prop) (X : XS) (y0 : Exn) : Prop :=
  ∀ X1 : XS, X1 = sX_fault X y0.2 → (postX y0 X1)
def w_X0_borne (post : XS → Prop) (postX : Exn → XS → Prop) (X : XS) : Prop :=
  ∀ X1 : XS, X1 = sX_fault X (-1) → (∀ X2 : XS, X2 = sX_least X1 none → (v_X0_volumeOf X2 (X_bars X2) (fun r3 X4 => ∀ X6 : XS, X6 = sX_least X4 (some r3) → (v_X0_framed X6 (fun r7 X8 => ∀ X9 : XS, X9 = sX_frame X8 r7 → (v_X2_solves X9 (X_frame X9) (fun r10 X11 => ∃ n, w_X0_borne_58 post postX n X11 0) (fun x12 X11 => w_X0_borne_45 post postX X11 x12))))) (fun x5 X4 => w_X0_borne_45 post postX X4 x5)))
abbrev rmX0_borne : Room := { frames := 10, cells := 25, slots := 115, locals := 231 }
set_option maxHeartbeats 4000000 in
set_option maxRecDepth 100000 in
theorem k_X0_borne_79b {p : Program} {l : Launch} {e : Env} {s : State} {m : MethodId} {args : Array Value} {below : List Frame} {meth : Method} {c : Code} {D : va_G} {dT : Nat → ClassId} {a : Nat → Nat} {A : Nat → Prop} {vs0 : XE} {K79 : XS → Int32 → Prop} {post : XS → Prop} {postX : Exn → XS → Prop} (hC : wCx RX0 cX0_borne 2 (none) D dT p s m args meth c) (hA : wAz A s) (hfl : l.stackTraces = false) (htb : c.exceptionTable.toList = tableOf [(0, 42, 45, 109)]) (hK79 : ∀ (X : XS) (x1 : Int32), K79 X x1 → ∀ {vs : XE} {H : Heap} {locs : List Loc} {ls : Array Slot} {cells slots : Nat}, StX D dT a A s vs0 X vs H locs → lv_has ls 2 [(0, .ref (a 0)), (1, .int x1)] → cells + 0 ≤ 25 ∧ slots + 0 ≤ 115 → W p l e rmX0_borne s m args below meth c H locs cells slots (vx_MQ below (va_Qv (fun u9 => post u9.1) (wB D (XW dT a) (XI vs0) A) A) (XCU D dT a vs0 postX A) args s 25 115 A) (F0 m 79 ls [])) (X : XS) (x1 : Int32) {vs : XE} {H : Heap} {locs : List Loc} {ls : Array Slot} {cells slots : Nat} (hS : StX D dT a A s vs0 X vs H locs) (hl : lv_has ls 2 [(0, .ref (a 0)), (1, .int x1)]) (hc : cells + 0 ≤ 25 ∧ slots + 0 ≤ 115) (hw : w_X0_borne_79b K79 post postX X x1) : W p l e rmX0_borne s m args below meth c H locs cells slots (vx_MQ below (va_Qv (fun u9 => post u9.1) (wB D (XW dT a) (XI vs0) A) A) (XCU D dT a vs0 postX A) args s 25 115 A) (F0 m 79 ls []) := by
  have hx := hC.1
  have hb := hC.2.1
  have hown := hC.2.2.2.1
  have hts := hC.2.2.2.2.1
  unfold w_X0_borne_79b at hw
  obtain ⟨hc1, hc2⟩ := hc
  refine lv_iload_n hx hb dX0_borne_79 rfl (lv_at hl 1 rfl) ?_
  refine lv_aload_n hx hb dX0_borne_80 rfl (lv_at hl 0 rfl) ?_
  refine ld_q198 hC hS dX0_borne_81 ?_
  refine ld_q160 hC hS dX0_borne_84 ?_
  refine lv_icmp_ge (tgt := 135) hx hb dX0_borne_87 (by decide) (fun c1 => ?_) (fun c1 => ?_)
  · have hw := hw.1 c1
    refine lv_aload_n hx hb dX0_borne_135 rfl (lv_at hl 0 rfl) ?_
    refine lv_aload_n hx hb dX0_borne_136 rfl (lv_at hl 0 rfl) ?_
    refine ld_q198 hC hS dX0_borne_137 ?_
    refine ld_q162 hC hS dX0_borne_140 ?_
    refine st_q203 hC hS dX0_borne_143 (fun H locs hS => ?_)
    have hw := hw (sX_pullsBelow X (X_below X)) rfl
    generalize sX_pullsBelow X (X_below X) = X2 at hS hw
    exact vx_ret (wRetv hC hS hw (by omega) (by omega) dX0_borne_146)
  · have hw := hw.2 c1
    refine lv_aload_n hx hb dX0_borne_90 rfl (lv_at hl 0 rfl) ?_
    refine ld_q198 hC hS dX0_borne_91 ?_
    refine ld_q157 hC hS dX0_borne_94 ?_
    refine lv_iload_n hx hb dX0_borne_97 rfl (lv_at hl 1 rfl) ?_
    refine al_BA hC hS hw.1 dX0_borne_98 ?_
    have hw := hw.2
    refine lv_iconst (v := (-1)) hx hb dX0_borne_99 (by decide) ?_
    refine lv_icmp_eq (tgt := 129) hx hb dX0_borne_100 (by decide) (fun c3 => ?_) (fun c3 => ?_)
    · have hw := hw.1 c3
      obtain ⟨v4, ev4⟩ : ∃ y : Int32, y = x1 + 1 := ⟨_, rfl⟩
      have hw := hw v4 ev4
      refine lv_iinc (v := v4) (lv' := [(1, .int v4), (0, .ref (a 0))]) hx hb dX0_borne_129 hl (k := 1) rfl (by rw [ev4]; rfl) (by decide) rfl (fun ls hl => ?_)
      refine lv_goto (tgt := 79) hx hb dX0_borne_132 (by decide) ?_
      exact hK79 _ _ hw hS (lv_sub hl [1, 0] rfl) ⟨by omega, by omega⟩
    · have hw := hw.2 c3
      refine lv_aload_n hx hb dX0_borne_103 rfl (lv_at hl 0 rfl) ?_
      refine ld_q202 hC hS dX0_borne_104 ?_
      refine lv_aload_n hx hb dX0_borne_107 rfl (lv_at hl 0 rfl) ?_
      refine ld_q198 hC hS dX0_borne_108 ?_
      refine ld_q157 hC hS dX0_borne_111 ?_
      refine lv_iload_n hx hb dX0_borne_114 rfl (lv_at hl 1 rfl) ?_
      refine al_BA hC hS hw.1 dX0_borne_115 ?_
      have hw := hw.2
      refine lv_aload_n hx hb dX0_borne_116 rfl (lv_at hl 0 rfl) ?_
      refine ld_q198 hC hS dX0_borne_117 ?_
      refine ld_q154 hC hS dX0_borne_120 ?_
      refine lv_iload_n hx hb dX0_borne_123 rfl (lv_at hl 1 rfl) ?_
      have hi5 := hw.1
      have hw := hw.2
      refine aa_RS hC hS hi5 dX0_borne_124 ?_
      refine lv_bipush (v := 10) hx hb dX0_borne_125 (by decide) ?_
      refine al_ROW hC hS (vp_lt hi5) (by unfold vp_in; decide) dX0_borne_127 ?_
      have hi := hw.1
      have hw := hw.2
      refine as_PU hC hS hi dX0_borne_128 (fun H locs hS => ?_)
      have hw := hw (sX_pulls X (vp_updL (X_pulls X) (X_basis X x1.toNatClampNeg).toNatClampNeg (X_rows X x1.toNatClampNeg (10 : Int32).toNatClampNeg))) rfl
      generalize sX_pulls X (vp_updL (X_pulls X) (X_basis X x1.toNatClampNeg).toNatClampNeg (X_rows X x1.toNatClampNeg (10 : Int32).toNatClampNeg)) = X6 at hS hw
      obtain ⟨v7, ev7⟩ : ∃ y : Int32, y = x1 + 1 := ⟨_, rfl⟩
      have hw := hw v7 ev7
      refine lv_iinc (v := v7) (lv' := [(1, .int v7), (0, .ref (a 0))]) hx hb dX0_borne_129 hl (k := 1) rfl (by rw [ev7]; rfl) (by decide) rfl (fun ls hl => ?_)
      refine lv_goto (tgt := 79) hx hb dX0_borne_132 (by decide) ?_
      exact hK79 _ _ hw hS (lv_sub hl [1, 0] rfl) ⟨by omega, by omega⟩
set_option maxHeartbeats 4000000 in
set_option maxRecDepth 100000 in
theorem k_X0_borne_79 {p : Program} {l : Launch} {e : Env} {s : State} {m : MethodId} {args : Array Value} {below : List Frame} {meth : Method} {c : Code} {D : va_G} {dT : Nat → ClassId} {a : Nat → Nat} {A : Nat → Prop} {vs0 : XE} {post : XS → Prop} {postX : Exn → XS → Prop} (hC : wCx RX0 cX0_borne 2 (none) D dT p s m args meth c) (hA : wAz A s) (hfl : l.stackTraces = false) (htb : c.exceptionTable.toList = tableOf [(0, 42, 45, 109)]) : ∀ (X : XS) (x1 : Int32) (n : Nat), ∀ {vs : XE} {H : Heap} {locs : List Loc} {ls : Array Slot} {cells slots : Nat}, StX D dT a A s vs0 X vs H locs → lv_has ls 2 [(0, .ref (a 0)), (1, .int x1)] → cells + 0 ≤ 25 ∧ slots + 0 ≤ 115 → w_X0_borne_79 post postX n X x1 → W p l e rmX0_borne s m args below meth c H locs cells slots (vx_MQ below (va_Qv (fun u9 => post u9.1) (wB D (XW dT a) (XI vs0) A) A) (XCU D dT a vs0 postX A) args s 25 115 A) (F0 m 79 ls []) := by
  intro X x1 n
  induction n generalizing X x1 with
  | zero => intro vs H locs ls cells slots  hS hl hc hw; exact hw.elim
  | succ n ih =>
    intro vs H locs ls cells slots  hS hl hc hw
    exact k_X0_borne_79b hC hA hfl htb (fun X x1 hk {vs} {H} {locs} {ls} {cells} {slots}  hS hl hc => ih X x1  hS hl hc hk) X x1  hS hl hc hw
set_option maxHeartbeats 4000000 in
set_option maxRecDepth 100000 in
theorem k_X0_borne_58b {p : Program} {l : Launch} {e : Env} {s : State} {m : MethodId} {args : Array Value} {below : List Frame} {meth : Method} {c : Code} {D : va_G} {dT : Nat → ClassId} {a : Nat → Nat} {A : Nat → Prop} {vs0 : XE} {K58 : XS → Int32 → Prop} {post : XS → Prop} {postX : Exn → XS → Prop} (hC : wCx RX0 cX0_borne 2 (none) D dT p s m args meth c) (hA : wAz A s) (hfl : l.stackTraces = false) (htb : c.exceptionTable.toList = tableOf [(0, 42, 45, 109)]) (hK58 : ∀ (X : XS) (x1 : Int32), K58 X x1 → ∀ {vs : XE} {H : Heap} {locs : List Loc} {ls : Array Slot} {cells slots : Nat}, StX D dT a A s vs0 X vs H locs → lv_has ls 2 [(0, .ref (a 0)), (1, .int x1)] → cells + 0 ≤ 25 ∧ slots + 0 ≤ 115 → W p l e rmX0_borne s m args below meth c H locs cells slots (vx_MQ below (va_Qv (fun u9 => post u9.1) (wB D (XW dT a) (XI vs0) A) A) (XCU D dT a vs0 postX A) args s 25 115 A) (F0 m 58 ls [])) (X : XS) (x1 : Int32) {vs : XE} {H : Heap} {locs : List Loc} {ls : Array Slot} {cells slots : Nat} (hS : StX D dT a A s vs0 X vs H locs) (hl : lv_has ls 2 [(0, .ref (a 0)), (1, .int x1)]) (hc : cells + 0 ≤ 25 ∧ slots + 0 ≤ 115) (hw : w_X0_borne_58b K58 post postX X x1) : W p l e rmX0_borne s m args below meth c H locs cells slots (vx_MQ below (va_Qv (fun u9 => post u9.1) (wB D (XW dT a) (XI vs0) A) A) (XCU D dT a vs0 postX A) args s 25 115 A) (F0 m 58 ls []) := by
  have hx := hC.1
  have hb := hC.2.1
  have hown := hC.2.2.2.1
  have hts := hC.2.2.2.2.1
  unfold w_X0_borne_58b at hw
  obtain ⟨hc1, hc2⟩ := hc
  refine lv_iload_n hx hb dX0_borne_58 rfl (lv_at hl 1 rfl) ?_
  refine lv_bipush (v := 10) hx hb dX0_borne_59 (by decide) ?_
  refine lv_icmp_ge (tgt := 77) hx hb dX0_borne_61 (by decide) (fun c1 => ?_) (fun c1 => ?_)
  · have hw := hw.1 c1
    refine lv_iconst (v := 0) hx hb dX0_borne_77 (by decide) ?_
    refine lv_istore_n (lv' := [(1, .int 0), (0, .ref (a 0))]) hx hb dX0_borne_78 rfl hl (by decide) rfl (fun ls hl => ?_)
    obtain ⟨n, hw⟩ := hw
    exact k_X0_borne_79 hC hA hfl htb _ _ n hS (lv_sub hl [1, 0] rfl) ⟨by omega, by omega⟩ hw
  · have hw := hw.2 c1
    refine lv_aload_n hx hb dX0_borne_64 rfl (lv_at hl 0 rfl) ?_
    refine ld_q202 hC hS dX0_borne_65 ?_
    refine lv_iload_n hx hb dX0_borne_68 rfl (lv_at hl 1 rfl) ?_
    refine lv_lconst (v := 0) hx hb dX0_borne_69 (by decide) ?_
    have hi := hw.1
    have hw := hw.2
    refine as_PU hC hS hi dX0_borne_70 (fun H locs hS => ?_)
    have hw := hw (sX_pulls X (vp_updL (X_pulls X) x1.toNatClampNeg 0)) rfl
    generalize sX_pulls X (vp_updL (X_pulls X) x1.toNatClampNeg 0) = X2 at hS hw
    obtain ⟨v3, ev3⟩ : ∃ y : Int32, y = x1 + 1 := ⟨_, rfl⟩
    have hw := hw v3 ev3
    refine lv_iinc (v := v3) (lv' := [(1, .int v3), (0, .ref (a 0))]) hx hb dX0_borne_71 hl (k := 1) rfl (by rw [ev3]; rfl) (by decide) rfl (fun ls hl => ?_)
    refine lv_goto (tgt := 58) hx hb dX0_borne_74 (by decide) ?_
    exact hK58 _ _ hw hS (lv_sub hl [1, 0] rfl) ⟨by omega, by omega⟩
set_option maxHeartbeats 4000000 in
set_option maxRecDepth 100000 in
theorem k_X0_borne_58 {p : Program} {l : Launch} {e : Env} {s : State} {m : MethodId} {args : Array Value} {below : List Frame} {meth : Method} {c : Code} {D : va_G} {dT : Nat → ClassId} {a : Nat → Nat} {A : Nat → Prop} {vs0 : XE} {post : XS → Prop} {postX : Exn → XS → Prop} (hC : wCx RX0 cX0_borne 2 (none) D dT p s m args meth c) (hA : wAz A s) (hfl : l.stackTraces = false) (htb : c.exceptionTable.toList = tableOf [(0, 42, 45, 109)]) : ∀ (X : XS) (x1 : Int32) (n : Nat), ∀ {vs : XE} {H : Heap} {locs : List Loc} {ls : Array Slot} {cells slots : Nat}, StX D dT a A s vs0 X vs H locs → lv_has ls 2 [(0, .ref (a 0)), (1, .int x1)] → cells + 0 ≤ 25 ∧ slots + 0 ≤ 115 → w_X0_borne_58 post postX n X x1 → W p l e rmX0_borne s m args below meth c H locs cells slots (vx_MQ below (va_Qv (fun u9 => post u9.1) (wB D (XW dT a) (XI vs0) A) A) (XCU D dT a vs0 postX A) args s 25 115 A) (F0 m 58 ls []) := by
  intro X x1 n
  induction n generalizing X x1 with
  | zero => intro vs H locs ls cells slots  hS hl hc hw; exact hw.elim
  | succ n ih =>
    intro vs H locs ls cells slots  hS hl hc hw
    exact k_X0_borne_58b hC hA hfl htb (fun X x1 hk {vs} {H} {locs} {ls} {cells} {slots}  hS hl hc => ih X x1  hS hl hc hk) X x1  hS hl hc hw
set_option maxHeartbeats 4000000 in
set_option maxRecDepth 100000 in
theorem k_X0_borne_45 {p : Program} {l : Launch} {e : Env} {s : State} {m : MethodId} {args : Array Value} {below : List Frame} {meth : Method} {c : Code} {D : va_G} {dT : Nat → ClassId} {a : Nat → Nat} {A : Nat → Prop} {vs0 : XE} {post : XS → Prop} {postX : Exn → XS → Prop} (hC : wCx RX0 cX0_borne 2 (none) D dT p s m args meth c) (hA : wAz A s) (hfl : l.stackTraces = false) (htb : c.exceptionTable.toList = tableOf [(0, 42, 45, 109)]) (X : XS) (y0 : Exn) {vs : XE} {H : Heap} {locs : List Loc} {ls : Array Slot} {cells slots : Nat} (f_y0 : isUnb y0 vs) (hS : StX D dT a A s vs0 X vs H locs) (hl : lv_has ls 2 [(0, .ref (a 0))]) (hc : cells + 0 ≤ 25 ∧ slots + 0 ≤ 115) (hw : w_X0_borne_45 post postX X y0) : W p l e rmX0_borne s m args below meth c H locs cells slots (vx_MQ below (va_Qv (fun u9 => post u9.1) (wB D (XW dT a) (XI vs0) A) A) (XCU D dT a vs0 postX A) args s 25 115 A) (F0 m 45 ls [.ref y0.1]) := by
  have hx := hC.1
  have hb := hC.2.1
  have hown := hC.2.2.2.1
  have hts := hC.2.2.2.2.1
  unfold w_X0_borne_45 at hw
  obtain ⟨hc1, hc2⟩ := hc
  refine lv_astore_n (lv' := [(1, .ref y0.1), (0, .ref (a 0))]) hx hb dX0_borne_45 rfl hl (by decide) rfl (fun ls hl => ?_)
  refine lv_aload_n hx hb dX0_borne_46 rfl (lv_at hl 1 rfl) ?_
  refine lv_aload_n hx hb dX0_borne_47 rfl (lv_at hl 0 rfl) ?_
  refine ldw hC hS f_y0 dX0_borne_48 ?_
  refine st_q199 hC hS dX0_borne_51 (fun H locs hS => ?_)
  have hw := hw (sX_fault X y0.2) rfl
  generalize sX_fault X y0.2 = X1 at hS hw
  refine lv_aload_n hx hb dX0_borne_54 rfl (lv_at hl 0 rfl) ?_
  refine vx_athrow hx hb dX0_borne_55 ?_
  obtain ⟨ce9, g1, g2, g3⟩ := xUnb_cell hC hS f_y0
  exact xOutU hC (by rw [htb]; decide) hw f_y0 hS g1 g2 g3 (by omega) (by omega)
set_option maxHeartbeats 4000000 in
set_option maxRecDepth 100000 in
theorem k_X0_borne_0 {p : Program} {l : Launch} {e : Env} {s : State} {m : MethodId} {args : Array Value} {below : List Frame} {meth : Method} {c : Code} {D : va_G} {dT : Nat → ClassId} {a : Nat → Nat} {A : Nat → Prop} {vs0 : XE} {post : XS → Prop} {postX : Exn → XS → Prop} (hC : wCx RX0 cX0_borne 2 (none) D dT p s m args meth c) (hA : wAz A s) (hfl : l.stackTraces = false) (htb : c.exceptionTable.toList = tableOf [(0, 42, 45, 109)]) (X : XS) {vs : XE} {H : Heap} {locs : List Loc} {ls : Array Slot} {cells slots : Nat} (hS : StX D dT a A s vs0 X vs H locs) (hl : lv_has ls 2 [(0, .ref (a 0))]) (hc : cells + 25 ≤ 25 ∧ slots + 115 ≤ 115) (hw : w_X0_borne post postX X) : W p l e rmX0_borne s m args below meth c H locs cells slots (vx_MQ below (va_Qv (fun u9 => post u9.1) (wB D (XW dT a) (XI vs0) A) A) (XCU D dT a vs0 postX A) args s 25 115 A) (F0 m 0 ls []) := by
  have hx := hC.1
  have hb := hC.2.1
  have hown := hC.2.2.2.1
  have hts := hC.2.2.2.2.1
  unfold w_X0_borne at hw
  obtain ⟨hc1, hc2⟩ := hc
  refine lv_aload_n hx hb dX0_borne_0 rfl (lv_at hl 0 rfl) ?_
  refine lv_iconst (v := (-1)) hx hb dX0_borne_1 (by decide) ?_
  refine st_q199 hC hS dX0_borne_2 (fun H locs hS => ?_)
  have hw := hw (sX_fault X (-1)) rfl
  generalize sX_fault X (-1) = X1 at hS hw
  refine lv_aload_n hx hb dX0_borne_5 rfl (lv_at hl 0 rfl) ?_
  refine lv_null hx hb dX0_borne_6 ?_
  refine st_q200n hC hS dX0_borne_7 (fun H locs hS => ?_)
  have hw := hw (sX_least X1 none) rfl
  generalize sX_least X1 none = X2 at hS hw
  refine lv_aload_n hx hb dX0_borne_10 rfl (lv_at hl 0 rfl) ?_
  refine lv_aload_n hx hb dX0_borne_11 rfl (lv_at hl 0 rfl) ?_
  refine lv_aload_n hx hb dX0_borne_12 rfl (lv_at hl 0 rfl) ?_
  refine ld_q197 hC hS dX0_borne_13 ?_
  refine inv_q361 hC hA hfl hS hl.1 hw ⟨Nat.le_of_ble_eq_true rfl, Nat.le_of_ble_eq_true rfl⟩ (Nat.le_of_ble_eq_true rfl) ⟨(by show _ ≤ 25; omega), (by show _ ≤ 115; omega)⟩ dX0_borne_16 (fun x5 X4 vs H locs hw hv9 hS f_x5 => ?_) (fun r3 X4 vs H locs hw hv9 hS f_r3 => ?_)
  · obtain ⟨ce9, g1, g2, g3⟩ := xUnb_cell hC hS f_x5
    refine vx_catch (name := "LeastFrames$Unborne") (E := "LeastFrames$Unborne") hown [] ⟨0, 42, 45, 109⟩ [] (by rw [htb]; rfl) (fun z hz => absurd hz List.not_mem_nil) (by decide) (by decide) (hts _ q356) (va_Nw.use rfl (hC.2.2.2.2.2.2.2.2.1 _ nw_q397)) g1 g2 g3 ?_
    exact k_X0_borne_45 hC hA hfl htb _ _ f_x5 hS (lv_sub hl [0] rfl) ⟨by omega, by omega⟩ hw
  · refine st_q200s hC hS f_r3 dX0_borne_19 (fun H locs hS => ?_)
    have hw := hw (sX_least X4 (some r3)) rfl
    generalize sX_least X4 (some r3) = X6 at hS hw
    refine lv_aload_n hx hb dX0_borne_22 rfl (lv_at hl 0 rfl) ?_
    refine lv_aload_n hx hb dX0_borne_23 rfl (lv_at hl 0 rfl) ?_
    refine inv_q523 hC hA hfl hS hl.1 hw ⟨Nat.le_of_ble_eq_true rfl, Nat.le_of_ble_eq_true rfl⟩ (Nat.le_of_ble_eq_true rfl) ⟨(by show _ ≤ 25; omega), (by show _ ≤ 115; omega)⟩ dX0_borne_24 (fun r7 X8 vs H locs hw hv9 hS => ?_)
    refine st_q201 hC hS dX0_borne_27 (fun H locs hS => ?_)
    have hw := hw (sX_frame X8 r7) rfl
    generalize sX_frame X8 r7 = X9 at hS hw
    refine lv_aload_n hx hb dX0_borne_30 rfl (lv_at hl 0 rfl) ?_
    refine ld_q198 hC hS dX0_borne_31 ?_
    refine lv_aload_n hx hb dX0_borne_34 rfl (lv_at hl 0 rfl) ?_
    refine ld_q201 hC hS dX0_borne_35 ?_
    refine inv_q365 hC hA hfl hS hl.1 hw ⟨Nat.le_of_ble_eq_true rfl, Nat.le_of_ble_eq_true rfl⟩ (Nat.le_of_ble_eq_true rfl) ⟨(by show _ ≤ 25; omega), (by show _ ≤ 115; omega)⟩ dX0_borne_38 (fun x12 X11 vs H locs hw hv9 hS f_x12 => ?_) (fun r10 X11 vs H locs hw hv9 hS => ?_)
    · obtain ⟨ce9, g1, g2, g3⟩ := xUnb_cell hC hS f_x12
      refine vx_catch (name := "LeastFrames$Unborne") (E := "LeastFrames$Unborne") hown [] ⟨0, 42, 45, 109⟩ [] (by rw [htb]; rfl) (fun z hz => absurd hz List.not_mem_nil) (by decide) (by decide) (hts _ q356) (va_Nw.use rfl (hC.2.2.2.2.2.2.2.2.1 _ nw_q397)) g1 g2 g3 ?_
      exact k_X0_borne_45 hC hA hfl htb _ _ f_x12 hS (lv_sub hl [0] rfl) ⟨by omega, by omega⟩ hw
    · refine lv_pop2_2 hx hb dX0_borne_41 rfl ?_
      refine lv_goto (tgt := 56) hx hb dX0_borne_42 (by decide) ?_
      refine lv_iconst (v := 0) hx hb dX0_borne_56 (by decide) ?_
      refine lv_istore_n (lv' := [(1, .int 0), (0, .ref (a 0))]) hx hb dX0_borne_57 rfl hl (by decide) rfl (fun ls hl => ?_)
      obtain ⟨n, hw⟩ := hw
      exact k_X0_borne_58 hC hA hfl htb _ _ n hS (lv_sub hl [1, 0] rfl) ⟨by omega, by omega⟩ hw
abbrev v_X0_borne (X : XS) (post : XS → Prop) (postX : Exn → XS → Prop) : Prop := w_X0_borne post postX X
set_option maxHeartbeats 4000000 in
set_option maxRecDepth 100000 in
theorem met_X0_borne (l : Launch) (hfl : l.stackTraces = false) (D : va_G) (dT : Nat → ClassId) (a : Nat → Nat) (sz : Nat) (X : XS) (vs0 : XE) (post : XS → Prop) (postX : Exn → XS → Prop) (hw : v_X0_borne X post postX) : vx_Met l yX0_borne (wsW_ yX0_borne cX0_borne 2 (none) [(0, 42, 45, 109)]) rmX0_borne (wPc D dT (XW dT a) (XI vs0) sz (X, vs0) [.ref (a 0)]) (va_Qv (fun u9 => post u9.1) (wB D (XW dT a) (XI vs0) (va_A ((XW dT a) (X, vs0)) sz)) (va_A ((XW dT a) (X, vs0)) sz)) (XCU D dT a vs0 postX (va_A ((XW dT a) (X, vs0)) sz)) 25 115 (va_A ((XW dT a) (X, vs0)) sz) :=
  xEntH (Q := fun A => (va_Qv (fun u9 => post u9.1) (wB D (XW dT a) (XI vs0) A) A)) (XC := fun A => (XCU D dT a vs0 postX A)) (by decide) (Nat.le_of_ble_eq_true rfl) (fun p e s m below meth c A ls hC htb hA hS hl => k_X0_borne_0 hC hA hfl htb _ hS hl ⟨by omega, by omega⟩ hw) sz
theorem hd_X0_borne : yX0_borne.cls ≠ "java/lang/invoke/MethodHandle" ∧ yX0_borne.cls ≠ "java/lang/invoke/VarHandle" ∧ (parseMethodDescriptor yX0_borne.desc).map (fun d => d.parameters.length) = some 0 := by decide +kernel
section
variable {p : Program} {l : Launch} {e : Env} {R : Room} {s : State} {m : MethodId} {args : Array Value} {below : List Frame} {meth : Method} {c : Code} {H : Heap} {locs : List Loc} {cells slots : Nat} {Q : State → Prop} {cc : ByteArray} {nL : Nat} {ret : Option FieldType} {pc : Nat} {ls : Array Slot} {rest : List Value}
set_option maxHeartbeats 4000000 in
set_option maxRecDepth 100000 in
theorem inv_q357 {D : va_G} {dT : Nat → ClassId} {a : Nat → Nat} {A : Nat → Prop} {vs0 : XE} {vs : XE} {X : XS} {post : XS → Prop} {postX : Exn → XS → Prop} (hC : wCx RX0 cc nL ret D dT p s m args meth c) (hA : wAz A s) (hfl : l.stackTraces = false) (hS : StX D dT a A s vs0 X vs H locs) (hl : ls.size = nL) (hw : v_X0_borne X post postX) (hR : rmX0_borne.frames + 1 ≤ R.frames ∧ 8 + (2 + 11) + rmX0_borne.locals ≤ R.locals) (hrest : (rest.map fun v => v.category).sum ≤ 8) (hf : cells + 25 ≤ R.cells ∧ slots + 115 ≤ R.slots) (hdg : decode cc pc = .ok (.invokevirtual 138, 3)) (kx : ∀ (x : Exn) (X1 : XS) (vs1 : XE) (H1 : Heap) (locs1 : List Loc), postX x X1 → (∀ v ∈ vs, v ∈ vs1) → StX D dT a A s vs0 X1 vs1 H1 locs1 → isUnb x vs1 → vx_W p l e R s m args below meth c H1 locs1 (cells + 25) (slots + 115) Q (F0 m pc ls rest) x.1) (kk : ∀ (X1 : XS) (vs1 : XE) (H1 : Heap) (locs1 : List Loc), post X1 → (∀ v ∈ vs, v ∈ vs1) → StX D dT a A s vs0 X1 vs1 H1 locs1 → W p l e R s m args below meth c H1 locs1 (cells + 25) (slots + 115) Q (F0 m (pc + 3) ls (rest))) : W p l e R s m args below meth c H locs cells slots Q (F0 m pc ls (.ref (a 0) :: rest)) := by
  exact xTv hA hS (xRunVX (As := []) (rest := rest) (mc := 25) (ms := 115) 0 hC (met_X0_borne l hfl D dT a H.size X vs post postX hw) (lw_VW q357 q359 qs8 q85 q360) ⟨⟨rfl, rfl⟩, hd_X0_borne, hR, hf⟩ XW_0 rfl rfl hA hS.self hl rfl hrest hdg) kx kk
end
/-! LeastFrames.looks -/
def w_X0_looks (post : Int32 → XS → Prop) (X : XS) : Prop :=
  v_X0_borne X (fun X1 => post (1 : Int32) X1) (fun x2 X1 => post (0 : Int32) X1)
abbrev rmX0_looks : Room := { frames := 11, cells := 25, slots := 115, locals := 252 }
set_option maxHeartbeats 4000000 in
set_option maxRecDepth 100000 in
theorem k_X0_looks_0 {p : Program} {l : Launch} {e : Env} {s : State} {m : MethodId} {args : Array Value} {below : List Frame} {meth : Method} {c : Code} {D : va_G} {dT : Nat → ClassId} {a : Nat → Nat} {A : Nat → Prop} {vs0 : XE} {post : Int32 → XS → Prop} (hC : wCx RX0 cX0_looks 2 (some .boolean) D dT p s m args meth c) (hA : wAz A s) (hfl : l.stackTraces = false) (htb : c.exceptionTable.toList = tableOf [(0, 5, 6, 109)]) (X : XS) {vs : XE} {H : Heap} {locs : List Loc} {ls : Array Slot} {cells slots : Nat} (hS : StX D dT a A s vs0 X vs H locs) (hl : lv_has ls 2 [(0, .ref (a 0))]) (hc : cells + 25 ≤ 25 ∧ slots + 115 ≤ 115) (hw : w_X0_looks post X) : W p l e rmX0_looks s m args below meth c H locs cells slots (MQ below (va_Qi (fun r u9 => post r u9.1) (wB D (XW dT a) (XI vs0) A) A) args s 25 115 A) (F0 m 0 ls []) := by
  have hx := hC.1
  have hb := hC.2.1
  have hown := hC.2.2.2.1
  have hts := hC.2.2.2.2.1
  unfold w_X0_looks at hw
  obtain ⟨hc1, hc2⟩ := hc
  refine lv_aload_n hx hb dX0_looks_0 rfl (lv_at hl 0 rfl) ?_
  refine inv_q357 hC hA hfl hS hl.1 hw ⟨Nat.le_of_ble_eq_true rfl, Nat.le_of_ble_eq_true rfl⟩ (Nat.le_of_ble_eq_true rfl) ⟨(by show _ ≤ 25; omega), (by show _ ≤ 115; omega)⟩ dX0_looks_1 (fun x2 X1 vs H locs hw hv9 hS f_x2 => ?_) (fun X1 vs H locs hw hv9 hS => ?_)
  · obtain ⟨ce9, g1, g2, g3⟩ := xUnb_cell hC hS f_x2
    refine vx_catch (name := "LeastFrames$Unborne") (E := "LeastFrames$Unborne") hown [] ⟨0, 5, 6, 109⟩ [] (by rw [htb]; rfl) (fun z hz => absurd hz List.not_mem_nil) (by decide) (by decide) (hts _ q356) (va_Nw.use rfl (hC.2.2.2.2.2.2.2.2.1 _ nw_q397)) g1 g2 g3 ?_
    refine lv_astore_n (lv' := [(1, .ref x2.1), (0, .ref (a 0))]) hx hb dX0_looks_6 rfl hl (by decide) rfl (fun ls hl => ?_)
    refine lv_iconst (v := 0) hx hb dX0_looks_7 (by decide) ?_
    exact wRetz hC hS (by decide) hw (by omega) (by omega) dX0_looks_8
  · refine lv_iconst (v := 1) hx hb dX0_looks_4 (by decide) ?_
    exact wRetz hC hS (by decide) hw (by omega) (by omega) dX0_looks_5
abbrev v_X0_looks (X : XS) (post : Int32 → XS → Prop) : Prop := w_X0_looks post X
set_option maxHeartbeats 4000000 in
set_option maxRecDepth 100000 in
theorem met_X0_looks (l : Launch) (hfl : l.stackTraces = false) (D : va_G) (dT : Nat → ClassId) (a : Nat → Nat) (sz : Nat) (X : XS) (vs0 : XE) (post : Int32 → XS → Prop) (hw : v_X0_looks X post) : Met l yX0_looks (wsW_ yX0_looks cX0_looks 2 (some .boolean) [(0, 5, 6, 109)]) rmX0_looks (wPc D dT (XW dT a) (XI vs0) sz (X, vs0) [.ref (a 0)]) (va_Qi (fun r u9 => post r u9.1) (wB D (XW dT a) (XI vs0) (va_A ((XW dT a) (X, vs0)) sz)) (va_A ((XW dT a) (X, vs0)) sz)) 25 115 (va_A ((XW dT a) (X, vs0)) sz) :=
  wEntH (Q := fun A => (va_Qi (fun r u9 => post r u9.1) (wB D (XW dT a) (XI vs0) A) A)) (by decide) (Nat.le_of_ble_eq_true rfl) (fun p e s m below meth c A ls hC htb hA hS hl => k_X0_looks_0 hC hA hfl htb _ hS hl ⟨by omega, by omega⟩ hw) sz
theorem hd_X0_looks : yX0_looks.cls ≠ "java/lang/invoke/MethodHandle" ∧ yX0_looks.cls ≠ "java/lang/invoke/VarHandle" ∧ (parseMethodDescriptor yX0_looks.desc).map (fun d => d.parameters.length) = some 0 := by decide +kernel
section
variable {p : Program} {l : Launch} {e : Env} {R : Room} {s : State} {m : MethodId} {args : Array Value} {below : List Frame} {meth : Method} {c : Code} {H : Heap} {locs : List Loc} {cells slots : Nat} {Q : State → Prop} {cc : ByteArray} {nL : Nat} {ret : Option FieldType} {pc : Nat} {ls : Array Slot} {rest : List Value}
set_option maxHeartbeats 4000000 in
set_option maxRecDepth 100000 in
theorem inv_q352 {D : va_G} {dT : Nat → ClassId} {a : Nat → Nat} {A : Nat → Prop} {vs0 : XE} {vs : XE} {X : XS} {post : Int32 → XS → Prop} (hC : wCx RX0 cc nL ret D dT p s m args meth c) (hA : wAz A s) (hfl : l.stackTraces = false) (hS : StX D dT a A s vs0 X vs H locs) (hl : ls.size = nL) (hw : v_X0_looks X post) (hR : rmX0_looks.frames + 1 ≤ R.frames ∧ 8 + (2 + 11) + rmX0_looks.locals ≤ R.locals) (hrest : (rest.map fun v => v.category).sum ≤ 8) (hf : cells + 25 ≤ R.cells ∧ slots + 115 ≤ R.slots) (hdg : decode cc pc = .ok (.invokevirtual 211, 3))  (kk : ∀ (r : Int32) (X1 : XS) (vs1 : XE) (H1 : Heap) (locs1 : List Loc), post r X1 → (∀ v ∈ vs, v ∈ vs1) → StX D dT a A s vs0 X1 vs1 H1 locs1 → W p l e R s m args below meth c H1 locs1 (cells + 25) (slots + 115) Q (F0 m (pc + 3) ls (.int r :: rest))) : W p l e R s m args below meth c H locs cells slots Q (F0 m pc ls (.ref (a 0) :: rest)) := by
  exact xNi hA hS (wRunVW (As := []) (rest := rest) (mc := 25) (ms := 115) 0 hC (met_X0_looks l hfl D dT a H.size X vs post hw) (lw_VW q352 q354 qs7 q85 q355) ⟨⟨rfl, rfl⟩, hd_X0_looks, hR, hf⟩ XW_0 rfl rfl hA hS.self hl rfl hrest hdg) kk
end
/-! LeastFrames.least -/
def w_X0_least (p1 : Int32) (post : Int64 → XS → Prop) (X : XS) : Prop :=
  v_X0_isTwo p1 (fun r1 => (r1 = (0 : Int32) → (v_X0_no ((-2) : Int32) (fun r6 => post r6 X))) ∧ (¬ r1 = (0 : Int32) → (v_X0_looks X (fun r3 X4 => v_X0_leastBy X4 p1 (fun r5 => post r5 X4)))))
abbrev rmX0_least : Room := { frames := 12, cells := 25, slots := 115, locals := 273 }
set_option maxHeartbeats 4000000 in
set_option maxRecDepth 100000 in
theorem k_X0_least_0 {p : Program} {l : Launch} {e : Env} {s : State} {m : MethodId} {args : Array Value} {below : List Frame} {meth : Method} {c : Code} {D : va_G} {dT : Nat → ClassId} {a : Nat → Nat} {A : Nat → Prop} {vs0 : XE} {p1 : Int32} {post : Int64 → XS → Prop} (hC : wCx RX0 cX0_least 2 (some .long) D dT p s m args meth c) (hA : wAz A s) (hfl : l.stackTraces = false) (X : XS) {vs : XE} {H : Heap} {locs : List Loc} {ls : Array Slot} {cells slots : Nat} (hS : StX D dT a A s vs0 X vs H locs) (hl : lv_has ls 2 [(0, .ref (a 0)), (1, .int p1)]) (hc : cells + 25 ≤ 25 ∧ slots + 115 ≤ 115) (hw : w_X0_least p1 post X) : W p l e rmX0_least s m args below meth c H locs cells slots (MQ below (va_Ql (fun r u9 => post r u9.1) (wB D (XW dT a) (XI vs0) A) A) args s 25 115 A) (F0 m 0 ls []) := by
  have hx := hC.1
  have hb := hC.2.1
  have hown := hC.2.2.2.1
  have hts := hC.2.2.2.2.1
  unfold w_X0_least at hw
  obtain ⟨hc1, hc2⟩ := hc
  refine lv_iload_n hx hb dX0_least_0 rfl (lv_at hl 1 rfl) ?_
  refine inv_q267 hC hS hl.1 hw ⟨Nat.le_of_ble_eq_true rfl, Nat.le_of_ble_eq_true rfl⟩ (Nat.le_of_ble_eq_true rfl) ⟨(by show _ ≤ 25; omega), (by show _ ≤ 115; omega)⟩ dX0_least_1 (fun r1 H locs hw hS => ?_)
  refine lv_if_ne (tgt := 13) hx hb dX0_least_4 (by decide) (fun c2 => ?_) (fun c2 => ?_)
  · have hw := hw.2 c2
    refine lv_aload_n hx hb dX0_least_13 rfl (lv_at hl 0 rfl) ?_
    refine inv_q352 hC hA hfl hS hl.1 hw ⟨Nat.le_of_ble_eq_true rfl, Nat.le_of_ble_eq_true rfl⟩ (Nat.le_of_ble_eq_true rfl) ⟨(by show _ ≤ 25; omega), (by show _ ≤ 115; omega)⟩ dX0_least_14 (fun r3 X4 vs H locs hw hv9 hS => ?_)
    refine lv_pop hx hb dX0_least_17 rfl ?_
    refine lv_aload_n hx hb dX0_least_18 rfl (lv_at hl 0 rfl) ?_
    refine lv_iload_n hx hb dX0_least_19 rfl (lv_at hl 1 rfl) ?_
    refine inv_q531 hC hA hS hl.1 hw ⟨Nat.le_of_ble_eq_true rfl, Nat.le_of_ble_eq_true rfl⟩ (Nat.le_of_ble_eq_true rfl) ⟨(by show _ ≤ 25; omega), (by show _ ≤ 115; omega)⟩ dX0_least_20 (fun r5 H locs hw hS => ?_)
    exact wRetl hC hS hw (by omega) (by omega) dX0_least_23
  · have hw := hw.1 c2
    refine lv_bipush (v := (-2)) hx hb dX0_least_7 (by decide) ?_
    refine inv_q348 hC hS hl.1 hw ⟨Nat.le_of_ble_eq_true rfl, Nat.le_of_ble_eq_true rfl⟩ (Nat.le_of_ble_eq_true rfl) ⟨(by show _ ≤ 25; omega), (by show _ ≤ 115; omega)⟩ dX0_least_9 (fun r6 H locs hw hS => ?_)
    exact wRetl hC hS hw (by omega) (by omega) dX0_least_12
abbrev v_X0_least (X : XS) (p1 : Int32) (post : Int64 → XS → Prop) : Prop := w_X0_least p1 post X
set_option maxHeartbeats 4000000 in
set_option maxRecDepth 100000 in
theorem met_X0_least (l : Launch) (hfl : l.stackTraces = false) (D : va_G) (dT : Nat → ClassId) (a : Nat → Nat) (sz : Nat) (X : XS) (vs0 : XE) (p1 : Int32) (post : Int64 → XS → Prop) (hw : v_X0_least X p1 post) : Met l yX0_least (ws_ yX0_least cX0_least 2 (some .long)) rmX0_least (wPc D dT (XW dT a) (XI vs0) sz (X, vs0) [.ref (a 0), .int p1]) (va_Ql (fun r u9 => post r u9.1) (wB D (XW dT a) (XI vs0) (va_A ((XW dT a) (X, vs0)) sz)) (va_A ((XW dT a) (X, vs0)) sz)) 25 115 (va_A ((XW dT a) (X, vs0)) sz) :=
  wEnt (Q := fun A => (va_Ql (fun r u9 => post r u9.1) (wB D (XW dT a) (XI vs0) A) A)) (by decide) (Nat.le_of_ble_eq_true rfl) (fun p e s m below meth c A ls hC _ hA hS hl => k_X0_least_0 hC hA hfl _ hS hl ⟨by omega, by omega⟩ hw) sz
theorem hd_X0_least : yX0_least.cls ≠ "java/lang/invoke/MethodHandle" ∧ yX0_least.cls ≠ "java/lang/invoke/VarHandle" ∧ (parseMethodDescriptor yX0_least.desc).map (fun d => d.parameters.length) = some 1 := by decide +kernel
/-! LeastFrames.fault -/
def w_X0_fault (post : Int32 → XS → Prop) (X : XS) : Prop :=
  v_X0_looks X (fun r1 X2 => post (X_fault X2) X2)
abbrev rmX0_fault : Room := { frames := 12, cells := 25, slots := 115, locals := 273 }
set_option maxHeartbeats 4000000 in
set_option maxRecDepth 100000 in
theorem k_X0_fault_0 {p : Program} {l : Launch} {e : Env} {s : State} {m : MethodId} {args : Array Value} {below : List Frame} {meth : Method} {c : Code} {D : va_G} {dT : Nat → ClassId} {a : Nat → Nat} {A : Nat → Prop} {vs0 : XE} {post : Int32 → XS → Prop} (hC : wCx RX0 cX0_fault 1 (some .int) D dT p s m args meth c) (hA : wAz A s) (hfl : l.stackTraces = false) (X : XS) {vs : XE} {H : Heap} {locs : List Loc} {ls : Array Slot} {cells slots : Nat} (hS : StX D dT a A s vs0 X vs H locs) (hl : lv_has ls 1 [(0, .ref (a 0))]) (hc : cells + 25 ≤ 25 ∧ slots + 115 ≤ 115) (hw : w_X0_fault post X) : W p l e rmX0_fault s m args below meth c H locs cells slots (MQ below (va_Qi (fun r u9 => post r u9.1) (wB D (XW dT a) (XI vs0) A) A) args s 25 115 A) (F0 m 0 ls []) := by
  have hx := hC.1
  have hb := hC.2.1
  have hown := hC.2.2.2.1
  have hts := hC.2.2.2.2.1
  unfold w_X0_fault at hw
  obtain ⟨hc1, hc2⟩ := hc
  refine lv_aload_n hx hb dX0_fault_0 rfl (lv_at hl 0 rfl) ?_
  refine inv_q352 hC hA hfl hS hl.1 hw ⟨Nat.le_of_ble_eq_true rfl, Nat.le_of_ble_eq_true rfl⟩ (Nat.le_of_ble_eq_true rfl) ⟨(by show _ ≤ 25; omega), (by show _ ≤ 115; omega)⟩ dX0_fault_1 (fun r1 X2 vs H locs hw hv9 hS => ?_)
  refine lv_pop hx hb dX0_fault_4 rfl ?_
  refine lv_aload_n hx hb dX0_fault_5 rfl (lv_at hl 0 rfl) ?_
  refine ld_q199 hC hS dX0_fault_6 ?_
  exact wReti hC hS hw (by omega) (by omega) dX0_fault_9
abbrev v_X0_fault (X : XS) (post : Int32 → XS → Prop) : Prop := w_X0_fault post X
set_option maxHeartbeats 4000000 in
set_option maxRecDepth 100000 in
theorem met_X0_fault (l : Launch) (hfl : l.stackTraces = false) (D : va_G) (dT : Nat → ClassId) (a : Nat → Nat) (sz : Nat) (X : XS) (vs0 : XE) (post : Int32 → XS → Prop) (hw : v_X0_fault X post) : Met l yX0_fault (ws_ yX0_fault cX0_fault 1 (some .int)) rmX0_fault (wPc D dT (XW dT a) (XI vs0) sz (X, vs0) [.ref (a 0)]) (va_Qi (fun r u9 => post r u9.1) (wB D (XW dT a) (XI vs0) (va_A ((XW dT a) (X, vs0)) sz)) (va_A ((XW dT a) (X, vs0)) sz)) 25 115 (va_A ((XW dT a) (X, vs0)) sz) :=
  wEnt (Q := fun A => (va_Qi (fun r u9 => post r u9.1) (wB D (XW dT a) (XI vs0) A) A)) (by decide) (Nat.le_of_ble_eq_true rfl) (fun p e s m below meth c A ls hC _ hA hS hl => k_X0_fault_0 hC hA hfl _ hS hl ⟨by omega, by omega⟩ hw) sz
theorem hd_X0_fault : yX0_fault.cls ≠ "java/lang/invoke/MethodHandle" ∧ yX0_fault.cls ≠ "java/lang/invoke/VarHandle" ∧ (parseMethodDescriptor yX0_fault.desc).map (fun d => d.parameters.length) = some 0 := by decide +kernel
/-! LeastFrames.frame -/
def w_X0_frame (post : Int32 → XS → Prop) (X : XS) : Prop :=
  v_X0_looks X (fun r1 X2 => (r1 = (0 : Int32) → (post ((-3) : Int32) X2)) ∧ (¬ r1 = (0 : Int32) → (post (X_frame X2) X2)))
abbrev rmX0_frame : Room := { frames := 12, cells := 25, slots := 115, locals := 273 }
set_option maxHeartbeats 4000000 in
set_option maxRecDepth 100000 in
theorem k_X0_frame_0 {p : Program} {l : Launch} {e : Env} {s : State} {m : MethodId} {args : Array Value} {below : List Frame} {meth : Method} {c : Code} {D : va_G} {dT : Nat → ClassId} {a : Nat → Nat} {A : Nat → Prop} {vs0 : XE} {post : Int32 → XS → Prop} (hC : wCx RX0 cX0_frame 1 (some .int) D dT p s m args meth c) (hA : wAz A s) (hfl : l.stackTraces = false) (X : XS) {vs : XE} {H : Heap} {locs : List Loc} {ls : Array Slot} {cells slots : Nat} (hS : StX D dT a A s vs0 X vs H locs) (hl : lv_has ls 1 [(0, .ref (a 0))]) (hc : cells + 25 ≤ 25 ∧ slots + 115 ≤ 115) (hw : w_X0_frame post X) : W p l e rmX0_frame s m args below meth c H locs cells slots (MQ below (va_Qi (fun r u9 => post r u9.1) (wB D (XW dT a) (XI vs0) A) A) args s 25 115 A) (F0 m 0 ls []) := by
  have hx := hC.1
  have hb := hC.2.1
  have hown := hC.2.2.2.1
  have hts := hC.2.2.2.2.1
  unfold w_X0_frame at hw
  obtain ⟨hc1, hc2⟩ := hc
  refine lv_aload_n hx hb dX0_frame_0 rfl (lv_at hl 0 rfl) ?_
  refine inv_q352 hC hA hfl hS hl.1 hw ⟨Nat.le_of_ble_eq_true rfl, Nat.le_of_ble_eq_true rfl⟩ (Nat.le_of_ble_eq_true rfl) ⟨(by show _ ≤ 25; omega), (by show _ ≤ 115; omega)⟩ dX0_frame_1 (fun r1 X2 vs H locs hw hv9 hS => ?_)
  refine lv_if_eq (tgt := 14) hx hb dX0_frame_4 (by decide) (fun c3 => ?_) (fun c3 => ?_)
  · have hw := hw.1 c3
    refine lv_bipush (v := (-3)) hx hb dX0_frame_14 (by decide) ?_
    exact wReti hC hS hw (by omega) (by omega) dX0_frame_16
  · have hw := hw.2 c3
    refine lv_aload_n hx hb dX0_frame_7 rfl (lv_at hl 0 rfl) ?_
    refine ld_q201 hC hS dX0_frame_8 ?_
    refine lv_goto (tgt := 16) hx hb dX0_frame_11 (by decide) ?_
    exact wReti hC hS hw (by omega) (by omega) dX0_frame_16
abbrev v_X0_frame (X : XS) (post : Int32 → XS → Prop) : Prop := w_X0_frame post X
set_option maxHeartbeats 4000000 in
set_option maxRecDepth 100000 in
theorem met_X0_frame (l : Launch) (hfl : l.stackTraces = false) (D : va_G) (dT : Nat → ClassId) (a : Nat → Nat) (sz : Nat) (X : XS) (vs0 : XE) (post : Int32 → XS → Prop) (hw : v_X0_frame X post) : Met l yX0_frame (ws_ yX0_frame cX0_frame 1 (some .int)) rmX0_frame (wPc D dT (XW dT a) (XI vs0) sz (X, vs0) [.ref (a 0)]) (va_Qi (fun r u9 => post r u9.1) (wB D (XW dT a) (XI vs0) (va_A ((XW dT a) (X, vs0)) sz)) (va_A ((XW dT a) (X, vs0)) sz)) 25 115 (va_A ((XW dT a) (X, vs0)) sz) :=
  wEnt (Q := fun A => (va_Qi (fun r u9 => post r u9.1) (wB D (XW dT a) (XI vs0) A) A)) (by decide) (Nat.le_of_ble_eq_true rfl) (fun p e s m below meth c A ls hC _ hA hS hl => k_X0_frame_0 hC hA hfl _ hS hl ⟨by omega, by omega⟩ hw) sz
theorem hd_X0_frame : yX0_frame.cls ≠ "java/lang/invoke/MethodHandle" ∧ yX0_frame.cls ≠ "java/lang/invoke/VarHandle" ∧ (parseMethodDescriptor yX0_frame.desc).map (fun d => d.parameters.length) = some 0 := by decide +kernel
/-! LeastFrames.pull -/
def w_X0_pull (p1 : Int32) (p2 : Int32) (post : Int64 → XS → Prop) (X : XS) : Prop :=
  v_X0_isPair X p1 (fun r1 => (r1 = (0 : Int32) → (v_X0_no ((-2) : Int32) (fun r3 => post r3 X))) ∧ (¬ r1 = (0 : Int32) → (v_X0_isTwo p2 (fun r4 => (r4 = (0 : Int32) → (v_X0_no ((-2) : Int32) (fun r9 => post r9 X))) ∧ (¬ r4 = (0 : Int32) → (v_X0_looks X (fun r6 X7 => v_X0_pullBy X7 p1 p2 (fun r8 => post r8 X7))))))))
abbrev rmX0_pull : Room := { frames := 12, cells := 25, slots := 115, locals := 273 }
set_option maxHeartbeats 4000000 in
set_option maxRecDepth 100000 in
theorem k_X0_pull_0 {p : Program} {l : Launch} {e : Env} {s : State} {m : MethodId} {args : Array Value} {below : List Frame} {meth : Method} {c : Code} {D : va_G} {dT : Nat → ClassId} {a : Nat → Nat} {A : Nat → Prop} {vs0 : XE} {p1 : Int32} {p2 : Int32} {post : Int64 → XS → Prop} (hC : wCx RX0 cX0_pull 3 (some .long) D dT p s m args meth c) (hA : wAz A s) (hfl : l.stackTraces = false) (X : XS) {vs : XE} {H : Heap} {locs : List Loc} {ls : Array Slot} {cells slots : Nat} (hS : StX D dT a A s vs0 X vs H locs) (hl : lv_has ls 3 [(0, .ref (a 0)), (1, .int p1), (2, .int p2)]) (hc : cells + 25 ≤ 25 ∧ slots + 115 ≤ 115) (hw : w_X0_pull p1 p2 post X) : W p l e rmX0_pull s m args below meth c H locs cells slots (MQ below (va_Ql (fun r u9 => post r u9.1) (wB D (XW dT a) (XI vs0) A) A) args s 25 115 A) (F0 m 0 ls []) := by
  have hx := hC.1
  have hb := hC.2.1
  have hown := hC.2.2.2.1
  have hts := hC.2.2.2.2.1
  unfold w_X0_pull at hw
  obtain ⟨hc1, hc2⟩ := hc
  refine lv_aload_n hx hb dX0_pull_0 rfl (lv_at hl 0 rfl) ?_
  refine lv_iload_n hx hb dX0_pull_1 rfl (lv_at hl 1 rfl) ?_
  refine inv_q277 hC hA hS hl.1 hw ⟨Nat.le_of_ble_eq_true rfl, Nat.le_of_ble_eq_true rfl⟩ (Nat.le_of_ble_eq_true rfl) ⟨(by show _ ≤ 25; omega), (by show _ ≤ 115; omega)⟩ dX0_pull_2 (fun r1 H locs hw hS => ?_)
  refine lv_if_eq (tgt := 15) hx hb dX0_pull_5 (by decide) (fun c2 => ?_) (fun c2 => ?_)
  · have hw := hw.1 c2
    refine lv_bipush (v := (-2)) hx hb dX0_pull_15 (by decide) ?_
    refine inv_q348 hC hS hl.1 hw ⟨Nat.le_of_ble_eq_true rfl, Nat.le_of_ble_eq_true rfl⟩ (Nat.le_of_ble_eq_true rfl) ⟨(by show _ ≤ 25; omega), (by show _ ≤ 115; omega)⟩ dX0_pull_17 (fun r3 H locs hw hS => ?_)
    exact wRetl hC hS hw (by omega) (by omega) dX0_pull_20
  · have hw := hw.2 c2
    refine lv_iload_n hx hb dX0_pull_8 rfl (lv_at hl 2 rfl) ?_
    refine inv_q267 hC hS hl.1 hw ⟨Nat.le_of_ble_eq_true rfl, Nat.le_of_ble_eq_true rfl⟩ (Nat.le_of_ble_eq_true rfl) ⟨(by show _ ≤ 25; omega), (by show _ ≤ 115; omega)⟩ dX0_pull_9 (fun r4 H locs hw hS => ?_)
    refine lv_if_ne (tgt := 21) hx hb dX0_pull_12 (by decide) (fun c5 => ?_) (fun c5 => ?_)
    · have hw := hw.2 c5
      refine lv_aload_n hx hb dX0_pull_21 rfl (lv_at hl 0 rfl) ?_
      refine inv_q352 hC hA hfl hS hl.1 hw ⟨Nat.le_of_ble_eq_true rfl, Nat.le_of_ble_eq_true rfl⟩ (Nat.le_of_ble_eq_true rfl) ⟨(by show _ ≤ 25; omega), (by show _ ≤ 115; omega)⟩ dX0_pull_22 (fun r6 X7 vs H locs hw hv9 hS => ?_)
      refine lv_pop hx hb dX0_pull_25 rfl ?_
      refine lv_aload_n hx hb dX0_pull_26 rfl (lv_at hl 0 rfl) ?_
      refine lv_iload_n hx hb dX0_pull_27 rfl (lv_at hl 1 rfl) ?_
      refine lv_iload_n hx hb dX0_pull_28 rfl (lv_at hl 2 rfl) ?_
      refine inv_q551 hC hA hS hl.1 hw ⟨Nat.le_of_ble_eq_true rfl, Nat.le_of_ble_eq_true rfl⟩ (Nat.le_of_ble_eq_true rfl) ⟨(by show _ ≤ 25; omega), (by show _ ≤ 115; omega)⟩ dX0_pull_29 (fun r8 H locs hw hS => ?_)
      exact wRetl hC hS hw (by omega) (by omega) dX0_pull_32
    · have hw := hw.1 c5
      refine lv_bipush (v := (-2)) hx hb dX0_pull_15 (by decide) ?_
      refine inv_q348 hC hS hl.1 hw ⟨Nat.le_of_ble_eq_true rfl, Nat.le_of_ble_eq_true rfl⟩ (Nat.le_of_ble_eq_true rfl) ⟨(by show _ ≤ 25; omega), (by show _ ≤ 115; omega)⟩ dX0_pull_17 (fun r9 H locs hw hS => ?_)
      exact wRetl hC hS hw (by omega) (by omega) dX0_pull_20
abbrev v_X0_pull (X : XS) (p1 : Int32) (p2 : Int32) (post : Int64 → XS → Prop) : Prop := w_X0_pull p1 p2 post X
set_option maxHeartbeats 4000000 in
set_option maxRecDepth 100000 in
theorem met_X0_pull (l : Launch) (hfl : l.stackTraces = false) (D : va_G) (dT : Nat → ClassId) (a : Nat → Nat) (sz : Nat) (X : XS) (vs0 : XE) (p1 : Int32) (p2 : Int32) (post : Int64 → XS → Prop) (hw : v_X0_pull X p1 p2 post) : Met l yX0_pull (ws_ yX0_pull cX0_pull 3 (some .long)) rmX0_pull (wPc D dT (XW dT a) (XI vs0) sz (X, vs0) [.ref (a 0), .int p1, .int p2]) (va_Ql (fun r u9 => post r u9.1) (wB D (XW dT a) (XI vs0) (va_A ((XW dT a) (X, vs0)) sz)) (va_A ((XW dT a) (X, vs0)) sz)) 25 115 (va_A ((XW dT a) (X, vs0)) sz) :=
  wEnt (Q := fun A => (va_Ql (fun r u9 => post r u9.1) (wB D (XW dT a) (XI vs0) A) A)) (by decide) (Nat.le_of_ble_eq_true rfl) (fun p e s m below meth c A ls hC _ hA hS hl => k_X0_pull_0 hC hA hfl _ hS hl ⟨by omega, by omega⟩ hw) sz
theorem hd_X0_pull : yX0_pull.cls ≠ "java/lang/invoke/MethodHandle" ∧ yX0_pull.cls ≠ "java/lang/invoke/VarHandle" ∧ (parseMethodDescriptor yX0_pull.desc).map (fun d => d.parameters.length) = some 2 := by decide +kernel
/-! LeastFrames.lacking -/
def w_X0_lacking (p1 : Int32) (post : Vol → XS → Prop) (postX : Exu → XS → Prop) (X : XS) : Prop :=
  v_X0_volumeOf X ((X_bars X) &&& ((1 <<< (p1 &&& 31)) ^^^ (-1))) (fun r1 X2 => post r1 X2) (fun x3 X2 => ∀ q4 : Nat, (postX (q4, p1, x3.2) X2))
abbrev rmX0_lacking : Room := { frames := 9, cells := 3, slots := 16, locals := 208 }
set_option maxHeartbeats 4000000 in
set_option maxRecDepth 100000 in
theorem k_X0_lacking_0 {p : Program} {l : Launch} {e : Env} {s : State} {m : MethodId} {args : Array Value} {below : List Frame} {meth : Method} {c : Code} {D : va_G} {dT : Nat → ClassId} {a : Nat → Nat} {A : Nat → Prop} {vs0 : XE} {p1 : Int32} {post : Vol → XS → Prop} {postX : Exu → XS → Prop} (hC : wCx RX0 cX0_lacking 3 (some (.object "LeastFrames$Volume")) D dT p s m args meth c) (hA : wAz A s) (hfl : l.stackTraces = false) (htb : c.exceptionTable.toList = tableOf [(0, 14, 15, 109)]) (X : XS) {vs : XE} {H : Heap} {locs : List Loc} {ls : Array Slot} {cells slots : Nat} (hS : StX D dT a A s vs0 X vs H locs) (hl : lv_has ls 3 [(0, .ref (a 0)), (1, .int p1)]) (hc : cells + 3 ≤ 3 ∧ slots + 16 ≤ 16) (hw : w_X0_lacking p1 post postX X) : W p l e rmX0_lacking s m args below meth c H locs cells slots (vx_MQ below (va_Qr (fun u9 : (XS × XE) × Vol => post u9.2 u9.1.1) (fun u9 a9 t9 => a9 = u9.2.1 ∧ volC u9.2 ∈ u9.1.2 ∧ wB D (XW dT a) (XI vs0) A u9.1 t9) A) (XCT D dT a vs0 postX A) args s 3 16 A) (F0 m 0 ls []) := by
  have hx := hC.1
  have hb := hC.2.1
  have hown := hC.2.2.2.1
  have hts := hC.2.2.2.2.1
  unfold w_X0_lacking at hw
  obtain ⟨hc1, hc2⟩ := hc
  refine lv_aload_n hx hb dX0_lacking_0 rfl (lv_at hl 0 rfl) ?_
  refine lv_aload_n hx hb dX0_lacking_1 rfl (lv_at hl 0 rfl) ?_
  refine ld_q197 hC hS dX0_lacking_2 ?_
  refine lv_iconst (v := 1) hx hb dX0_lacking_5 (by decide) ?_
  refine lv_iload_n hx hb dX0_lacking_6 rfl (lv_at hl 1 rfl) ?_
  refine lv_ishl hx hb dX0_lacking_7 ?_
  refine lv_iconst (v := (-1)) hx hb dX0_lacking_8 (by decide) ?_
  refine lv_ixor hx hb dX0_lacking_9 ?_
  refine lv_iand hx hb dX0_lacking_10 ?_
  refine inv_q361 hC hA hfl hS hl.1 hw ⟨Nat.le_of_ble_eq_true rfl, Nat.le_of_ble_eq_true rfl⟩ (Nat.le_of_ble_eq_true rfl) ⟨(by show _ ≤ 3; omega), (by show _ ≤ 16; omega)⟩ dX0_lacking_11 (fun x3 X2 vs H locs hw hv9 hS f_x3 => ?_) (fun r1 X2 vs H locs hw hv9 hS f_r1 => ?_)
  · obtain ⟨ce9, g1, g2, g3⟩ := xUnb_cell hC hS f_x3
    refine vx_catch (name := "LeastFrames$Unborne") (E := "LeastFrames$Unborne") hown [] ⟨0, 14, 15, 109⟩ [] (by rw [htb]; rfl) (fun z hz => absurd hz List.not_mem_nil) (by decide) (by decide) (hts _ q356) (va_Nw.use rfl (hC.2.2.2.2.2.2.2.2.1 _ nw_q397)) g1 g2 g3 ?_
    refine lv_astore_n (lv' := [(2, .ref x3.1), (0, .ref (a 0)), (1, .int p1)]) hx hb dX0_lacking_15 rfl hl (by decide) rfl (fun ls hl => ?_)
    refine nwF_q568 hC hA hS ⟨(by show _ ≤ 3; omega), (by show _ ≤ 16; omega)⟩ dX0_lacking_16 (fun q4 H hS hq_q4 => ?_)
    have hw := hw q4
    refine lv_dup hx hb dX0_lacking_19 rfl ?_
    refine lv_iload_n hx hb dX0_lacking_20 rfl (lv_at hl 2 rfl) ?_
    refine lv_aload_n hx hb dX0_lacking_21 rfl (lv_at hl 0 rfl) ?_
    refine mkF_q581 hfl hC hA hS hq_q4 f_x3 hl.1 ⟨Nat.le_of_ble_eq_true rfl, Nat.le_of_ble_eq_true rfl⟩ (Nat.le_of_ble_eq_true rfl) ⟨(by show _ ≤ 3; omega), (by show _ ≤ 16; omega)⟩ dX0_lacking_22 (fun vs H locs hS fx5 hkp hm9 => ?_)
    refine vx_athrow hx hb dX0_lacking_25 ?_
    obtain ⟨ce9, g1, g2, g3⟩ := xUnt_cell hC hS fx5
    exact xOutT hC (by rw [htb]; decide) hw fx5 hm9 hS g1 g2 g3 (by omega) (by omega)
  · exact vx_ret (xRetV hC hS f_r1 hw (by omega) (by omega) dX0_lacking_14)
abbrev v_X0_lacking (X : XS) (p1 : Int32) (post : Vol → XS → Prop) (postX : Exu → XS → Prop) : Prop := w_X0_lacking p1 post postX X
set_option maxHeartbeats 4000000 in
set_option maxRecDepth 100000 in
theorem met_X0_lacking (l : Launch) (hfl : l.stackTraces = false) (D : va_G) (dT : Nat → ClassId) (a : Nat → Nat) (sz : Nat) (X : XS) (vs0 : XE) (p1 : Int32) (post : Vol → XS → Prop) (postX : Exu → XS → Prop) (hw : v_X0_lacking X p1 post postX) : vx_Met l yX0_lacking (wsW_ yX0_lacking cX0_lacking 3 (some (.object "LeastFrames$Volume")) [(0, 14, 15, 109)]) rmX0_lacking (wPc D dT (XW dT a) (XI vs0) sz (X, vs0) [.ref (a 0), .int p1]) (va_Qr (fun u9 : (XS × XE) × Vol => post u9.2 u9.1.1) (fun u9 a9 t9 => a9 = u9.2.1 ∧ volC u9.2 ∈ u9.1.2 ∧ wB D (XW dT a) (XI vs0) (va_A ((XW dT a) (X, vs0)) sz) u9.1 t9) (va_A ((XW dT a) (X, vs0)) sz)) (XCT D dT a vs0 postX (va_A ((XW dT a) (X, vs0)) sz)) 3 16 (va_A ((XW dT a) (X, vs0)) sz) :=
  xEntH (Q := fun A => (va_Qr (fun u9 : (XS × XE) × Vol => post u9.2 u9.1.1) (fun u9 a9 t9 => a9 = u9.2.1 ∧ volC u9.2 ∈ u9.1.2 ∧ wB D (XW dT a) (XI vs0) A u9.1 t9) A)) (XC := fun A => (XCT D dT a vs0 postX A)) (by decide) (Nat.le_of_ble_eq_true rfl) (fun p e s m below meth c A ls hC htb hA hS hl => k_X0_lacking_0 hC hA hfl htb _ hS hl ⟨by omega, by omega⟩ hw) sz
theorem hd_X0_lacking : yX0_lacking.cls ≠ "java/lang/invoke/MethodHandle" ∧ yX0_lacking.cls ≠ "java/lang/invoke/VarHandle" ∧ (parseMethodDescriptor yX0_lacking.desc).map (fun d => d.parameters.length) = some 1 := by decide +kernel
section
variable {p : Program} {l : Launch} {e : Env} {R : Room} {s : State} {m : MethodId} {args : Array Value} {below : List Frame} {meth : Method} {c : Code} {H : Heap} {locs : List Loc} {cells slots : Nat} {Q : State → Prop} {cc : ByteArray} {nL : Nat} {ret : Option FieldType} {pc : Nat} {ls : Array Slot} {rest : List Value}
set_option maxHeartbeats 4000000 in
set_option maxRecDepth 100000 in
theorem inv_q569 {D : va_G} {dT : Nat → ClassId} {a : Nat → Nat} {A : Nat → Prop} {vs0 : XE} {vs : XE} {X : XS} {p1 : Int32} {post : Vol → XS → Prop} {postX : Exu → XS → Prop} (hC : wCx RX0 cc nL ret D dT p s m args meth c) (hA : wAz A s) (hfl : l.stackTraces = false) (hS : StX D dT a A s vs0 X vs H locs) (hl : ls.size = nL) (hw : v_X0_lacking X p1 post postX) (hR : rmX0_lacking.frames + 1 ≤ R.frames ∧ 8 + (3 + 11) + rmX0_lacking.locals ≤ R.locals) (hrest : (rest.map fun v => v.category).sum ≤ 8) (hf : cells + 3 ≤ R.cells ∧ slots + 16 ≤ R.slots) (hdg : decode cc pc = .ok (.invokevirtual 231, 3)) (kx : ∀ (x : Exu) (X1 : XS) (vs1 : XE) (H1 : Heap) (locs1 : List Loc), postX x X1 → (∀ v ∈ vs, v ∈ vs1) → StX D dT a A s vs0 X1 vs1 H1 locs1 → isUnt x vs1 → FM H1 x.1 → vx_W p l e R s m args below meth c H1 locs1 (cells + 3) (slots + 16) Q (F0 m pc ls rest) x.1) (kk : ∀ (r : Vol) (X1 : XS) (vs1 : XE) (H1 : Heap) (locs1 : List Loc), post r X1 → (∀ v ∈ vs, v ∈ vs1) → StX D dT a A s vs0 X1 vs1 H1 locs1 → volC r ∈ vs1 → W p l e R s m args below meth c H1 locs1 (cells + 3) (slots + 16) Q (F0 m (pc + 3) ls (.ref r.1 :: rest))) : W p l e R s m args below meth c H locs cells slots Q (F0 m pc ls (.int p1 :: .ref (a 0) :: rest)) := by
  exact xTr hA hS (xRunVX (As := [.int p1]) (rest := rest) (mc := 3) (ms := 16) 0 hC (met_X0_lacking l hfl D dT a H.size X vs p1 post postX hw) (lw_VW q569 q571 qs26 q85 q572) ⟨⟨rfl, rfl⟩, hd_X0_lacking, hR, hf⟩ XW_0 rfl rfl hA hS.self hl rfl hrest hdg) (fun x X1 vs1 H1 locs1 h1 h2 h3 h4 => kx x X1 vs1 H1 locs1 h1 h2 h3 h4.1 h4.2) kk
end
/-! LeastFrames.withoutBy -/
def w_X0_withoutBy (p1 : Int32) (p2 : Int32) (post : Int64 → XS → Prop) (X : XS) : Prop :=
  v_X0_lacking X p1 (fun r1 X2 => v_X6_tells X2 r1 p2 (fun r4 => post r4 X2)) (fun x3 X2 => v_X0_no ((-3) : Int32) (fun r5 => post r5 X2))
abbrev rmX0_withoutBy : Room := { frames := 10, cells := 3, slots := 16, locals := 230 }
set_option maxHeartbeats 4000000 in
set_option maxRecDepth 100000 in
theorem k_X0_withoutBy_0 {p : Program} {l : Launch} {e : Env} {s : State} {m : MethodId} {args : Array Value} {below : List Frame} {meth : Method} {c : Code} {D : va_G} {dT : Nat → ClassId} {a : Nat → Nat} {A : Nat → Prop} {vs0 : XE} {p1 : Int32} {p2 : Int32} {post : Int64 → XS → Prop} (hC : wCx RX0 cX0_withoutBy 4 (some .long) D dT p s m args meth c) (hA : wAz A s) (hfl : l.stackTraces = false) (htb : c.exceptionTable.toList = tableOf [(0, 9, 10, 226)]) (X : XS) {vs : XE} {H : Heap} {locs : List Loc} {ls : Array Slot} {cells slots : Nat} (hS : StX D dT a A s vs0 X vs H locs) (hl : lv_has ls 4 [(0, .ref (a 0)), (1, .int p1), (2, .int p2)]) (hc : cells + 3 ≤ 3 ∧ slots + 16 ≤ 16) (hw : w_X0_withoutBy p1 p2 post X) : W p l e rmX0_withoutBy s m args below meth c H locs cells slots (MQ below (va_Ql (fun r u9 => post r u9.1) (wB D (XW dT a) (XI vs0) A) A) args s 3 16 A) (F0 m 0 ls []) := by
  have hx := hC.1
  have hb := hC.2.1
  have hown := hC.2.2.2.1
  have hts := hC.2.2.2.2.1
  unfold w_X0_withoutBy at hw
  obtain ⟨hc1, hc2⟩ := hc
  refine lv_aload_n hx hb dX0_withoutBy_0 rfl (lv_at hl 0 rfl) ?_
  refine lv_iload_n hx hb dX0_withoutBy_1 rfl (lv_at hl 1 rfl) ?_
  refine inv_q569 hC hA hfl hS hl.1 hw ⟨Nat.le_of_ble_eq_true rfl, Nat.le_of_ble_eq_true rfl⟩ (Nat.le_of_ble_eq_true rfl) ⟨(by show _ ≤ 3; omega), (by show _ ≤ 16; omega)⟩ dX0_withoutBy_2 (fun x3 X2 vs H locs hw hv9 hS f_x3 m_x3 => ?_) (fun r1 X2 vs H locs hw hv9 hS f_r1 => ?_)
  · obtain ⟨ce9, g1, g2, g3⟩ := xUnt_cell hC hS f_x3
    refine vx_catch (name := "LeastFrames$Untried") (E := "LeastFrames$Untried") hown [] ⟨0, 9, 10, 226⟩ [] (by rw [htb]; rfl) (fun z hz => absurd hz List.not_mem_nil) (by decide) (by decide) (hts _ q568) (va_Nw.use rfl (hC.2.2.2.2.2.2.2.2.1 _ nw_q574)) g1 g2 g3 ?_
    refine lv_astore_n (lv' := [(3, .ref x3.1), (0, .ref (a 0)), (1, .int p1), (2, .int p2)]) hx hb dX0_withoutBy_10 rfl hl (by decide) rfl (fun ls hl => ?_)
    refine lv_bipush (v := (-3)) hx hb dX0_withoutBy_11 (by decide) ?_
    refine inv_q348 hC hS hl.1 hw ⟨Nat.le_of_ble_eq_true rfl, Nat.le_of_ble_eq_true rfl⟩ (Nat.le_of_ble_eq_true rfl) ⟨(by show _ ≤ 3; omega), (by show _ ≤ 16; omega)⟩ dX0_withoutBy_13 (fun r5 H locs hw hS => ?_)
    exact wRetl hC hS hw (by omega) (by omega) dX0_withoutBy_16
  · refine lv_iload_n hx hb dX0_withoutBy_5 rfl (lv_at hl 2 rfl) ?_
    refine inv_q535 hC hA hS f_r1 hl.1 hw ⟨Nat.le_of_ble_eq_true rfl, Nat.le_of_ble_eq_true rfl⟩ (Nat.le_of_ble_eq_true rfl) ⟨(by show _ ≤ 3; omega), (by show _ ≤ 16; omega)⟩ dX0_withoutBy_6 (fun r4 H locs hw hS => ?_)
    exact wRetl hC hS hw (by omega) (by omega) dX0_withoutBy_9
abbrev v_X0_withoutBy (X : XS) (p1 : Int32) (p2 : Int32) (post : Int64 → XS → Prop) : Prop := w_X0_withoutBy p1 p2 post X
set_option maxHeartbeats 4000000 in
set_option maxRecDepth 100000 in
theorem met_X0_withoutBy (l : Launch) (hfl : l.stackTraces = false) (D : va_G) (dT : Nat → ClassId) (a : Nat → Nat) (sz : Nat) (X : XS) (vs0 : XE) (p1 : Int32) (p2 : Int32) (post : Int64 → XS → Prop) (hw : v_X0_withoutBy X p1 p2 post) : Met l yX0_withoutBy (wsW_ yX0_withoutBy cX0_withoutBy 4 (some .long) [(0, 9, 10, 226)]) rmX0_withoutBy (wPc D dT (XW dT a) (XI vs0) sz (X, vs0) [.ref (a 0), .int p1, .int p2]) (va_Ql (fun r u9 => post r u9.1) (wB D (XW dT a) (XI vs0) (va_A ((XW dT a) (X, vs0)) sz)) (va_A ((XW dT a) (X, vs0)) sz)) 3 16 (va_A ((XW dT a) (X, vs0)) sz) :=
  wEntH (Q := fun A => (va_Ql (fun r u9 => post r u9.1) (wB D (XW dT a) (XI vs0) A) A)) (by decide) (Nat.le_of_ble_eq_true rfl) (fun p e s m below meth c A ls hC htb hA hS hl => k_X0_withoutBy_0 hC hA hfl htb _ hS hl ⟨by omega, by omega⟩ hw) sz
theorem hd_X0_withoutBy : yX0_withoutBy.cls ≠ "java/lang/invoke/MethodHandle" ∧ yX0_withoutBy.cls ≠ "java/lang/invoke/VarHandle" ∧ (parseMethodDescriptor yX0_withoutBy.desc).map (fun d => d.parameters.length) = some 2 := by decide +kernel
section
variable {p : Program} {l : Launch} {e : Env} {R : Room} {s : State} {m : MethodId} {args : Array Value} {below : List Frame} {meth : Method} {c : Code} {H : Heap} {locs : List Loc} {cells slots : Nat} {Q : State → Prop} {cc : ByteArray} {nL : Nat} {ret : Option FieldType} {pc : Nat} {ls : Array Slot} {rest : List Value}
set_option maxHeartbeats 4000000 in
set_option maxRecDepth 100000 in
theorem inv_q564 {D : va_G} {dT : Nat → ClassId} {a : Nat → Nat} {A : Nat → Prop} {vs0 : XE} {vs : XE} {X : XS} {p1 : Int32} {p2 : Int32} {post : Int64 → XS → Prop} (hC : wCx RX0 cc nL ret D dT p s m args meth c) (hA : wAz A s) (hfl : l.stackTraces = false) (hS : StX D dT a A s vs0 X vs H locs) (hl : ls.size = nL) (hw : v_X0_withoutBy X p1 p2 post) (hR : rmX0_withoutBy.frames + 1 ≤ R.frames ∧ 8 + (4 + 11) + rmX0_withoutBy.locals ≤ R.locals) (hrest : (rest.map fun v => v.category).sum ≤ 8) (hf : cells + 3 ≤ R.cells ∧ slots + 16 ≤ R.slots) (hdg : decode cc pc = .ok (.invokevirtual 237, 3))  (kk : ∀ (r : Int64) (X1 : XS) (vs1 : XE) (H1 : Heap) (locs1 : List Loc), post r X1 → (∀ v ∈ vs, v ∈ vs1) → StX D dT a A s vs0 X1 vs1 H1 locs1 → W p l e R s m args below meth c H1 locs1 (cells + 3) (slots + 16) Q (F0 m (pc + 3) ls (.long r :: rest))) : W p l e R s m args below meth c H locs cells slots Q (F0 m pc ls (.int p2 :: .int p1 :: .ref (a 0) :: rest)) := by
  exact xNl hA hS (wRunVW (As := [.int p1, .int p2]) (rest := rest) (mc := 3) (ms := 16) 0 hC (met_X0_withoutBy l hfl D dT a H.size X vs p1 p2 post hw) (lw_VW q564 q566 qs25 q85 q567) ⟨⟨rfl, rfl⟩, hd_X0_withoutBy, hR, hf⟩ XW_0 rfl rfl hA hS.self hl rfl hrest hdg) kk
end
/-! LeastFrames.without -/
def w_X0_without (p1 : Int32) (p2 : Int32) (post : Int64 → XS → Prop) (X : XS) : Prop :=
  v_X0_isBar X p1 (fun r1 => (r1 = (0 : Int32) → (v_X0_no ((-2) : Int32) (fun r3 => post r3 X))) ∧ (¬ r1 = (0 : Int32) → (v_X0_isTwo p2 (fun r4 => (r4 = (0 : Int32) → (v_X0_no ((-2) : Int32) (fun r6 => post r6 X))) ∧ (¬ r4 = (0 : Int32) → (v_X0_withoutBy X p1 p2 (fun r7 X8 => post r7 X8)))))))
abbrev rmX0_without : Room := { frames := 11, cells := 3, slots := 16, locals := 253 }
set_option maxHeartbeats 4000000 in
set_option maxRecDepth 100000 in
theorem k_X0_without_0 {p : Program} {l : Launch} {e : Env} {s : State} {m : MethodId} {args : Array Value} {below : List Frame} {meth : Method} {c : Code} {D : va_G} {dT : Nat → ClassId} {a : Nat → Nat} {A : Nat → Prop} {vs0 : XE} {p1 : Int32} {p2 : Int32} {post : Int64 → XS → Prop} (hC : wCx RX0 cX0_without 3 (some .long) D dT p s m args meth c) (hA : wAz A s) (hfl : l.stackTraces = false) (X : XS) {vs : XE} {H : Heap} {locs : List Loc} {ls : Array Slot} {cells slots : Nat} (hS : StX D dT a A s vs0 X vs H locs) (hl : lv_has ls 3 [(0, .ref (a 0)), (1, .int p1), (2, .int p2)]) (hc : cells + 3 ≤ 3 ∧ slots + 16 ≤ 16) (hw : w_X0_without p1 p2 post X) : W p l e rmX0_without s m args below meth c H locs cells slots (MQ below (va_Ql (fun r u9 => post r u9.1) (wB D (XW dT a) (XI vs0) A) A) args s 3 16 A) (F0 m 0 ls []) := by
  have hx := hC.1
  have hb := hC.2.1
  have hown := hC.2.2.2.1
  have hts := hC.2.2.2.2.1
  unfold w_X0_without at hw
  obtain ⟨hc1, hc2⟩ := hc
  refine lv_aload_n hx hb dX0_without_0 rfl (lv_at hl 0 rfl) ?_
  refine lv_iload_n hx hb dX0_without_1 rfl (lv_at hl 1 rfl) ?_
  refine inv_q560 hC hA hS hl.1 hw ⟨Nat.le_of_ble_eq_true rfl, Nat.le_of_ble_eq_true rfl⟩ (Nat.le_of_ble_eq_true rfl) ⟨(by show _ ≤ 3; omega), (by show _ ≤ 16; omega)⟩ dX0_without_2 (fun r1 H locs hw hS => ?_)
  refine lv_if_eq (tgt := 24) hx hb dX0_without_5 (by decide) (fun c2 => ?_) (fun c2 => ?_)
  · have hw := hw.1 c2
    refine lv_bipush (v := (-2)) hx hb dX0_without_24 (by decide) ?_
    refine inv_q348 hC hS hl.1 hw ⟨Nat.le_of_ble_eq_true rfl, Nat.le_of_ble_eq_true rfl⟩ (Nat.le_of_ble_eq_true rfl) ⟨(by show _ ≤ 3; omega), (by show _ ≤ 16; omega)⟩ dX0_without_26 (fun r3 H locs hw hS => ?_)
    exact wRetl hC hS hw (by omega) (by omega) dX0_without_29
  · have hw := hw.2 c2
    refine lv_iload_n hx hb dX0_without_8 rfl (lv_at hl 2 rfl) ?_
    refine inv_q267 hC hS hl.1 hw ⟨Nat.le_of_ble_eq_true rfl, Nat.le_of_ble_eq_true rfl⟩ (Nat.le_of_ble_eq_true rfl) ⟨(by show _ ≤ 3; omega), (by show _ ≤ 16; omega)⟩ dX0_without_9 (fun r4 H locs hw hS => ?_)
    refine lv_if_eq (tgt := 24) hx hb dX0_without_12 (by decide) (fun c5 => ?_) (fun c5 => ?_)
    · have hw := hw.1 c5
      refine lv_bipush (v := (-2)) hx hb dX0_without_24 (by decide) ?_
      refine inv_q348 hC hS hl.1 hw ⟨Nat.le_of_ble_eq_true rfl, Nat.le_of_ble_eq_true rfl⟩ (Nat.le_of_ble_eq_true rfl) ⟨(by show _ ≤ 3; omega), (by show _ ≤ 16; omega)⟩ dX0_without_26 (fun r6 H locs hw hS => ?_)
      exact wRetl hC hS hw (by omega) (by omega) dX0_without_29
    · have hw := hw.2 c5
      refine lv_aload_n hx hb dX0_without_15 rfl (lv_at hl 0 rfl) ?_
      refine lv_iload_n hx hb dX0_without_16 rfl (lv_at hl 1 rfl) ?_
      refine lv_iload_n hx hb dX0_without_17 rfl (lv_at hl 2 rfl) ?_
      refine inv_q564 hC hA hfl hS hl.1 hw ⟨Nat.le_of_ble_eq_true rfl, Nat.le_of_ble_eq_true rfl⟩ (Nat.le_of_ble_eq_true rfl) ⟨(by show _ ≤ 3; omega), (by show _ ≤ 16; omega)⟩ dX0_without_18 (fun r7 X8 vs H locs hw hv9 hS => ?_)
      refine lv_goto (tgt := 29) hx hb dX0_without_21 (by decide) ?_
      exact wRetl hC hS hw (by omega) (by omega) dX0_without_29
abbrev v_X0_without (X : XS) (p1 : Int32) (p2 : Int32) (post : Int64 → XS → Prop) : Prop := w_X0_without p1 p2 post X
set_option maxHeartbeats 4000000 in
set_option maxRecDepth 100000 in
theorem met_X0_without (l : Launch) (hfl : l.stackTraces = false) (D : va_G) (dT : Nat → ClassId) (a : Nat → Nat) (sz : Nat) (X : XS) (vs0 : XE) (p1 : Int32) (p2 : Int32) (post : Int64 → XS → Prop) (hw : v_X0_without X p1 p2 post) : Met l yX0_without (ws_ yX0_without cX0_without 3 (some .long)) rmX0_without (wPc D dT (XW dT a) (XI vs0) sz (X, vs0) [.ref (a 0), .int p1, .int p2]) (va_Ql (fun r u9 => post r u9.1) (wB D (XW dT a) (XI vs0) (va_A ((XW dT a) (X, vs0)) sz)) (va_A ((XW dT a) (X, vs0)) sz)) 3 16 (va_A ((XW dT a) (X, vs0)) sz) :=
  wEnt (Q := fun A => (va_Ql (fun r u9 => post r u9.1) (wB D (XW dT a) (XI vs0) A) A)) (by decide) (Nat.le_of_ble_eq_true rfl) (fun p e s m below meth c A ls hC _ hA hS hl => k_X0_without_0 hC hA hfl _ hS hl ⟨by omega, by omega⟩ hw) sz
theorem hd_X0_without : yX0_without.cls ≠ "java/lang/invoke/MethodHandle" ∧ yX0_without.cls ≠ "java/lang/invoke/VarHandle" ∧ (parseMethodDescriptor yX0_without.desc).map (fun d => d.parameters.length) = some 2 := by decide +kernel
/-! LeastFrames.whyBy -/
def w_X0_whyBy (p1 : Int32) (post : Int32 → XS → Prop) (X : XS) : Prop :=
  v_X0_lacking X p1 (fun r1 X2 => post ((-1) : Int32) X2) (fun x3 X2 => post x3.2.2 X2)
abbrev rmX0_whyBy : Room := { frames := 10, cells := 3, slots := 16, locals := 230 }
set_option maxHeartbeats 4000000 in
set_option maxRecDepth 100000 in
theorem k_X0_whyBy_0 {p : Program} {l : Launch} {e : Env} {s : State} {m : MethodId} {args : Array Value} {below : List Frame} {meth : Method} {c : Code} {D : va_G} {dT : Nat → ClassId} {a : Nat → Nat} {A : Nat → Prop} {vs0 : XE} {p1 : Int32} {post : Int32 → XS → Prop} (hC : wCx RX0 cX0_whyBy 3 (some .int) D dT p s m args meth c) (hA : wAz A s) (hfl : l.stackTraces = false) (htb : c.exceptionTable.toList = tableOf [(0, 7, 8, 226)]) (X : XS) {vs : XE} {H : Heap} {locs : List Loc} {ls : Array Slot} {cells slots : Nat} (hS : StX D dT a A s vs0 X vs H locs) (hl : lv_has ls 3 [(0, .ref (a 0)), (1, .int p1)]) (hc : cells + 3 ≤ 3 ∧ slots + 16 ≤ 16) (hw : w_X0_whyBy p1 post X) : W p l e rmX0_whyBy s m args below meth c H locs cells slots (MQ below (va_Qi (fun r u9 => post r u9.1) (wB D (XW dT a) (XI vs0) A) A) args s 3 16 A) (F0 m 0 ls []) := by
  have hx := hC.1
  have hb := hC.2.1
  have hown := hC.2.2.2.1
  have hts := hC.2.2.2.2.1
  unfold w_X0_whyBy at hw
  obtain ⟨hc1, hc2⟩ := hc
  refine lv_aload_n hx hb dX0_whyBy_0 rfl (lv_at hl 0 rfl) ?_
  refine lv_iload_n hx hb dX0_whyBy_1 rfl (lv_at hl 1 rfl) ?_
  refine inv_q569 hC hA hfl hS hl.1 hw ⟨Nat.le_of_ble_eq_true rfl, Nat.le_of_ble_eq_true rfl⟩ (Nat.le_of_ble_eq_true rfl) ⟨(by show _ ≤ 3; omega), (by show _ ≤ 16; omega)⟩ dX0_whyBy_2 (fun x3 X2 vs H locs hw hv9 hS f_x3 m_x3 => ?_) (fun r1 X2 vs H locs hw hv9 hS f_r1 => ?_)
  · obtain ⟨ce9, g1, g2, g3⟩ := xUnt_cell hC hS f_x3
    refine vx_catch (name := "LeastFrames$Untried") (E := "LeastFrames$Untried") hown [] ⟨0, 7, 8, 226⟩ [] (by rw [htb]; rfl) (fun z hz => absurd hz List.not_mem_nil) (by decide) (by decide) (hts _ q568) (va_Nw.use rfl (hC.2.2.2.2.2.2.2.2.1 _ nw_q574)) g1 g2 g3 ?_
    refine lv_astore_n (lv' := [(2, .ref x3.1), (0, .ref (a 0)), (1, .int p1)]) hx hb dX0_whyBy_8 rfl hl (by decide) rfl (fun ls hl => ?_)
    refine lv_aload_n hx hb dX0_whyBy_9 rfl (lv_at hl 0 rfl) ?_
    refine inv_q604 hC hA hS f_x3 m_x3 hl.1 ⟨Nat.le_of_ble_eq_true rfl, Nat.le_of_ble_eq_true rfl⟩ (Nat.le_of_ble_eq_true rfl) ⟨(by show _ ≤ 3; omega), (by show _ ≤ 16; omega)⟩ dX0_whyBy_10 (fun H locs hS => ?_)
    exact wReti hC hS hw (by omega) (by omega) dX0_whyBy_13
  · refine lv_pop hx hb dX0_whyBy_5 rfl ?_
    refine lv_iconst (v := (-1)) hx hb dX0_whyBy_6 (by decide) ?_
    exact wReti hC hS hw (by omega) (by omega) dX0_whyBy_7
abbrev v_X0_whyBy (X : XS) (p1 : Int32) (post : Int32 → XS → Prop) : Prop := w_X0_whyBy p1 post X
set_option maxHeartbeats 4000000 in
set_option maxRecDepth 100000 in
theorem met_X0_whyBy (l : Launch) (hfl : l.stackTraces = false) (D : va_G) (dT : Nat → ClassId) (a : Nat → Nat) (sz : Nat) (X : XS) (vs0 : XE) (p1 : Int32) (post : Int32 → XS → Prop) (hw : v_X0_whyBy X p1 post) : Met l yX0_whyBy (wsW_ yX0_whyBy cX0_whyBy 3 (some .int) [(0, 7, 8, 226)]) rmX0_whyBy (wPc D dT (XW dT a) (XI vs0) sz (X, vs0) [.ref (a 0), .int p1]) (va_Qi (fun r u9 => post r u9.1) (wB D (XW dT a) (XI vs0) (va_A ((XW dT a) (X, vs0)) sz)) (va_A ((XW dT a) (X, vs0)) sz)) 3 16 (va_A ((XW dT a) (X, vs0)) sz) :=
  wEntH (Q := fun A => (va_Qi (fun r u9 => post r u9.1) (wB D (XW dT a) (XI vs0) A) A)) (by decide) (Nat.le_of_ble_eq_true rfl) (fun p e s m below meth c A ls hC htb hA hS hl => k_X0_whyBy_0 hC hA hfl htb _ hS hl ⟨by omega, by omega⟩ hw) sz
theorem hd_X0_whyBy : yX0_whyBy.cls ≠ "java/lang/invoke/MethodHandle" ∧ yX0_whyBy.cls ≠ "java/lang/invoke/VarHandle" ∧ (parseMethodDescriptor yX0_whyBy.desc).map (fun d => d.parameters.length) = some 1 := by decide +kernel
section
variable {p : Program} {l : Launch} {e : Env} {R : Room} {s : State} {m : MethodId} {args : Array Value} {below : List Frame} {meth : Method} {c : Code} {H : Heap} {locs : List Loc} {cells slots : Nat} {Q : State → Prop} {cc : ByteArray} {nL : Nat} {ret : Option FieldType} {pc : Nat} {ls : Array Slot} {rest : List Value}
set_option maxHeartbeats 4000000 in
set_option maxRecDepth 100000 in
theorem inv_q600 {D : va_G} {dT : Nat → ClassId} {a : Nat → Nat} {A : Nat → Prop} {vs0 : XE} {vs : XE} {X : XS} {p1 : Int32} {post : Int32 → XS → Prop} (hC : wCx RX0 cc nL ret D dT p s m args meth c) (hA : wAz A s) (hfl : l.stackTraces = false) (hS : StX D dT a A s vs0 X vs H locs) (hl : ls.size = nL) (hw : v_X0_whyBy X p1 post) (hR : rmX0_whyBy.frames + 1 ≤ R.frames ∧ 8 + (3 + 11) + rmX0_whyBy.locals ≤ R.locals) (hrest : (rest.map fun v => v.category).sum ≤ 8) (hf : cells + 3 ≤ R.cells ∧ slots + 16 ≤ R.slots) (hdg : decode cc pc = .ok (.invokevirtual 242, 3))  (kk : ∀ (r : Int32) (X1 : XS) (vs1 : XE) (H1 : Heap) (locs1 : List Loc), post r X1 → (∀ v ∈ vs, v ∈ vs1) → StX D dT a A s vs0 X1 vs1 H1 locs1 → W p l e R s m args below meth c H1 locs1 (cells + 3) (slots + 16) Q (F0 m (pc + 3) ls (.int r :: rest))) : W p l e R s m args below meth c H locs cells slots Q (F0 m pc ls (.int p1 :: .ref (a 0) :: rest)) := by
  exact xNi hA hS (wRunVW (As := [.int p1]) (rest := rest) (mc := 3) (ms := 16) 0 hC (met_X0_whyBy l hfl D dT a H.size X vs p1 post hw) (lw_VW q600 q602 qs27 q85 q603) ⟨⟨rfl, rfl⟩, hd_X0_whyBy, hR, hf⟩ XW_0 rfl rfl hA hS.self hl rfl hrest hdg) kk
end
/-! LeastFrames.why -/
def w_X0_why (p1 : Int32) (post : Int32 → XS → Prop) (X : XS) : Prop :=
  v_X0_isBar X p1 (fun r1 => (r1 = (0 : Int32) → (post ((-2) : Int32) X)) ∧ (¬ r1 = (0 : Int32) → (v_X0_whyBy X p1 (fun r3 X4 => post r3 X4))))
abbrev rmX0_why : Room := { frames := 11, cells := 3, slots := 16, locals := 252 }
set_option maxHeartbeats 4000000 in
set_option maxRecDepth 100000 in
theorem k_X0_why_0 {p : Program} {l : Launch} {e : Env} {s : State} {m : MethodId} {args : Array Value} {below : List Frame} {meth : Method} {c : Code} {D : va_G} {dT : Nat → ClassId} {a : Nat → Nat} {A : Nat → Prop} {vs0 : XE} {p1 : Int32} {post : Int32 → XS → Prop} (hC : wCx RX0 cX0_why 2 (some .int) D dT p s m args meth c) (hA : wAz A s) (hfl : l.stackTraces = false) (X : XS) {vs : XE} {H : Heap} {locs : List Loc} {ls : Array Slot} {cells slots : Nat} (hS : StX D dT a A s vs0 X vs H locs) (hl : lv_has ls 2 [(0, .ref (a 0)), (1, .int p1)]) (hc : cells + 3 ≤ 3 ∧ slots + 16 ≤ 16) (hw : w_X0_why p1 post X) : W p l e rmX0_why s m args below meth c H locs cells slots (MQ below (va_Qi (fun r u9 => post r u9.1) (wB D (XW dT a) (XI vs0) A) A) args s 3 16 A) (F0 m 0 ls []) := by
  have hx := hC.1
  have hb := hC.2.1
  have hown := hC.2.2.2.1
  have hts := hC.2.2.2.2.1
  unfold w_X0_why at hw
  obtain ⟨hc1, hc2⟩ := hc
  refine lv_aload_n hx hb dX0_why_0 rfl (lv_at hl 0 rfl) ?_
  refine lv_iload_n hx hb dX0_why_1 rfl (lv_at hl 1 rfl) ?_
  refine inv_q560 hC hA hS hl.1 hw ⟨Nat.le_of_ble_eq_true rfl, Nat.le_of_ble_eq_true rfl⟩ (Nat.le_of_ble_eq_true rfl) ⟨(by show _ ≤ 3; omega), (by show _ ≤ 16; omega)⟩ dX0_why_2 (fun r1 H locs hw hS => ?_)
  refine lv_if_eq (tgt := 16) hx hb dX0_why_5 (by decide) (fun c2 => ?_) (fun c2 => ?_)
  · have hw := hw.1 c2
    refine lv_bipush (v := (-2)) hx hb dX0_why_16 (by decide) ?_
    exact wReti hC hS hw (by omega) (by omega) dX0_why_18
  · have hw := hw.2 c2
    refine lv_aload_n hx hb dX0_why_8 rfl (lv_at hl 0 rfl) ?_
    refine lv_iload_n hx hb dX0_why_9 rfl (lv_at hl 1 rfl) ?_
    refine inv_q600 hC hA hfl hS hl.1 hw ⟨Nat.le_of_ble_eq_true rfl, Nat.le_of_ble_eq_true rfl⟩ (Nat.le_of_ble_eq_true rfl) ⟨(by show _ ≤ 3; omega), (by show _ ≤ 16; omega)⟩ dX0_why_10 (fun r3 X4 vs H locs hw hv9 hS => ?_)
    refine lv_goto (tgt := 18) hx hb dX0_why_13 (by decide) ?_
    exact wReti hC hS hw (by omega) (by omega) dX0_why_18
abbrev v_X0_why (X : XS) (p1 : Int32) (post : Int32 → XS → Prop) : Prop := w_X0_why p1 post X
set_option maxHeartbeats 4000000 in
set_option maxRecDepth 100000 in
theorem met_X0_why (l : Launch) (hfl : l.stackTraces = false) (D : va_G) (dT : Nat → ClassId) (a : Nat → Nat) (sz : Nat) (X : XS) (vs0 : XE) (p1 : Int32) (post : Int32 → XS → Prop) (hw : v_X0_why X p1 post) : Met l yX0_why (ws_ yX0_why cX0_why 2 (some .int)) rmX0_why (wPc D dT (XW dT a) (XI vs0) sz (X, vs0) [.ref (a 0), .int p1]) (va_Qi (fun r u9 => post r u9.1) (wB D (XW dT a) (XI vs0) (va_A ((XW dT a) (X, vs0)) sz)) (va_A ((XW dT a) (X, vs0)) sz)) 3 16 (va_A ((XW dT a) (X, vs0)) sz) :=
  wEnt (Q := fun A => (va_Qi (fun r u9 => post r u9.1) (wB D (XW dT a) (XI vs0) A) A)) (by decide) (Nat.le_of_ble_eq_true rfl) (fun p e s m below meth c A ls hC _ hA hS hl => k_X0_why_0 hC hA hfl _ hS hl ⟨by omega, by omega⟩ hw) sz
theorem hd_X0_why : yX0_why.cls ≠ "java/lang/invoke/MethodHandle" ∧ yX0_why.cls ≠ "java/lang/invoke/VarHandle" ∧ (parseMethodDescriptor yX0_why.desc).map (fun d => d.parameters.length) = some 1 := by decide +kernel
/-! LeastFrames.neededNow -/
def w_X0_neededNow_49 (K4 : XS → Int32 → Int32 → Prop) (post : Int32 → XS → Prop) (X : XS) (x2 : Int32) (y0 : Int32) (y1 : Int32) : Prop :=
  ∀ v1 : Int32, v1 = y1 ||| y0 → (∀ v2 : Int32, v2 = x2 + 1 → (K4 X v1 v2))
def w_X0_neededNow_4b (K4 : XS → Int32 → Int32 → Prop) (post : Int32 → XS → Prop) (X : XS) (x1 : Int32) (x2 : Int32) : Prop :=
  v_X0_pairs X (fun r1 => (r1 ≤ x2 → (post x1 X)) ∧ (¬ r1 ≤ x2 → (v_X0_isIn (X_bars X) x2 (fun r3 => (r3 = (0 : Int32) → (∀ v13 : Int32, v13 = x2 + 1 → (K4 X x1 v13))) ∧ (¬ r3 = (0 : Int32) → (∃ v5, X_least X = some v5 ∧ (v_X0_lacking X x2 (fun r6 X7 => v_X6_isLess X7 v5 r6 (fun r9 => (r9 = (0 : Int32) → (w_X0_neededNow_49 K4 post X7 x2 0 x1)) ∧ (¬ r9 = (0 : Int32) → (w_X0_neededNow_49 K4 post X7 x2 (1 <<< (x2 &&& 31)) x1)))) (fun x8 X7 => ∀ v11 : Int32, v11 = x1 ||| (1 <<< (x8.2.1 &&& 31)) → (∀ v12 : Int32, v12 = x2 + 1 → (K4 X7 v11 v12))))))))))
def w_X0_neededNow_4 (post : Int32 → XS → Prop) : Nat → XS → Int32 → Int32 → Prop
  | 0, _, _, _ => False
  | n + 1, X, x1, x2 => w_X0_neededNow_4b  (w_X0_neededNow_4 post n) post X x1 x2
def w_X0_neededNow (post : Int32 → XS → Prop) (X : XS) : Prop :=
  ∃ n, n ≤ 11 ∧ w_X0_neededNow_4 post n X 0 0
abbrev rmX0_neededNow : Room := { frames := 10, cells := 33, slots := 176, locals := 230 }
set_option maxHeartbeats 4000000 in
set_option maxRecDepth 100000 in
theorem k_X0_neededNow_49 {p : Program} {l : Launch} {e : Env} {s : State} {m : MethodId} {args : Array Value} {below : List Frame} {meth : Method} {c : Code} {D : va_G} {dT : Nat → ClassId} {a : Nat → Nat} {A : Nat → Prop} {vs0 : XE} {nK : Nat} {K4 : XS → Int32 → Int32 → Prop} {post : Int32 → XS → Prop} (hC : wCx RX0 cX0_neededNow 4 (some .int) D dT p s m args meth c) (hA : wAz A s) (hfl : l.stackTraces = false) (htb : c.exceptionTable.toList = tableOf [(26, 51, 54, 226)]) (hK4 : ∀ (X : XS) (x1 : Int32) (x2 : Int32), K4 X x1 x2 → ∀ {vs : XE} {H : Heap} {locs : List Loc} {ls : Array Slot} {cells slots : Nat}, StX D dT a A s vs0 X vs H locs → lv_has ls 4 [(0, .ref (a 0)), (1, .int x1), (2, .int x2)] → cells + (nK * 3 + 0) ≤ 33 ∧ slots + (nK * 16 + 0) ≤ 176 → W p l e rmX0_neededNow s m args below meth c H locs cells slots (MQ below (va_Qi (fun r u9 => post r u9.1) (wB D (XW dT a) (XI vs0) A) A) args s 33 176 A) (F0 m 4 ls [])) (X : XS) (x2 : Int32) (y0 : Int32) (y1 : Int32) {vs : XE} {H : Heap} {locs : List Loc} {ls : Array Slot} {cells slots : Nat} (hS : StX D dT a A s vs0 X vs H locs) (hl : lv_has ls 4 [(0, .ref (a 0)), (2, .int x2)]) (hc : cells + (0 + (nK * 3 + 0)) ≤ 33 ∧ slots + (0 + (nK * 16 + 0)) ≤ 176) (hw : w_X0_neededNow_49 K4 post X x2 y0 y1) : W p l e rmX0_neededNow s m args below meth c H locs cells slots (MQ below (va_Qi (fun r u9 => post r u9.1) (wB D (XW dT a) (XI vs0) A) A) args s 33 176 A) (F0 m 49 ls [.int y0, .int y1]) := by
  have hx := hC.1
  have hb := hC.2.1
  have hown := hC.2.2.2.1
  have hts := hC.2.2.2.2.1
  unfold w_X0_neededNow_49 at hw
  obtain ⟨hc1, hc2⟩ := hc
  refine lv_ior hx hb dX0_neededNow_49 ?_
  refine lv_topi (fun v1 ev1 => ?_)
  have hw := hw v1 ev1
  refine lv_istore_n (lv' := [(1, .int v1), (0, .ref (a 0)), (2, .int x2)]) hx hb dX0_neededNow_50 rfl hl (by decide) rfl (fun ls hl => ?_)
  refine lv_goto (tgt := 64) hx hb dX0_neededNow_51 (by decide) ?_
  obtain ⟨v2, ev2⟩ : ∃ y : Int32, y = x2 + 1 := ⟨_, rfl⟩
  have hw := hw v2 ev2
  refine lv_iinc (v := v2) (lv' := [(2, .int v2), (1, .int v1), (0, .ref (a 0))]) hx hb dX0_neededNow_64 hl (k := 2) rfl (by rw [ev2]; rfl) (by decide) rfl (fun ls hl => ?_)
  refine lv_goto (tgt := 4) hx hb dX0_neededNow_67 (by decide) ?_
  exact hK4 _ _ _ hw hS (lv_sub hl [2, 1, 0] rfl) ⟨by omega, by omega⟩
set_option maxHeartbeats 4000000 in
set_option maxRecDepth 100000 in
theorem k_X0_neededNow_4b {p : Program} {l : Launch} {e : Env} {s : State} {m : MethodId} {args : Array Value} {below : List Frame} {meth : Method} {c : Code} {D : va_G} {dT : Nat → ClassId} {a : Nat → Nat} {A : Nat → Prop} {vs0 : XE} {nK : Nat} {K4 : XS → Int32 → Int32 → Prop} {post : Int32 → XS → Prop} (hC : wCx RX0 cX0_neededNow 4 (some .int) D dT p s m args meth c) (hA : wAz A s) (hfl : l.stackTraces = false) (htb : c.exceptionTable.toList = tableOf [(26, 51, 54, 226)]) (hK4 : ∀ (X : XS) (x1 : Int32) (x2 : Int32), K4 X x1 x2 → ∀ {vs : XE} {H : Heap} {locs : List Loc} {ls : Array Slot} {cells slots : Nat}, StX D dT a A s vs0 X vs H locs → lv_has ls 4 [(0, .ref (a 0)), (1, .int x1), (2, .int x2)] → cells + (nK * 3 + 0) ≤ 33 ∧ slots + (nK * 16 + 0) ≤ 176 → W p l e rmX0_neededNow s m args below meth c H locs cells slots (MQ below (va_Qi (fun r u9 => post r u9.1) (wB D (XW dT a) (XI vs0) A) A) args s 33 176 A) (F0 m 4 ls [])) (X : XS) (x1 : Int32) (x2 : Int32) {vs : XE} {H : Heap} {locs : List Loc} {ls : Array Slot} {cells slots : Nat} (hS : StX D dT a A s vs0 X vs H locs) (hl : lv_has ls 4 [(0, .ref (a 0)), (1, .int x1), (2, .int x2)]) (hc : cells + (3 + (nK * 3 + 0)) ≤ 33 ∧ slots + (16 + (nK * 16 + 0)) ≤ 176) (hw : w_X0_neededNow_4b K4 post X x1 x2) : W p l e rmX0_neededNow s m args below meth c H locs cells slots (MQ below (va_Qi (fun r u9 => post r u9.1) (wB D (XW dT a) (XI vs0) A) A) args s 33 176 A) (F0 m 4 ls []) := by
  have hx := hC.1
  have hb := hC.2.1
  have hown := hC.2.2.2.1
  have hts := hC.2.2.2.2.1
  unfold w_X0_neededNow_4b at hw
  obtain ⟨hc1, hc2⟩ := hc
  refine lv_iload_n hx hb dX0_neededNow_4 rfl (lv_at hl 2 rfl) ?_
  refine lv_aload_n hx hb dX0_neededNow_5 rfl (lv_at hl 0 rfl) ?_
  refine inv_q250 hC hA hS hl.1 hw ⟨Nat.le_of_ble_eq_true rfl, Nat.le_of_ble_eq_true rfl⟩ (Nat.le_of_ble_eq_true rfl) ⟨(by show _ ≤ 33; omega), (by show _ ≤ 176; omega)⟩ dX0_neededNow_6 (fun r1 H locs hw hS => ?_)
  refine lv_icmp_ge (tgt := 70) hx hb dX0_neededNow_9 (by decide) (fun c2 => ?_) (fun c2 => ?_)
  · have hw := hw.1 c2
    refine lv_iload_n hx hb dX0_neededNow_70 rfl (lv_at hl 1 rfl) ?_
    exact wReti hC hS hw (by omega) (by omega) dX0_neededNow_71
  · have hw := hw.2 c2
    refine lv_aload_n hx hb dX0_neededNow_12 rfl (lv_at hl 0 rfl) ?_
    refine ld_q197 hC hS dX0_neededNow_13 ?_
    refine lv_iload_n hx hb dX0_neededNow_16 rfl (lv_at hl 2 rfl) ?_
    refine inv_q341 hC hS hl.1 hw ⟨Nat.le_of_ble_eq_true rfl, Nat.le_of_ble_eq_true rfl⟩ (Nat.le_of_ble_eq_true rfl) ⟨(by show _ ≤ 33; omega), (by show _ ≤ 176; omega)⟩ dX0_neededNow_17 (fun r3 H locs hw hS => ?_)
    refine lv_if_ne (tgt := 26) hx hb dX0_neededNow_20 (by decide) (fun c4 => ?_) (fun c4 => ?_)
    · have hw := hw.2 c4
      refine lv_iload_n hx hb dX0_neededNow_26 rfl (lv_at hl 1 rfl) ?_
      refine lv_aload_n hx hb dX0_neededNow_27 rfl (lv_at hl 0 rfl) ?_
      obtain ⟨v5, hl_v5, hw⟩ := hw
      have f_v5 := hS.2.2.2.1 v5 hl_v5
      refine ld_q200 hC hS dX0_neededNow_28 ?_
      refine opt_ref hl_v5 ?_
      refine lv_aload_n hx hb dX0_neededNow_31 rfl (lv_at hl 0 rfl) ?_
      refine lv_iload_n hx hb dX0_neededNow_32 rfl (lv_at hl 2 rfl) ?_
      refine inv_q569 hC hA hfl hS hl.1 hw ⟨Nat.le_of_ble_eq_true rfl, Nat.le_of_ble_eq_true rfl⟩ (Nat.le_of_ble_eq_true rfl) ⟨(by show _ ≤ 33; omega), (by show _ ≤ 176; omega)⟩ dX0_neededNow_33 (fun x8 X7 vs H locs hw hv9 hS f_x8 m_x8 => ?_) (fun r6 X7 vs H locs hw hv9 hS f_r6 => ?_)
      · have f_v5 := hv9 _ f_v5
        obtain ⟨ce9, g1, g2, g3⟩ := xUnt_cell hC hS f_x8
        refine vx_catch (name := "LeastFrames$Untried") (E := "LeastFrames$Untried") hown [] ⟨26, 51, 54, 226⟩ [] (by rw [htb]; rfl) (fun z hz => absurd hz List.not_mem_nil) (by decide) (by decide) (hts _ q568) (va_Nw.use rfl (hC.2.2.2.2.2.2.2.2.1 _ nw_q574)) g1 g2 g3 ?_
        refine lv_astore_n (lv' := [(3, .ref x8.1), (0, .ref (a 0)), (1, .int x1), (2, .int x2)]) hx hb dX0_neededNow_54 rfl hl (by decide) rfl (fun ls hl => ?_)
        refine lv_iload_n hx hb dX0_neededNow_55 rfl (lv_at hl 2 rfl) ?_
        refine lv_iconst (v := 1) hx hb dX0_neededNow_56 (by decide) ?_
        refine lv_aload_n hx hb dX0_neededNow_57 rfl (lv_at hl 0 rfl) ?_
        refine ldb hC hS f_x8 dX0_neededNow_58 ?_
        refine lv_ishl hx hb dX0_neededNow_61 ?_
        refine lv_ior hx hb dX0_neededNow_62 ?_
        refine lv_topi (fun v11 ev11 => ?_)
        have hw := hw v11 ev11
        refine lv_istore_n (lv' := [(1, .int v11), (3, .ref x8.1), (0, .ref (a 0)), (2, .int x2)]) hx hb dX0_neededNow_63 rfl hl (by decide) rfl (fun ls hl => ?_)
        obtain ⟨v12, ev12⟩ : ∃ y : Int32, y = x2 + 1 := ⟨_, rfl⟩
        have hw := hw v12 ev12
        refine lv_iinc (v := v12) (lv' := [(2, .int v12), (1, .int v11), (3, .ref x8.1), (0, .ref (a 0))]) hx hb dX0_neededNow_64 hl (k := 3) rfl (by rw [ev12]; rfl) (by decide) rfl (fun ls hl => ?_)
        refine lv_goto (tgt := 4) hx hb dX0_neededNow_67 (by decide) ?_
        exact hK4 _ _ _ hw hS (lv_sub hl [3, 1, 0] rfl) ⟨by omega, by omega⟩
      · have f_v5 := hv9 _ f_v5
        refine inv_q527 hC hA hS f_v5 f_r6 hl.1 hw ⟨Nat.le_of_ble_eq_true rfl, Nat.le_of_ble_eq_true rfl⟩ (Nat.le_of_ble_eq_true rfl) ⟨(by show _ ≤ 33; omega), (by show _ ≤ 176; omega)⟩ dX0_neededNow_36 (fun r9 H locs hw hS => ?_)
        refine lv_if_eq (tgt := 48) hx hb dX0_neededNow_39 (by decide) (fun c10 => ?_) (fun c10 => ?_)
        · have hw := hw.1 c10
          refine lv_iconst (v := 0) hx hb dX0_neededNow_48 (by decide) ?_
          exact k_X0_neededNow_49 hC hA hfl htb hK4 _ _ _ _ hS (lv_sub hl [0, 2] rfl) ⟨by omega, by omega⟩ hw
        · have hw := hw.2 c10
          refine lv_iconst (v := 1) hx hb dX0_neededNow_42 (by decide) ?_
          refine lv_iload_n hx hb dX0_neededNow_43 rfl (lv_at hl 2 rfl) ?_
          refine lv_ishl hx hb dX0_neededNow_44 ?_
          refine lv_goto (tgt := 49) hx hb dX0_neededNow_45 (by decide) ?_
          exact k_X0_neededNow_49 hC hA hfl htb hK4 _ _ _ _ hS (lv_sub hl [0, 2] rfl) ⟨by omega, by omega⟩ hw
    · have hw := hw.1 c4
      refine lv_goto (tgt := 64) hx hb dX0_neededNow_23 (by decide) ?_
      obtain ⟨v13, ev13⟩ : ∃ y : Int32, y = x2 + 1 := ⟨_, rfl⟩
      have hw := hw v13 ev13
      refine lv_iinc (v := v13) (lv' := [(2, .int v13), (0, .ref (a 0)), (1, .int x1)]) hx hb dX0_neededNow_64 hl (k := 2) rfl (by rw [ev13]; rfl) (by decide) rfl (fun ls hl => ?_)
      refine lv_goto (tgt := 4) hx hb dX0_neededNow_67 (by decide) ?_
      exact hK4 _ _ _ hw hS (lv_sub hl [1, 2, 0] rfl) ⟨by omega, by omega⟩
set_option maxHeartbeats 4000000 in
set_option maxRecDepth 100000 in
theorem k_X0_neededNow_4 {p : Program} {l : Launch} {e : Env} {s : State} {m : MethodId} {args : Array Value} {below : List Frame} {meth : Method} {c : Code} {D : va_G} {dT : Nat → ClassId} {a : Nat → Nat} {A : Nat → Prop} {vs0 : XE} {post : Int32 → XS → Prop} (hC : wCx RX0 cX0_neededNow 4 (some .int) D dT p s m args meth c) (hA : wAz A s) (hfl : l.stackTraces = false) (htb : c.exceptionTable.toList = tableOf [(26, 51, 54, 226)]) : ∀ (X : XS) (x1 : Int32) (x2 : Int32) (n : Nat), ∀ {vs : XE} {H : Heap} {locs : List Loc} {ls : Array Slot} {cells slots : Nat}, StX D dT a A s vs0 X vs H locs → lv_has ls 4 [(0, .ref (a 0)), (1, .int x1), (2, .int x2)] → cells + (n * 3 + 0) ≤ 33 ∧ slots + (n * 16 + 0) ≤ 176 → w_X0_neededNow_4 post n X x1 x2 → W p l e rmX0_neededNow s m args below meth c H locs cells slots (MQ below (va_Qi (fun r u9 => post r u9.1) (wB D (XW dT a) (XI vs0) A) A) args s 33 176 A) (F0 m 4 ls []) := by
  intro X x1 x2 n
  induction n generalizing X x1 x2 with
  | zero => intro vs H locs ls cells slots  hS hl hc hw; exact hw.elim
  | succ n ih =>
    intro vs H locs ls cells slots  hS hl hc hw
    exact k_X0_neededNow_4b hC hA hfl htb (fun X x1 x2 hk {vs} {H} {locs} {ls} {cells} {slots}  hS hl hc => ih X x1 x2  hS hl hc hk) X x1 x2  hS hl ⟨by omega, by omega⟩ hw
set_option maxHeartbeats 4000000 in
set_option maxRecDepth 100000 in
theorem k_X0_neededNow_0 {p : Program} {l : Launch} {e : Env} {s : State} {m : MethodId} {args : Array Value} {below : List Frame} {meth : Method} {c : Code} {D : va_G} {dT : Nat → ClassId} {a : Nat → Nat} {A : Nat → Prop} {vs0 : XE} {post : Int32 → XS → Prop} (hC : wCx RX0 cX0_neededNow 4 (some .int) D dT p s m args meth c) (hA : wAz A s) (hfl : l.stackTraces = false) (htb : c.exceptionTable.toList = tableOf [(26, 51, 54, 226)]) (X : XS) {vs : XE} {H : Heap} {locs : List Loc} {ls : Array Slot} {cells slots : Nat} (hS : StX D dT a A s vs0 X vs H locs) (hl : lv_has ls 4 [(0, .ref (a 0))]) (hc : cells + 33 ≤ 33 ∧ slots + 176 ≤ 176) (hw : w_X0_neededNow post X) : W p l e rmX0_neededNow s m args below meth c H locs cells slots (MQ below (va_Qi (fun r u9 => post r u9.1) (wB D (XW dT a) (XI vs0) A) A) args s 33 176 A) (F0 m 0 ls []) := by
  have hx := hC.1
  have hb := hC.2.1
  have hown := hC.2.2.2.1
  have hts := hC.2.2.2.2.1
  unfold w_X0_neededNow at hw
  obtain ⟨hc1, hc2⟩ := hc
  refine lv_iconst (v := 0) hx hb dX0_neededNow_0 (by decide) ?_
  refine lv_istore_n (lv' := [(1, .int 0), (0, .ref (a 0))]) hx hb dX0_neededNow_1 rfl hl (by decide) rfl (fun ls hl => ?_)
  refine lv_iconst (v := 0) hx hb dX0_neededNow_2 (by decide) ?_
  refine lv_istore_n (lv' := [(2, .int 0), (1, .int 0), (0, .ref (a 0))]) hx hb dX0_neededNow_3 rfl hl (by decide) rfl (fun ls hl => ?_)
  obtain ⟨n, hn9, hw⟩ := hw
  exact k_X0_neededNow_4 hC hA hfl htb _ _ _ n hS (lv_sub hl [2, 1, 0] rfl) ⟨by omega, by omega⟩ hw
abbrev v_X0_neededNow (X : XS) (post : Int32 → XS → Prop) : Prop := w_X0_neededNow post X
set_option maxHeartbeats 4000000 in
set_option maxRecDepth 100000 in
theorem met_X0_neededNow (l : Launch) (hfl : l.stackTraces = false) (D : va_G) (dT : Nat → ClassId) (a : Nat → Nat) (sz : Nat) (X : XS) (vs0 : XE) (post : Int32 → XS → Prop) (hw : v_X0_neededNow X post) : Met l yX0_neededNow (wsW_ yX0_neededNow cX0_neededNow 4 (some .int) [(26, 51, 54, 226)]) rmX0_neededNow (wPc D dT (XW dT a) (XI vs0) sz (X, vs0) [.ref (a 0)]) (va_Qi (fun r u9 => post r u9.1) (wB D (XW dT a) (XI vs0) (va_A ((XW dT a) (X, vs0)) sz)) (va_A ((XW dT a) (X, vs0)) sz)) 33 176 (va_A ((XW dT a) (X, vs0)) sz) :=
  wEntH (Q := fun A => (va_Qi (fun r u9 => post r u9.1) (wB D (XW dT a) (XI vs0) A) A)) (by decide) (Nat.le_of_ble_eq_true rfl) (fun p e s m below meth c A ls hC htb hA hS hl => k_X0_neededNow_0 hC hA hfl htb _ hS hl ⟨by omega, by omega⟩ hw) sz
theorem hd_X0_neededNow : yX0_neededNow.cls ≠ "java/lang/invoke/MethodHandle" ∧ yX0_neededNow.cls ≠ "java/lang/invoke/VarHandle" ∧ (parseMethodDescriptor yX0_neededNow.desc).map (fun d => d.parameters.length) = some 0 := by decide +kernel
section
variable {p : Program} {l : Launch} {e : Env} {R : Room} {s : State} {m : MethodId} {args : Array Value} {below : List Frame} {meth : Method} {c : Code} {H : Heap} {locs : List Loc} {cells slots : Nat} {Q : State → Prop} {cc : ByteArray} {nL : Nat} {ret : Option FieldType} {pc : Nat} {ls : Array Slot} {rest : List Value}
set_option maxHeartbeats 4000000 in
set_option maxRecDepth 100000 in
theorem inv_q619 {D : va_G} {dT : Nat → ClassId} {a : Nat → Nat} {A : Nat → Prop} {vs0 : XE} {vs : XE} {X : XS} {post : Int32 → XS → Prop} (hC : wCx RX0 cc nL ret D dT p s m args meth c) (hA : wAz A s) (hfl : l.stackTraces = false) (hS : StX D dT a A s vs0 X vs H locs) (hl : ls.size = nL) (hw : v_X0_neededNow X post) (hR : rmX0_neededNow.frames + 1 ≤ R.frames ∧ 8 + (4 + 11) + rmX0_neededNow.locals ≤ R.locals) (hrest : (rest.map fun v => v.category).sum ≤ 8) (hf : cells + 33 ≤ R.cells ∧ slots + 176 ≤ R.slots) (hdg : decode cc pc = .ok (.invokevirtual 248, 3))  (kk : ∀ (r : Int32) (X1 : XS) (vs1 : XE) (H1 : Heap) (locs1 : List Loc), post r X1 → (∀ v ∈ vs, v ∈ vs1) → StX D dT a A s vs0 X1 vs1 H1 locs1 → W p l e R s m args below meth c H1 locs1 (cells + 33) (slots + 176) Q (F0 m (pc + 3) ls (.int r :: rest))) : W p l e R s m args below meth c H locs cells slots Q (F0 m pc ls (.ref (a 0) :: rest)) := by
  exact xNi hA hS (wRunVW (As := []) (rest := rest) (mc := 33) (ms := 176) 0 hC (met_X0_neededNow l hfl D dT a H.size X vs post hw) (lw_VW q619 q621 qs28 q85 q622) ⟨⟨rfl, rfl⟩, hd_X0_neededNow, hR, hf⟩ XW_0 rfl rfl hA hS.self hl rfl hrest hdg) kk
end
