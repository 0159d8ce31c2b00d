/-! LeastFramesModel.crossing -/
def w_X4_crossing_105 (p1 : Int32) (p2 : Int32) (K8 : MS → Int32 → Int32 → Int32 → Prop) (K23 : MS → Int32 → Int32 → Int32 → Int32 → Prop) (post : Int32 → MS → Prop) (M : MS) (x4 : Int32) (x5 : Int32) (x6 : Int32) (y0 : Int32) (y1 : Int32) : Prop :=
  ∀ v1 : Int32, v1 = y1 - y0 → (∀ v2 : Int32, v2 = x6 + 1 → (K23 M v1 x4 x5 v2))
def w_X4_crossing_92 (p1 : Int32) (p2 : Int32) (K8 : MS → Int32 → Int32 → Int32 → Prop) (K23 : MS → Int32 → Int32 → Int32 → Int32 → Prop) (post : Int32 → MS → Prop) (M : MS) (x3 : Int32) (x5 : Int32) (x6 : Int32) (x7 : Int32) (y0 : Int32) : Prop :=
  (x7 = (0 : Int32) → (w_X4_crossing_105 p1 p2 K8 K23 post M y0 x5 x6 0 x3)) ∧ (¬ x7 = (0 : Int32) → (w_X4_crossing_105 p1 p2 K8 K23 post M y0 x5 x6 1 x3))
def w_X4_crossing_68 (p1 : Int32) (p2 : Int32) (K8 : MS → Int32 → Int32 → Int32 → Prop) (K23 : MS → Int32 → Int32 → Int32 → Int32 → Prop) (post : Int32 → MS → Prop) (M : MS) (x3 : Int32) (x4 : Int32) (x5 : Int32) (x6 : Int32) (y0 : Int32) : Prop :=
  (y0 = (0 : Int32) → (w_X4_crossing_92 p1 p2 K8 K23 post M x3 x5 x6 y0 x4)) ∧ (¬ y0 = (0 : Int32) → ((x3 = (0 : Int32) → (w_X4_crossing_92 p1 p2 K8 K23 post M x3 x5 x6 y0 ((16 * x5) + x6))) ∧ (¬ x3 = (0 : Int32) → (w_X4_crossing_92 p1 p2 K8 K23 post M x3 x5 x6 y0 x4))))
def w_X4_crossing_23b (p1 : Int32) (p2 : Int32) (K8 : MS → Int32 → Int32 → Int32 → Prop) (K23 : MS → Int32 → Int32 → Int32 → Int32 → Prop) (post : Int32 → MS → Prop) (M : MS) (x3 : Int32) (x4 : Int32) (x5 : Int32) (x6 : Int32) : Prop :=
  v_X4_pairs M (fun r1 => (r1 ≤ x6 → (∀ v3 : Int32, v3 = x5 + 1 → (K8 M x3 x4 v3))) ∧ (¬ r1 ≤ x6 → ((((p2 >>> (x5 &&& 31)) &&& 1) = (1 : Int32) → ((((p2 >>> (x6 &&& 31)) &&& 1) = (1 : Int32) → (v_X4_isCross M x5 x6 (fun r6 M7 => (r6 = (0 : Int32) → (w_X4_crossing_68 p1 p2 K8 K23 post M7 x3 x4 x5 x6 0)) ∧ (¬ r6 = (0 : Int32) → (w_X4_crossing_68 p1 p2 K8 K23 post M7 x3 x4 x5 x6 1))))) ∧ (¬ ((p2 >>> (x6 &&& 31)) &&& 1) = (1 : Int32) → (w_X4_crossing_68 p1 p2 K8 K23 post M x3 x4 x5 x6 0)))) ∧ (¬ ((p2 >>> (x5 &&& 31)) &&& 1) = (1 : Int32) → (w_X4_crossing_68 p1 p2 K8 K23 post M x3 x4 x5 x6 0)))))
def w_X4_crossing_23 (p1 : Int32) (p2 : Int32) (K8 : MS → Int32 → Int32 → Int32 → Prop) (post : Int32 → MS → Prop) : Nat → MS → Int32 → Int32 → Int32 → Int32 → Prop
  | 0, _, _, _, _, _ => False
  | n + 1, M, x3, x4, x5, x6 => w_X4_crossing_23b p1 p2 K8 (w_X4_crossing_23 p1 p2 K8 post n) post M x3 x4 x5 x6
def w_X4_crossing_8b (p1 : Int32) (p2 : Int32) (K8 : MS → Int32 → Int32 → Int32 → Prop) (post : Int32 → MS → Prop) (M : MS) (x3 : Int32) (x4 : Int32) (x5 : Int32) : Prop :=
  v_X4_pairs M (fun r1 => (r1 ≤ x5 → (post x4 M)) ∧ (¬ r1 ≤ x5 → (∀ v3 : Int32, v3 = x5 + 1 → (∃ n, w_X4_crossing_23 p1 p2 K8 post n M x3 x4 x5 v3))))
def w_X4_crossing_8 (p1 : Int32) (p2 : Int32) (post : Int32 → MS → Prop) : Nat → MS → Int32 → Int32 → Int32 → Prop
  | 0, _, _, _, _ => False
  | n + 1, M, x3, x4, x5 => w_X4_crossing_8b p1 p2 (w_X4_crossing_8 p1 p2 post n) post M x3 x4 x5
def w_X4_crossing (p1 : Int32) (p2 : Int32) (post : Int32 → MS → Prop) (M : MS) : Prop :=
  ∃ n, w_X4_crossing_8 p1 p2 post n M p1 (-1) 0
abbrev rmX4_crossing : Room := { frames := 4, cells := 0, slots := 0, locals := 92 }
set_option maxHeartbeats 4000000 in
set_option maxRecDepth 100000 in
theorem k_X4_crossing_105 {p : Program} {l : Launch} {e : Env} {s : State} {m : MethodId} {args : Array Value} {below : List Frame} {meth : Method} {c : Code} {D : va_G} {dT : Nat → ClassId} {a : Nat → Nat} {A : Nat → Prop}  {p1 : Int32} {p2 : Int32} {K8 : MS → Int32 → Int32 → Int32 → Prop} {K23 : MS → Int32 → Int32 → Int32 → Int32 → Prop} {post : Int32 → MS → Prop} (hC : wCx RX4 cX4_crossing 8 (some .int) D dT p s m args meth c) (hA : wAz A s) (hK8 : ∀ (M : MS) (x3 : Int32) (x4 : Int32) (x5 : Int32), K8 M x3 x4 x5 → ∀ {H : Heap} {locs : List Loc} {ls : Array Slot}, StM D dT a A s M H locs → lv_has ls 8 [(0, .ref (a 0)), (2, .int p2), (3, .int x3), (4, .int x4), (5, .int x5)] → W p l e rmX4_crossing s m args below meth c H locs 0 0 (MQ below (va_Qi post (wB D (MW dT a) MI A) A) args s 0 0 A) (F0 m 8 ls [])) (hK23 : ∀ (M : MS) (x3 : Int32) (x4 : Int32) (x5 : Int32) (x6 : Int32), K23 M x3 x4 x5 x6 → ∀ {H : Heap} {locs : List Loc} {ls : Array Slot}, StM D dT a A s M H locs → lv_has ls 8 [(0, .ref (a 0)), (2, .int p2), (3, .int x3), (4, .int x4), (5, .int x5), (6, .int x6)] → W p l e rmX4_crossing s m args below meth c H locs 0 0 (MQ below (va_Qi post (wB D (MW dT a) MI A) A) args s 0 0 A) (F0 m 23 ls [])) (M : MS) (x4 : Int32) (x5 : Int32) (x6 : Int32) (y0 : Int32) (y1 : Int32) {H : Heap} {locs : List Loc} {ls : Array Slot} (hS : StM D dT a A s M H locs) (hl : lv_has ls 8 [(0, .ref (a 0)), (2, .int p2), (4, .int x4), (5, .int x5), (6, .int x6)])  (hw : w_X4_crossing_105 p1 p2 K8 K23 post M x4 x5 x6 y0 y1) : W p l e rmX4_crossing s m args below meth c H locs 0 0 (MQ below (va_Qi post (wB D (MW dT a) MI A) A) args s 0 0 A) (F0 m 105 ls [.int y0, .int y1]) := by
  have hx := hC.1
  have hb := hC.2.1
  have hown := hC.2.2.2.1
  have hts := hC.2.2.2.2.1
  unfold w_X4_crossing_105 at hw
  refine lv_isub hx hb dX4_crossing_105 ?_
  refine lv_topi (fun v1 ev1 => ?_)
  have hw := hw v1 ev1
  refine lv_istore_n (lv' := [(3, .int v1), (0, .ref (a 0)), (2, .int p2), (4, .int x4), (5, .int x5), (6, .int x6)]) hx hb dX4_crossing_106 rfl hl (by decide) rfl (fun ls hl => ?_)
  obtain ⟨v2, ev2⟩ : ∃ y : Int32, y = x6 + 1 := ⟨_, rfl⟩
  have hw := hw v2 ev2
  refine lv_iinc (v := v2) (lv' := [(6, .int v2), (3, .int v1), (0, .ref (a 0)), (2, .int p2), (4, .int x4), (5, .int x5)]) hx hb dX4_crossing_107 hl (k := 5) rfl (by rw [ev2]; rfl) (by decide) rfl (fun ls hl => ?_)
  refine lv_goto (tgt := 23) hx hb dX4_crossing_110 (by decide) ?_
  exact hK23 _ _ _ _ _ hw hS (lv_sub hl [2, 3, 1, 4, 5, 0] rfl)
set_option maxHeartbeats 4000000 in
set_option maxRecDepth 100000 in
theorem k_X4_crossing_92 {p : Program} {l : Launch} {e : Env} {s : State} {m : MethodId} {args : Array Value} {below : List Frame} {meth : Method} {c : Code} {D : va_G} {dT : Nat → ClassId} {a : Nat → Nat} {A : Nat → Prop}  {p1 : Int32} {p2 : Int32} {K8 : MS → Int32 → Int32 → Int32 → Prop} {K23 : MS → Int32 → Int32 → Int32 → Int32 → Prop} {post : Int32 → MS → Prop} (hC : wCx RX4 cX4_crossing 8 (some .int) D dT p s m args meth c) (hA : wAz A s) (hK8 : ∀ (M : MS) (x3 : Int32) (x4 : Int32) (x5 : Int32), K8 M x3 x4 x5 → ∀ {H : Heap} {locs : List Loc} {ls : Array Slot}, StM D dT a A s M H locs → lv_has ls 8 [(0, .ref (a 0)), (2, .int p2), (3, .int x3), (4, .int x4), (5, .int x5)] → W p l e rmX4_crossing s m args below meth c H locs 0 0 (MQ below (va_Qi post (wB D (MW dT a) MI A) A) args s 0 0 A) (F0 m 8 ls [])) (hK23 : ∀ (M : MS) (x3 : Int32) (x4 : Int32) (x5 : Int32) (x6 : Int32), K23 M x3 x4 x5 x6 → ∀ {H : Heap} {locs : List Loc} {ls : Array Slot}, StM D dT a A s M H locs → lv_has ls 8 [(0, .ref (a 0)), (2, .int p2), (3, .int x3), (4, .int x4), (5, .int x5), (6, .int x6)] → W p l e rmX4_crossing s m args below meth c H locs 0 0 (MQ below (va_Qi post (wB D (MW dT a) MI A) A) args s 0 0 A) (F0 m 23 ls [])) (M : MS) (x3 : Int32) (x5 : Int32) (x6 : Int32) (x7 : Int32) (y0 : Int32) {H : Heap} {locs : List Loc} {ls : Array Slot} (hS : StM D dT a A s M H locs) (hl : lv_has ls 8 [(0, .ref (a 0)), (2, .int p2), (3, .int x3), (5, .int x5), (6, .int x6), (7, .int x7)])  (hw : w_X4_crossing_92 p1 p2 K8 K23 post M x3 x5 x6 x7 y0) : W p l e rmX4_crossing s m args below meth c H locs 0 0 (MQ below (va_Qi post (wB D (MW dT a) MI A) A) args s 0 0 A) (F0 m 92 ls [.int y0]) := by
  have hx := hC.1
  have hb := hC.2.1
  have hown := hC.2.2.2.1
  have hts := hC.2.2.2.2.1
  unfold w_X4_crossing_92 at hw
  refine lv_istore (lv' := [(4, .int y0), (0, .ref (a 0)), (2, .int p2), (3, .int x3), (5, .int x5), (6, .int x6), (7, .int x7)]) hx hb dX4_crossing_92 hl (by decide) rfl (fun ls hl => ?_)
  refine lv_iload_n hx hb dX4_crossing_94 rfl (lv_at hl 3 rfl) ?_
  refine lv_iload hx hb dX4_crossing_95 (lv_at hl 6 rfl) ?_
  refine lv_if_eq (tgt := 104) hx hb dX4_crossing_97 (by decide) (fun c1 => ?_) (fun c1 => ?_)
  · have hw := hw.1 c1
    refine lv_iconst (v := 0) hx hb dX4_crossing_104 (by decide) ?_
    exact k_X4_crossing_105 hC hA hK8 hK23 _ _ _ _ _ _ hS (lv_sub hl [1, 2, 0, 4, 5] rfl) hw
  · have hw := hw.2 c1
    refine lv_iconst (v := 1) hx hb dX4_crossing_100 (by decide) ?_
    refine lv_goto (tgt := 105) hx hb dX4_crossing_101 (by decide) ?_
    exact k_X4_crossing_105 hC hA hK8 hK23 _ _ _ _ _ _ hS (lv_sub hl [1, 2, 0, 4, 5] rfl) hw
set_option maxHeartbeats 4000000 in
set_option maxRecDepth 100000 in
theorem k_X4_crossing_68 {p : Program} {l : Launch} {e : Env} {s : State} {m : MethodId} {args : Array Value} {below : List Frame} {meth : Method} {c : Code} {D : va_G} {dT : Nat → ClassId} {a : Nat → Nat} {A : Nat → Prop}  {p1 : Int32} {p2 : Int32} {K8 : MS → Int32 → Int32 → Int32 → Prop} {K23 : MS → Int32 → Int32 → Int32 → Int32 → Prop} {post : Int32 → MS → Prop} (hC : wCx RX4 cX4_crossing 8 (some .int) D dT p s m args meth c) (hA : wAz A s) (hK8 : ∀ (M : MS) (x3 : Int32) (x4 : Int32) (x5 : Int32), K8 M x3 x4 x5 → ∀ {H : Heap} {locs : List Loc} {ls : Array Slot}, StM D dT a A s M H locs → lv_has ls 8 [(0, .ref (a 0)), (2, .int p2), (3, .int x3), (4, .int x4), (5, .int x5)] → W p l e rmX4_crossing s m args below meth c H locs 0 0 (MQ below (va_Qi post (wB D (MW dT a) MI A) A) args s 0 0 A) (F0 m 8 ls [])) (hK23 : ∀ (M : MS) (x3 : Int32) (x4 : Int32) (x5 : Int32) (x6 : Int32), K23 M x3 x4 x5 x6 → ∀ {H : Heap} {locs : List Loc} {ls : Array Slot}, StM D dT a A s M H locs → lv_has ls 8 [(0, .ref (a 0)), (2, .int p2), (3, .int x3), (4, .int x4), (5, .int x5), (6, .int x6)] → W p l e rmX4_crossing s m args below meth c H locs 0 0 (MQ below (va_Qi post (wB D (MW dT a) MI A) A) args s 0 0 A) (F0 m 23 ls [])) (M : MS) (x3 : Int32) (x4 : Int32) (x5 : Int32) (x6 : Int32) (y0 : Int32) {H : Heap} {locs : List Loc} {ls : Array Slot} (hS : StM D dT a A s M H locs) (hl : lv_has ls 8 [(0, .ref (a 0)), (2, .int p2), (3, .int x3), (4, .int x4), (5, .int x5), (6, .int x6)])  (hw : w_X4_crossing_68 p1 p2 K8 K23 post M x3 x4 x5 x6 y0) : W p l e rmX4_crossing s m args below meth c H locs 0 0 (MQ below (va_Qi post (wB D (MW dT a) MI A) A) args s 0 0 A) (F0 m 68 ls [.int y0]) := by
  have hx := hC.1
  have hb := hC.2.1
  have hown := hC.2.2.2.1
  have hts := hC.2.2.2.2.1
  unfold w_X4_crossing_68 at hw
  refine lv_istore (lv' := [(7, .int y0), (0, .ref (a 0)), (2, .int p2), (3, .int x3), (4, .int x4), (5, .int x5), (6, .int x6)]) hx hb dX4_crossing_68 hl (by decide) rfl (fun ls hl => ?_)
  refine lv_iload hx hb dX4_crossing_70 (lv_at hl 0 rfl) ?_
  refine lv_if_eq (tgt := 90) hx hb dX4_crossing_72 (by decide) (fun c1 => ?_) (fun c1 => ?_)
  · have hw := hw.1 c1
    refine lv_iload hx hb dX4_crossing_90 (lv_at hl 4 rfl) ?_
    exact k_X4_crossing_92 hC hA hK8 hK23 _ _ _ _ _ _ hS (lv_sub hl [1, 2, 3, 5, 6, 0] rfl) hw
  · have hw := hw.2 c1
    refine lv_iload_n hx hb dX4_crossing_75 rfl (lv_at hl 3 rfl) ?_
    refine lv_if_ne (tgt := 90) hx hb dX4_crossing_76 (by decide) (fun c2 => ?_) (fun c2 => ?_)
    · have hw := hw.2 c2
      refine lv_iload hx hb dX4_crossing_90 (lv_at hl 4 rfl) ?_
      exact k_X4_crossing_92 hC hA hK8 hK23 _ _ _ _ _ _ hS (lv_sub hl [1, 2, 3, 5, 6, 0] rfl) hw
    · have hw := hw.1 c2
      refine lv_bipush (v := 16) hx hb dX4_crossing_79 (by decide) ?_
      refine lv_iload hx hb dX4_crossing_81 (lv_at hl 5 rfl) ?_
      refine lv_imul hx hb dX4_crossing_83 ?_
      refine lv_iload hx hb dX4_crossing_84 (lv_at hl 6 rfl) ?_
      refine lv_iadd hx hb dX4_crossing_86 ?_
      refine lv_goto (tgt := 92) hx hb dX4_crossing_87 (by decide) ?_
      exact k_X4_crossing_92 hC hA hK8 hK23 _ _ _ _ _ _ hS (lv_sub hl [1, 2, 3, 5, 6, 0] rfl) hw
set_option maxHeartbeats 4000000 in
set_option maxRecDepth 100000 in
theorem k_X4_crossing_23b {p : Program} {l : Launch} {e : Env} {s : State} {m : MethodId} {args : Array Value} {below : List Frame} {meth : Method} {c : Code} {D : va_G} {dT : Nat → ClassId} {a : Nat → Nat} {A : Nat → Prop}  {p1 : Int32} {p2 : Int32} {K8 : MS → Int32 → Int32 → Int32 → Prop} {K23 : MS → Int32 → Int32 → Int32 → Int32 → Prop} {post : Int32 → MS → Prop} (hC : wCx RX4 cX4_crossing 8 (some .int) D dT p s m args meth c) (hA : wAz A s) (hK8 : ∀ (M : MS) (x3 : Int32) (x4 : Int32) (x5 : Int32), K8 M x3 x4 x5 → ∀ {H : Heap} {locs : List Loc} {ls : Array Slot}, StM D dT a A s M H locs → lv_has ls 8 [(0, .ref (a 0)), (2, .int p2), (3, .int x3), (4, .int x4), (5, .int x5)] → W p l e rmX4_crossing s m args below meth c H locs 0 0 (MQ below (va_Qi post (wB D (MW dT a) MI A) A) args s 0 0 A) (F0 m 8 ls [])) (hK23 : ∀ (M : MS) (x3 : Int32) (x4 : Int32) (x5 : Int32) (x6 : Int32), K23 M x3 x4 x5 x6 → ∀ {H : Heap} {locs : List Loc} {ls : Array Slot}, StM D dT a A s M H locs → lv_has ls 8 [(0, .ref (a 0)), (2, .int p2), (3, .int x3), (4, .int x4), (5, .int x5), (6, .int x6)] → W p l e rmX4_crossing s m args below meth c H locs 0 0 (MQ below (va_Qi post (wB D (MW dT a) MI A) A) args s 0 0 A) (F0 m 23 ls [])) (M : MS) (x3 : Int32) (x4 : Int32) (x5 : Int32) (x6 : Int32) {H : Heap} {locs : List Loc} {ls : Array Slot} (hS : StM D dT a A s M H locs) (hl : lv_has ls 8 [(0, .ref (a 0)), (2, .int p2), (3, .int x3), (4, .int x4), (5, .int x5), (6, .int x6)])  (hw : w_X4_crossing_23b p1 p2 K8 K23 post M x3 x4 x5 x6) : W p l e rmX4_crossing s m args below meth c H locs 0 0 (MQ below (va_Qi post (wB D (MW dT a) MI A) A) args s 0 0 A) (F0 m 23 ls []) := by
  have hx := hC.1
  have hb := hC.2.1
  have hown := hC.2.2.2.1
  have hts := hC.2.2.2.2.1
  unfold w_X4_crossing_23b at hw
  refine lv_iload hx hb dX4_crossing_23 (lv_at hl 5 rfl) ?_
  refine lv_aload_n hx hb dX4_crossing_25 rfl (lv_at hl 0 rfl) ?_
  refine inv_q1014 hC hA hS hl.1 hw ⟨Nat.le_of_ble_eq_true rfl, Nat.le_of_ble_eq_true rfl⟩ (Nat.le_of_ble_eq_true rfl) ⟨Nat.zero_le _, Nat.zero_le _⟩ dX4_crossing_26 (fun r1 H locs hw hS => ?_)
  refine lv_icmp_ge (tgt := 113) hx hb dX4_crossing_29 (by decide) (fun c2 => ?_) (fun c2 => ?_)
  · have hw := hw.1 c2
    obtain ⟨v3, ev3⟩ : ∃ y : Int32, y = x5 + 1 := ⟨_, rfl⟩
    have hw := hw v3 ev3
    refine lv_iinc (v := v3) (lv' := [(5, .int v3), (0, .ref (a 0)), (2, .int p2), (3, .int x3), (4, .int x4), (6, .int x6)]) hx hb dX4_crossing_113 hl (k := 4) rfl (by rw [ev3]; rfl) (by decide) rfl (fun ls hl => ?_)
    refine lv_goto (tgt := 8) hx hb dX4_crossing_116 (by decide) ?_
    exact hK8 _ _ _ _ hw hS (lv_sub hl [1, 2, 3, 4, 0] rfl)
  · have hw := hw.2 c2
    refine lv_iload_n hx hb dX4_crossing_32 rfl (lv_at hl 1 rfl) ?_
    refine lv_iload hx hb dX4_crossing_33 (lv_at hl 4 rfl) ?_
    refine lv_ishr hx hb dX4_crossing_35 ?_
    refine lv_iconst (v := 1) hx hb dX4_crossing_36 (by decide) ?_
    refine lv_iand hx hb dX4_crossing_37 ?_
    refine lv_iconst (v := 1) hx hb dX4_crossing_38 (by decide) ?_
    refine lv_icmp_ne (tgt := 67) hx hb dX4_crossing_39 (by decide) (fun c4 => ?_) (fun c4 => ?_)
    · have hw := hw.2 c4
      refine lv_iconst (v := 0) hx hb dX4_crossing_67 (by decide) ?_
      exact k_X4_crossing_68 hC hA hK8 hK23 _ _ _ _ _ _ hS (lv_sub hl [0, 1, 2, 3, 4, 5] rfl) hw
    · have hw := hw.1 c4
      refine lv_iload_n hx hb dX4_crossing_42 rfl (lv_at hl 1 rfl) ?_
      refine lv_iload hx hb dX4_crossing_43 (lv_at hl 5 rfl) ?_
      refine lv_ishr hx hb dX4_crossing_45 ?_
      refine lv_iconst (v := 1) hx hb dX4_crossing_46 (by decide) ?_
      refine lv_iand hx hb dX4_crossing_47 ?_
      refine lv_iconst (v := 1) hx hb dX4_crossing_48 (by decide) ?_
      refine lv_icmp_ne (tgt := 67) hx hb dX4_crossing_49 (by decide) (fun c5 => ?_) (fun c5 => ?_)
      · have hw := hw.2 c5
        refine lv_iconst (v := 0) hx hb dX4_crossing_67 (by decide) ?_
        exact k_X4_crossing_68 hC hA hK8 hK23 _ _ _ _ _ _ hS (lv_sub hl [0, 1, 2, 3, 4, 5] rfl) hw
      · have hw := hw.1 c5
        refine lv_aload_n hx hb dX4_crossing_52 rfl (lv_at hl 0 rfl) ?_
        refine lv_iload hx hb dX4_crossing_53 (lv_at hl 4 rfl) ?_
        refine lv_iload hx hb dX4_crossing_55 (lv_at hl 5 rfl) ?_
        refine inv_q1272 hC hA hS hl.1 hw ⟨Nat.le_of_ble_eq_true rfl, Nat.le_of_ble_eq_true rfl⟩ (Nat.le_of_ble_eq_true rfl) ⟨Nat.zero_le _, Nat.zero_le _⟩ dX4_crossing_57 (fun r6 M7 H locs hw hS => ?_)
        refine lv_if_eq (tgt := 67) hx hb dX4_crossing_60 (by decide) (fun c8 => ?_) (fun c8 => ?_)
        · have hw := hw.1 c8
          refine lv_iconst (v := 0) hx hb dX4_crossing_67 (by decide) ?_
          exact k_X4_crossing_68 hC hA hK8 hK23 _ _ _ _ _ _ hS (lv_sub hl [0, 1, 2, 3, 4, 5] rfl) hw
        · have hw := hw.2 c8
          refine lv_iconst (v := 1) hx hb dX4_crossing_63 (by decide) ?_
          refine lv_goto (tgt := 68) hx hb dX4_crossing_64 (by decide) ?_
          exact k_X4_crossing_68 hC hA hK8 hK23 _ _ _ _ _ _ hS (lv_sub hl [0, 1, 2, 3, 4, 5] rfl) hw
set_option maxHeartbeats 4000000 in
set_option maxRecDepth 100000 in
theorem k_X4_crossing_23 {p : Program} {l : Launch} {e : Env} {s : State} {m : MethodId} {args : Array Value} {below : List Frame} {meth : Method} {c : Code} {D : va_G} {dT : Nat → ClassId} {a : Nat → Nat} {A : Nat → Prop}  {p1 : Int32} {p2 : Int32} {K8 : MS → Int32 → Int32 → Int32 → Prop} {post : Int32 → MS → Prop} (hC : wCx RX4 cX4_crossing 8 (some .int) D dT p s m args meth c) (hA : wAz A s) (hK8 : ∀ (M : MS) (x3 : Int32) (x4 : Int32) (x5 : Int32), K8 M x3 x4 x5 → ∀ {H : Heap} {locs : List Loc} {ls : Array Slot}, StM D dT a A s M H locs → lv_has ls 8 [(0, .ref (a 0)), (2, .int p2), (3, .int x3), (4, .int x4), (5, .int x5)] → W p l e rmX4_crossing s m args below meth c H locs 0 0 (MQ below (va_Qi post (wB D (MW dT a) MI A) A) args s 0 0 A) (F0 m 8 ls [])) : ∀ (M : MS) (x3 : Int32) (x4 : Int32) (x5 : Int32) (x6 : Int32) (n : Nat), ∀ {H : Heap} {locs : List Loc} {ls : Array Slot}, StM D dT a A s M H locs → lv_has ls 8 [(0, .ref (a 0)), (2, .int p2), (3, .int x3), (4, .int x4), (5, .int x5), (6, .int x6)] → w_X4_crossing_23 p1 p2 K8 post n M x3 x4 x5 x6 → W p l e rmX4_crossing s m args below meth c H locs 0 0 (MQ below (va_Qi post (wB D (MW dT a) MI A) A) args s 0 0 A) (F0 m 23 ls []) := by
  intro M x3 x4 x5 x6 n
  induction n generalizing M x3 x4 x5 x6 with
  | zero => intro H locs ls  hS hl hw; exact hw.elim
  | succ n ih =>
    intro H locs ls  hS hl hw
    exact k_X4_crossing_23b hC hA hK8 (fun M x3 x4 x5 x6 hk {H} {locs} {ls}  hS hl => ih M x3 x4 x5 x6  hS hl hk) M x3 x4 x5 x6  hS hl hw
set_option maxHeartbeats 4000000 in
set_option maxRecDepth 100000 in
theorem k_X4_crossing_8b {p : Program} {l : Launch} {e : Env} {s : State} {m : MethodId} {args : Array Value} {below : List Frame} {meth : Method} {c : Code} {D : va_G} {dT : Nat → ClassId} {a : Nat → Nat} {A : Nat → Prop}  {p1 : Int32} {p2 : Int32} {K8 : MS → Int32 → Int32 → Int32 → Prop} {post : Int32 → MS → Prop} (hC : wCx RX4 cX4_crossing 8 (some .int) D dT p s m args meth c) (hA : wAz A s) (hK8 : ∀ (M : MS) (x3 : Int32) (x4 : Int32) (x5 : Int32), K8 M x3 x4 x5 → ∀ {H : Heap} {locs : List Loc} {ls : Array Slot}, StM D dT a A s M H locs → lv_has ls 8 [(0, .ref (a 0)), (2, .int p2), (3, .int x3), (4, .int x4), (5, .int x5)] → W p l e rmX4_crossing s m args below meth c H locs 0 0 (MQ below (va_Qi post (wB D (MW dT a) MI A) A) args s 0 0 A) (F0 m 8 ls [])) (M : MS) (x3 : Int32) (x4 : Int32) (x5 : Int32) {H : Heap} {locs : List Loc} {ls : Array Slot} (hS : StM D dT a A s M H locs) (hl : lv_has ls 8 [(0, .ref (a 0)), (2, .int p2), (3, .int x3), (4, .int x4), (5, .int x5)])  (hw : w_X4_crossing_8b p1 p2 K8 post M x3 x4 x5) : W p l e rmX4_crossing s m args below meth c H locs 0 0 (MQ below (va_Qi post (wB D (MW dT a) MI A) A) args s 0 0 A) (F0 m 8 ls []) := by
  have hx := hC.1
  have hb := hC.2.1
  have hown := hC.2.2.2.1
  have hts := hC.2.2.2.2.1
  unfold w_X4_crossing_8b at hw
  refine lv_iload hx hb dX4_crossing_8 (lv_at hl 4 rfl) ?_
  refine lv_aload_n hx hb dX4_crossing_10 rfl (lv_at hl 0 rfl) ?_
  refine inv_q1014 hC hA hS hl.1 hw ⟨Nat.le_of_ble_eq_true rfl, Nat.le_of_ble_eq_true rfl⟩ (Nat.le_of_ble_eq_true rfl) ⟨Nat.zero_le _, Nat.zero_le _⟩ dX4_crossing_11 (fun r1 H locs hw hS => ?_)
  refine lv_icmp_ge (tgt := 119) hx hb dX4_crossing_14 (by decide) (fun c2 => ?_) (fun c2 => ?_)
  · have hw := hw.1 c2
    refine lv_iload hx hb dX4_crossing_119 (lv_at hl 3 rfl) ?_
    exact wReti hC hS hw (Nat.le_refl _) (Nat.le_refl _) dX4_crossing_121
  · have hw := hw.2 c2
    refine lv_iload hx hb dX4_crossing_17 (lv_at hl 4 rfl) ?_
    refine lv_iconst (v := 1) hx hb dX4_crossing_19 (by decide) ?_
    refine lv_iadd hx hb dX4_crossing_20 ?_
    refine lv_topi (fun v3 ev3 => ?_)
    have hw := hw v3 ev3
    refine lv_istore (lv' := [(6, .int v3), (0, .ref (a 0)), (2, .int p2), (3, .int x3), (4, .int x4), (5, .int x5)]) hx hb dX4_crossing_21 hl (by decide) rfl (fun ls hl => ?_)
    obtain ⟨n, hw⟩ := hw
    exact k_X4_crossing_23 hC hA hK8 _ _ _ _ _ n hS (lv_sub hl [1, 2, 3, 4, 5, 0] rfl) hw
set_option maxHeartbeats 4000000 in
set_option maxRecDepth 100000 in
theorem k_X4_crossing_8 {p : Program} {l : Launch} {e : Env} {s : State} {m : MethodId} {args : Array Value} {below : List Frame} {meth : Method} {c : Code} {D : va_G} {dT : Nat → ClassId} {a : Nat → Nat} {A : Nat → Prop}  {p1 : Int32} {p2 : Int32} {post : Int32 → MS → Prop} (hC : wCx RX4 cX4_crossing 8 (some .int) D dT p s m args meth c) (hA : wAz A s) : ∀ (M : MS) (x3 : Int32) (x4 : Int32) (x5 : Int32) (n : Nat), ∀ {H : Heap} {locs : List Loc} {ls : Array Slot}, StM D dT a A s M H locs → lv_has ls 8 [(0, .ref (a 0)), (2, .int p2), (3, .int x3), (4, .int x4), (5, .int x5)] → w_X4_crossing_8 p1 p2 post n M x3 x4 x5 → W p l e rmX4_crossing s m args below meth c H locs 0 0 (MQ below (va_Qi post (wB D (MW dT a) MI A) A) args s 0 0 A) (F0 m 8 ls []) := by
  intro M x3 x4 x5 n
  induction n generalizing M x3 x4 x5 with
  | zero => intro H locs ls  hS hl hw; exact hw.elim
  | succ n ih =>
    intro H locs ls  hS hl hw
    exact k_X4_crossing_8b hC hA (fun M x3 x4 x5 hk {H} {locs} {ls}  hS hl => ih M x3 x4 x5  hS hl hk) M x3 x4 x5  hS hl hw
set_option maxHeartbeats 4000000 in
set_option maxRecDepth 100000 in
theorem k_X4_crossing_0 {p : Program} {l : Launch} {e : Env} {s : State} {m : MethodId} {args : Array Value} {below : List Frame} {meth : Method} {c : Code} {D : va_G} {dT : Nat → ClassId} {a : Nat → Nat} {A : Nat → Prop}  {p1 : Int32} {p2 : Int32} {post : Int32 → MS → Prop} (hC : wCx RX4 cX4_crossing 8 (some .int) D dT p s m args meth c) (hA : wAz A s) (M : MS) {H : Heap} {locs : List Loc} {ls : Array Slot} (hS : StM D dT a A s M H locs) (hl : lv_has ls 8 [(0, .ref (a 0)), (1, .int p1), (2, .int p2)])  (hw : w_X4_crossing p1 p2 post M) : W p l e rmX4_crossing s m args below meth c H locs 0 0 (MQ below (va_Qi post (wB D (MW dT a) MI A) A) args s 0 0 A) (F0 m 0 ls []) := by
  have hx := hC.1
  have hb := hC.2.1
  have hown := hC.2.2.2.1
  have hts := hC.2.2.2.2.1
  unfold w_X4_crossing at hw
  refine lv_iload_n hx hb dX4_crossing_0 rfl (lv_at hl 1 rfl) ?_
  refine lv_istore_n (lv' := [(3, .int p1), (0, .ref (a 0)), (1, .int p1), (2, .int p2)]) hx hb dX4_crossing_1 rfl hl (by decide) rfl (fun ls hl => ?_)
  refine lv_iconst (v := (-1)) hx hb dX4_crossing_2 (by decide) ?_
  refine lv_istore (lv' := [(4, .int (-1)), (3, .int p1), (0, .ref (a 0)), (1, .int p1), (2, .int p2)]) hx hb dX4_crossing_3 hl (by decide) rfl (fun ls hl => ?_)
  refine lv_iconst (v := 0) hx hb dX4_crossing_5 (by decide) ?_
  refine lv_istore (lv' := [(5, .int 0), (4, .int (-1)), (3, .int p1), (0, .ref (a 0)), (1, .int p1), (2, .int p2)]) hx hb dX4_crossing_6 hl (by decide) rfl (fun ls hl => ?_)
  obtain ⟨n, hw⟩ := hw
  exact k_X4_crossing_8 hC hA _ _ _ _ n hS (lv_sub hl [3, 5, 2, 1, 0] rfl) hw
abbrev v_X4_crossing (M : MS) (p1 : Int32) (p2 : Int32) (post : Int32 → MS → Prop) : Prop := w_X4_crossing p1 p2 post M
set_option maxHeartbeats 4000000 in
set_option maxRecDepth 100000 in
theorem met_X4_crossing (l : Launch) (D : va_G) (dT : Nat → ClassId) (a : Nat → Nat) (sz : Nat) (M : MS) (p1 : Int32) (p2 : Int32) (post : Int32 → MS → Prop) (hw : v_X4_crossing M p1 p2 post) : Met l yX4_crossing (ws_ yX4_crossing cX4_crossing 8 (some .int)) rmX4_crossing (wPc D dT (MW dT a) MI sz M [.ref (a 0), .int p1, .int p2]) (va_Qi post (wB D (MW dT a) MI (va_A ((MW dT a) M) sz)) (va_A ((MW dT a) M) sz)) 0 0 (va_A ((MW dT a) M) sz) :=
  wEnt (Q := fun A => (va_Qi post (wB D (MW dT a) MI A) A)) (by decide) (Nat.le_of_ble_eq_true rfl) (fun p e s m below meth c A ls hC _ hA hS hl => k_X4_crossing_0 hC hA _ hS hl hw) sz
theorem hd_X4_crossing : yX4_crossing.cls ≠ "java/lang/invoke/MethodHandle" ∧ yX4_crossing.cls ≠ "java/lang/invoke/VarHandle" ∧ (parseMethodDescriptor yX4_crossing.desc).map (fun d => d.parameters.length) = some 2 := by decide +kernel
section
variable {p : Program} {l : Launch} {e : Env} {R : Room} {s : State} {m : MethodId} {args : Array Value} {below : List Frame} {meth : Method} {c : Code} {H : Heap} {locs : List Loc} {cells slots : Nat} {Q : State → Prop} {cc : ByteArray} {nL : Nat} {ret : Option FieldType} {pc : Nat} {ls : Array Slot} {rest : List Value}
set_option maxHeartbeats 4000000 in
set_option maxRecDepth 100000 in
theorem inv_q1268 {D : va_G} {dT : Nat → ClassId} {a : Nat → Nat} {A : Nat → Prop} {M : MS} {p1 : Int32} {p2 : Int32} {post : Int32 → MS → Prop} (hC : wCx RX4 cc nL ret D dT p s m args meth c) (hA : wAz A s) (hS : StM D dT a A s M H locs) (hl : ls.size = nL) (hw : v_X4_crossing M p1 p2 post) (hR : rmX4_crossing.frames + 1 ≤ R.frames ∧ 8 + (8 + 11) + rmX4_crossing.locals ≤ R.locals) (hrest : (rest.map fun v => v.category).sum ≤ 8) (hf : cells ≤ R.cells ∧ slots ≤ R.slots) (hdg : decode cc pc = .ok (.invokevirtual 222, 3)) (kk : ∀ (r : Int32) (u : MS) (H1 : Heap) (locs1 : List Loc), post r u → StM D dT a A s u H1 locs1 → W p l e R s m args below meth c H1 locs1 cells slots Q (F0 m (pc + 3) ls (.int r :: rest))) : W p l e R s m args below meth c H locs cells slots Q (F0 m pc ls (.int p2 :: .int p1 :: .ref (a 0) :: rest)) := by
  exact wCallVi (As := [.int p1, .int p2]) (rest := rest) (mc := 0) (ms := 0) 0 hC (met_X4_crossing l D dT a H.size M p1 p2 post hw) (lw_V q1268 q1270 qs79 q89 q1271) ⟨⟨rfl, rfl⟩, hd_X4_crossing, hR, hf⟩ rfl rfl rfl hA hS hl rfl hrest hdg (fun r u H1 locs1 hp hS1 => kk r u H1 locs1 hp hS1)
end
/-! LeastFramesModel.crossOf -/
def w_X4_crossOf_114 (p1 : Int32) (p2 : Int32) (post : Int32 → MS → Prop) (M : MS) (y0 : Int32) (y1 : Int32) (y3 : Int32) (y4 : Int32) : Prop :=
  v_X4_far M y1 y0 (fun r1 => v_X4_partOf ((y4 + (y3 * r1)).toInt64) ((M_under M).toInt64) (p2 - p2 / 2 * 2) (fun r2 => post r2.toInt32 M))
def w_X4_crossOf_88 (p1 : Int32) (p2 : Int32) (post : Int32 → MS → Prop) (M : MS) (x4 : Int32) (y0 : Int32) : Prop :=
  ((4 : Int32) ≤ p2 → (w_X4_crossOf_114 p1 p2 post M 1 x4 (M_sHit M) (y0 * (M_under M)))) ∧ (¬ (4 : Int32) ≤ p2 → (w_X4_crossOf_114 p1 p2 post M 0 x4 (M_sHit M) (y0 * (M_under M))))
def w_X4_crossOf (p1 : Int32) (p2 : Int32) (post : Int32 → MS → Prop) (M : MS) : Prop :=
  v_X4_bestOf M (M_bars M) (fun r1 M2 => v_X4_crossing M2 p1 r1 (fun r3 M4 => (r3 = ((-1) : Int32) → (post ((-2) : Int32) M4)) ∧ (¬ r3 = ((-1) : Int32) → (∀ v6 : Int32, v6 = r3 / 16 → (∀ v7 : Int32, v7 = r3 - r3 / 16 * 16 → (v_X4_isCross M4 v6 v7 (fun r8 M9 => ((2 : Int32) ≤ p2 → (((4 : Int32) ≤ p2 → (v_X4_lesser v6 (fun r12 => vp_in r12 5 ∧ (w_X4_crossOf_88 p1 p2 post M9 v6 (M_ys M9 r12.toNatClampNeg))))) ∧ (¬ (4 : Int32) ≤ p2 → (v_X4_lesser v6 (fun r13 => vp_in r13 5 ∧ (w_X4_crossOf_88 p1 p2 post M9 v6 (M_xs M9 r13.toNatClampNeg))))))) ∧ (¬ (2 : Int32) ≤ p2 → ((p2 = (0 : Int32) → (post v6 M9)) ∧ (¬ p2 = (0 : Int32) → (post v7 M9)))))))))))
abbrev rmX4_crossOf : Room := { frames := 8, cells := 0, slots := 0, locals := 181 }
set_option maxHeartbeats 4000000 in
set_option maxRecDepth 100000 in
theorem k_X4_crossOf_114 {p : Program} {l : Launch} {e : Env} {s : State} {m : MethodId} {args : Array Value} {below : List Frame} {meth : Method} {c : Code} {D : va_G} {dT : Nat → ClassId} {a : Nat → Nat} {A : Nat → Prop}  {p1 : Int32} {p2 : Int32} {post : Int32 → MS → Prop} (hC : wCx RX4 cX4_crossOf 7 (some .int) D dT p s m args meth c) (hA : wAz A s) (M : MS) (y0 : Int32) (y1 : Int32) (y3 : Int32) (y4 : Int32) {H : Heap} {locs : List Loc} {ls : Array Slot} (hS : StM D dT a A s M H locs) (hl : lv_has ls 7 [(0, .ref (a 0)), (2, .int p2)])  (hw : w_X4_crossOf_114 p1 p2 post M y0 y1 y3 y4) : W p l e rmX4_crossOf s m args below meth c H locs 0 0 (MQ below (va_Qi post (wB D (MW dT a) MI A) A) args s 0 0 A) (F0 m 114 ls [.int y0, .int y1, .ref (a 0), .int y3, .int y4]) := by
  have hx := hC.1
  have hb := hC.2.1
  have hown := hC.2.2.2.1
  have hts := hC.2.2.2.2.1
  unfold w_X4_crossOf_114 at hw
  refine inv_q1082 hC hA hS hl.1 hw ⟨Nat.le_of_ble_eq_true rfl, Nat.le_of_ble_eq_true rfl⟩ (Nat.le_of_ble_eq_true rfl) ⟨Nat.zero_le _, Nat.zero_le _⟩ dX4_crossOf_114 (fun r1 H locs hw hS => ?_)
  refine lv_imul hx hb dX4_crossOf_117 ?_
  refine lv_iadd hx hb dX4_crossOf_118 ?_
  refine lv_i2l hx hb dX4_crossOf_119 rfl ?_
  refine lv_aload_n hx hb dX4_crossOf_120 rfl (lv_at hl 0 rfl) ?_
  refine ld_q951 hC hS dX4_crossOf_121 ?_
  refine lv_i2l hx hb dX4_crossOf_124 rfl ?_
  refine lv_iload_n hx hb dX4_crossOf_125 rfl (lv_at hl 1 rfl) ?_
  refine lv_iconst (v := 2) hx hb dX4_crossOf_126 (by decide) ?_
  refine lv_irem hx hb dX4_crossOf_127 (by decide) ?_
  refine inv_q1136 hC hS hl.1 hw ⟨Nat.le_of_ble_eq_true rfl, Nat.le_of_ble_eq_true rfl⟩ (Nat.le_of_ble_eq_true rfl) ⟨Nat.zero_le _, Nat.zero_le _⟩ dX4_crossOf_128 (fun r2 H locs hw hS => ?_)
  refine lv_l2i hx hb dX4_crossOf_131 rfl ?_
  exact wReti hC hS hw (Nat.le_refl _) (Nat.le_refl _) dX4_crossOf_132
set_option maxHeartbeats 4000000 in
set_option maxRecDepth 100000 in
theorem k_X4_crossOf_88 {p : Program} {l : Launch} {e : Env} {s : State} {m : MethodId} {args : Array Value} {below : List Frame} {meth : Method} {c : Code} {D : va_G} {dT : Nat → ClassId} {a : Nat → Nat} {A : Nat → Prop}  {p1 : Int32} {p2 : Int32} {post : Int32 → MS → Prop} (hC : wCx RX4 cX4_crossOf 7 (some .int) D dT p s m args meth c) (hA : wAz A s) (M : MS) (x4 : Int32) (y0 : Int32) {H : Heap} {locs : List Loc} {ls : Array Slot} (hS : StM D dT a A s M H locs) (hl : lv_has ls 7 [(0, .ref (a 0)), (2, .int p2), (4, .int x4)])  (hw : w_X4_crossOf_88 p1 p2 post M x4 y0) : W p l e rmX4_crossOf s m args below meth c H locs 0 0 (MQ below (va_Qi post (wB D (MW dT a) MI A) A) args s 0 0 A) (F0 m 88 ls [.int y0]) := by
  have hx := hC.1
  have hb := hC.2.1
  have hown := hC.2.2.2.1
  have hts := hC.2.2.2.2.1
  unfold w_X4_crossOf_88 at hw
  refine lv_istore (lv' := [(6, .int y0), (0, .ref (a 0)), (2, .int p2), (4, .int x4)]) hx hb dX4_crossOf_88 hl (by decide) rfl (fun ls hl => ?_)
  refine lv_iload hx hb dX4_crossOf_90 (lv_at hl 0 rfl) ?_
  refine lv_aload_n hx hb dX4_crossOf_92 rfl (lv_at hl 1 rfl) ?_
  refine ld_q951 hC hS dX4_crossOf_93 ?_
  refine lv_imul hx hb dX4_crossOf_96 ?_
  refine lv_aload_n hx hb dX4_crossOf_97 rfl (lv_at hl 1 rfl) ?_
  refine ld_q949 hC hS dX4_crossOf_98 ?_
  refine lv_aload_n hx hb dX4_crossOf_101 rfl (lv_at hl 1 rfl) ?_
  refine lv_iload hx hb dX4_crossOf_102 (lv_at hl 3 rfl) ?_
  refine lv_iload_n hx hb dX4_crossOf_104 rfl (lv_at hl 2 rfl) ?_
  refine lv_iconst (v := 4) hx hb dX4_crossOf_105 (by decide) ?_
  refine lv_icmp_ge (tgt := 113) hx hb dX4_crossOf_106 (by decide) (fun c1 => ?_) (fun c1 => ?_)
  · have hw := hw.1 c1
    refine lv_iconst (v := 1) hx hb dX4_crossOf_113 (by decide) ?_
    exact k_X4_crossOf_114 hC hA _ _ _ _ _ hS (lv_sub hl [1, 2] rfl) hw
  · have hw := hw.2 c1
    refine lv_iconst (v := 0) hx hb dX4_crossOf_109 (by decide) ?_
    refine lv_goto (tgt := 114) hx hb dX4_crossOf_110 (by decide) ?_
    exact k_X4_crossOf_114 hC hA _ _ _ _ _ hS (lv_sub hl [1, 2] rfl) hw
set_option maxHeartbeats 4000000 in
set_option maxRecDepth 100000 in
theorem k_X4_crossOf_0 {p : Program} {l : Launch} {e : Env} {s : State} {m : MethodId} {args : Array Value} {below : List Frame} {meth : Method} {c : Code} {D : va_G} {dT : Nat → ClassId} {a : Nat → Nat} {A : Nat → Prop}  {p1 : Int32} {p2 : Int32} {post : Int32 → MS → Prop} (hC : wCx RX4 cX4_crossOf 7 (some .int) D dT p s m args meth c) (hA : wAz A s) (M : MS) {H : Heap} {locs : List Loc} {ls : Array Slot} (hS : StM D dT a A s M H locs) (hl : lv_has ls 7 [(0, .ref (a 0)), (1, .int p1), (2, .int p2)])  (hw : w_X4_crossOf p1 p2 post M) : W p l e rmX4_crossOf s m args below meth c H locs 0 0 (MQ below (va_Qi post (wB D (MW dT a) MI A) A) args s 0 0 A) (F0 m 0 ls []) := by
  have hx := hC.1
  have hb := hC.2.1
  have hown := hC.2.2.2.1
  have hts := hC.2.2.2.2.1
  unfold w_X4_crossOf at hw
  refine lv_aload_n hx hb dX4_crossOf_0 rfl (lv_at hl 0 rfl) ?_
  refine lv_iload_n hx hb dX4_crossOf_1 rfl (lv_at hl 1 rfl) ?_
  refine lv_aload_n hx hb dX4_crossOf_2 rfl (lv_at hl 0 rfl) ?_
  refine lv_aload_n hx hb dX4_crossOf_3 rfl (lv_at hl 0 rfl) ?_
  refine ld_q941 hC hS dX4_crossOf_4 ?_
  refine inv_q1094 hC hA hS hl.1 hw ⟨Nat.le_of_ble_eq_true rfl, Nat.le_of_ble_eq_true rfl⟩ (Nat.le_of_ble_eq_true rfl) ⟨Nat.zero_le _, Nat.zero_le _⟩ dX4_crossOf_7 (fun r1 M2 H locs hw hS => ?_)
  refine inv_q1268 hC hA hS hl.1 hw ⟨Nat.le_of_ble_eq_true rfl, Nat.le_of_ble_eq_true rfl⟩ (Nat.le_of_ble_eq_true rfl) ⟨Nat.zero_le _, Nat.zero_le _⟩ dX4_crossOf_10 (fun r3 M4 H locs hw hS => ?_)
  refine lv_istore_n (lv' := [(3, .int r3), (0, .ref (a 0)), (1, .int p1), (2, .int p2)]) hx hb dX4_crossOf_13 rfl hl (by decide) rfl (fun ls hl => ?_)
  refine lv_iload_n hx hb dX4_crossOf_14 rfl (lv_at hl 0 rfl) ?_
  refine lv_iconst (v := (-1)) hx hb dX4_crossOf_15 (by decide) ?_
  refine lv_icmp_ne (tgt := 22) hx hb dX4_crossOf_16 (by decide) (fun c5 => ?_) (fun c5 => ?_)
  · have hw := hw.2 c5
    refine lv_iload_n hx hb dX4_crossOf_22 rfl (lv_at hl 0 rfl) ?_
    refine lv_bipush (v := 16) hx hb dX4_crossOf_23 (by decide) ?_
    refine lv_idiv hx hb dX4_crossOf_25 (by decide) ?_
    refine lv_topi (fun v6 ev6 => ?_)
    have hw := hw v6 ev6
    refine lv_istore (lv' := [(4, .int v6), (3, .int r3), (0, .ref (a 0)), (1, .int p1), (2, .int p2)]) hx hb dX4_crossOf_26 hl (by decide) rfl (fun ls hl => ?_)
    refine lv_iload_n hx hb dX4_crossOf_28 rfl (lv_at hl 1 rfl) ?_
    refine lv_bipush (v := 16) hx hb dX4_crossOf_29 (by decide) ?_
    refine lv_irem hx hb dX4_crossOf_31 (by decide) ?_
    refine lv_topi (fun v7 ev7 => ?_)
    have hw := hw v7 ev7
    refine lv_istore (lv' := [(5, .int v7), (4, .int v6), (3, .int r3), (0, .ref (a 0)), (1, .int p1), (2, .int p2)]) hx hb dX4_crossOf_32 hl (by decide) rfl (fun ls hl => ?_)
    refine lv_aload_n hx hb dX4_crossOf_34 rfl (lv_at hl 3 rfl) ?_
    refine lv_iload hx hb dX4_crossOf_35 (lv_at hl 1 rfl) ?_
    refine lv_iload hx hb dX4_crossOf_37 (lv_at hl 0 rfl) ?_
    refine inv_q1272 hC hA hS hl.1 hw ⟨Nat.le_of_ble_eq_true rfl, Nat.le_of_ble_eq_true rfl⟩ (Nat.le_of_ble_eq_true rfl) ⟨Nat.zero_le _, Nat.zero_le _⟩ dX4_crossOf_39 (fun r8 M9 H locs hw hS => ?_)
    refine lv_pop hx hb dX4_crossOf_42 rfl ?_
    refine lv_iload_n hx hb dX4_crossOf_43 rfl (lv_at hl 5 rfl) ?_
    refine lv_iconst (v := 2) hx hb dX4_crossOf_44 (by decide) ?_
    refine lv_icmp_ge (tgt := 60) hx hb dX4_crossOf_45 (by decide) (fun c10 => ?_) (fun c10 => ?_)
    · have hw := hw.1 c10
      refine lv_iload_n hx hb dX4_crossOf_60 rfl (lv_at hl 5 rfl) ?_
      refine lv_iconst (v := 4) hx hb dX4_crossOf_61 (by decide) ?_
      refine lv_icmp_ge (tgt := 78) hx hb dX4_crossOf_62 (by decide) (fun c11 => ?_) (fun c11 => ?_)
      · have hw := hw.1 c11
        refine lv_aload_n hx hb dX4_crossOf_78 rfl (lv_at hl 3 rfl) ?_
        refine ld_q936 hC hS dX4_crossOf_79 ?_
        refine lv_iload hx hb dX4_crossOf_82 (lv_at hl 1 rfl) ?_
        refine inv_q1072 hC hS hl.1 hw ⟨Nat.le_of_ble_eq_true rfl, Nat.le_of_ble_eq_true rfl⟩ (Nat.le_of_ble_eq_true rfl) ⟨Nat.zero_le _, Nat.zero_le _⟩ dX4_crossOf_84 (fun r12 H locs hw hS => ?_)
        refine al_ys hC hS hw.1 dX4_crossOf_87 ?_
        have hw := hw.2
        exact k_X4_crossOf_88 hC hA _ _ _ hS (lv_sub hl [3, 5, 1] rfl) hw
      · have hw := hw.2 c11
        refine lv_aload_n hx hb dX4_crossOf_65 rfl (lv_at hl 3 rfl) ?_
        refine ld_q935 hC hS dX4_crossOf_66 ?_
        refine lv_iload hx hb dX4_crossOf_69 (lv_at hl 1 rfl) ?_
        refine inv_q1072 hC hS hl.1 hw ⟨Nat.le_of_ble_eq_true rfl, Nat.le_of_ble_eq_true rfl⟩ (Nat.le_of_ble_eq_true rfl) ⟨Nat.zero_le _, Nat.zero_le _⟩ dX4_crossOf_71 (fun r13 H locs hw hS => ?_)
        refine al_xs hC hS hw.1 dX4_crossOf_74 ?_
        have hw := hw.2
        refine lv_goto (tgt := 88) hx hb dX4_crossOf_75 (by decide) ?_
        exact k_X4_crossOf_88 hC hA _ _ _ hS (lv_sub hl [3, 5, 1] rfl) hw
    · have hw := hw.2 c10
      refine lv_iload_n hx hb dX4_crossOf_48 rfl (lv_at hl 5 rfl) ?_
      refine lv_if_ne (tgt := 57) hx hb dX4_crossOf_49 (by decide) (fun c14 => ?_) (fun c14 => ?_)
      · have hw := hw.2 c14
        refine lv_iload hx hb dX4_crossOf_57 (lv_at hl 0 rfl) ?_
        exact wReti hC hS hw (Nat.le_refl _) (Nat.le_refl _) dX4_crossOf_59
      · have hw := hw.1 c14
        refine lv_iload hx hb dX4_crossOf_52 (lv_at hl 1 rfl) ?_
        refine lv_goto (tgt := 59) hx hb dX4_crossOf_54 (by decide) ?_
        exact wReti hC hS hw (Nat.le_refl _) (Nat.le_refl _) dX4_crossOf_59
  · have hw := hw.1 c5
    refine lv_bipush (v := (-2)) hx hb dX4_crossOf_19 (by decide) ?_
    exact wReti hC hS hw (Nat.le_refl _) (Nat.le_refl _) dX4_crossOf_21
abbrev v_X4_crossOf (M : MS) (p1 : Int32) (p2 : Int32) (post : Int32 → MS → Prop) : Prop := w_X4_crossOf p1 p2 post M
set_option maxHeartbeats 4000000 in
set_option maxRecDepth 100000 in
theorem met_X4_crossOf (l : Launch) (D : va_G) (dT : Nat → ClassId) (a : Nat → Nat) (sz : Nat) (M : MS) (p1 : Int32) (p2 : Int32) (post : Int32 → MS → Prop) (hw : v_X4_crossOf M p1 p2 post) : Met l yX4_crossOf (ws_ yX4_crossOf cX4_crossOf 7 (some .int)) rmX4_crossOf (wPc D dT (MW dT a) MI sz M [.ref (a 0), .int p1, .int p2]) (va_Qi post (wB D (MW dT a) MI (va_A ((MW dT a) M) sz)) (va_A ((MW dT a) M) sz)) 0 0 (va_A ((MW dT a) M) sz) :=
  wEnt (Q := fun A => (va_Qi post (wB D (MW dT a) MI A) A)) (by decide) (Nat.le_of_ble_eq_true rfl) (fun p e s m below meth c A ls hC _ hA hS hl => k_X4_crossOf_0 hC hA _ hS hl hw) sz
theorem hd_X4_crossOf : yX4_crossOf.cls ≠ "java/lang/invoke/MethodHandle" ∧ yX4_crossOf.cls ≠ "java/lang/invoke/VarHandle" ∧ (parseMethodDescriptor yX4_crossOf.desc).map (fun d => d.parameters.length) = some 2 := by decide +kernel
section
variable {p : Program} {l : Launch} {e : Env} {R : Room} {s : State} {m : MethodId} {args : Array Value} {below : List Frame} {meth : Method} {c : Code} {H : Heap} {locs : List Loc} {cells slots : Nat} {Q : State → Prop} {cc : ByteArray} {nL : Nat} {ret : Option FieldType} {pc : Nat} {ls : Array Slot} {rest : List Value}
set_option maxHeartbeats 4000000 in
set_option maxRecDepth 100000 in
theorem inv_q1264 {D : va_G} {dT : Nat → ClassId} {a : Nat → Nat} {A : Nat → Prop} {M : MS} {p1 : Int32} {p2 : Int32} {post : Int32 → MS → Prop} (hC : wCx RX4 cc nL ret D dT p s m args meth c) (hA : wAz A s) (hS : StM D dT a A s M H locs) (hl : ls.size = nL) (hw : v_X4_crossOf M p1 p2 post) (hR : rmX4_crossOf.frames + 1 ≤ R.frames ∧ 8 + (7 + 11) + rmX4_crossOf.locals ≤ R.locals) (hrest : (rest.map fun v => v.category).sum ≤ 8) (hf : cells ≤ R.cells ∧ slots ≤ R.slots) (hdg : decode cc pc = .ok (.invokevirtual 225, 3)) (kk : ∀ (r : Int32) (u : MS) (H1 : Heap) (locs1 : List Loc), post r u → StM D dT a A s u H1 locs1 → W p l e R s m args below meth c H1 locs1 cells slots Q (F0 m (pc + 3) ls (.int r :: rest))) : W p l e R s m args below meth c H locs cells slots Q (F0 m pc ls (.int p2 :: .int p1 :: .ref (a 0) :: rest)) := by
  exact wCallVi (As := [.int p1, .int p2]) (rest := rest) (mc := 0) (ms := 0) 0 hC (met_X4_crossOf l D dT a H.size M p1 p2 post hw) (lw_V q1264 q1266 qs78 q89 q1267) ⟨⟨rfl, rfl⟩, hd_X4_crossOf, hR, hf⟩ rfl rfl rfl hA hS hl rfl hrest hdg (fun r u H1 locs1 hp hS1 => kk r u H1 locs1 hp hS1)
end
/-! LeastFramesModel.cross -/
def w_X4_cross (p1 : Int32) (p2 : Int32) (post : Int32 → MS → Prop) (M : MS) : Prop :=
  (p1 < (0 : Int32) → (post ((-2) : Int32) M)) ∧ (¬ p1 < (0 : Int32) → (v_X4_in p2 (0 : Int32) (5 : Int32) (fun r2 => (r2 = (0 : Int32) → (post ((-2) : Int32) M)) ∧ (¬ r2 = (0 : Int32) → (v_X4_bestOf M (M_bars M) (fun r4 M5 => (r4 = ((-1) : Int32) → (post ((-3) : Int32) M5)) ∧ (¬ r4 = ((-1) : Int32) → (v_X4_crossOf M5 p1 p2 (fun r7 M8 => post r7 M8)))))))))
abbrev rmX4_cross : Room := { frames := 9, cells := 0, slots := 0, locals := 207 }
set_option maxHeartbeats 4000000 in
set_option maxRecDepth 100000 in
theorem k_X4_cross_0 {p : Program} {l : Launch} {e : Env} {s : State} {m : MethodId} {args : Array Value} {below : List Frame} {meth : Method} {c : Code} {D : va_G} {dT : Nat → ClassId} {a : Nat → Nat} {A : Nat → Prop}  {p1 : Int32} {p2 : Int32} {post : Int32 → MS → Prop} (hC : wCx RX4 cX4_cross 3 (some .int) D dT p s m args meth c) (hA : wAz A s) (M : MS) {H : Heap} {locs : List Loc} {ls : Array Slot} (hS : StM D dT a A s M H locs) (hl : lv_has ls 3 [(0, .ref (a 0)), (1, .int p1), (2, .int p2)])  (hw : w_X4_cross p1 p2 post M) : W p l e rmX4_cross s m args below meth c H locs 0 0 (MQ below (va_Qi post (wB D (MW dT a) MI A) A) args s 0 0 A) (F0 m 0 ls []) := by
  have hx := hC.1
  have hb := hC.2.1
  have hown := hC.2.2.2.1
  have hts := hC.2.2.2.2.1
  unfold w_X4_cross at hw
  refine lv_iload_n hx hb dX4_cross_0 rfl (lv_at hl 1 rfl) ?_
  refine lv_if_lt (tgt := 13) hx hb dX4_cross_1 (by decide) (fun c1 => ?_) (fun c1 => ?_)
  · have hw := hw.1 c1
    refine lv_bipush (v := (-2)) hx hb dX4_cross_13 (by decide) ?_
    exact wReti hC hS hw (Nat.le_refl _) (Nat.le_refl _) dX4_cross_15
  · have hw := hw.2 c1
    refine lv_iload_n hx hb dX4_cross_4 rfl (lv_at hl 2 rfl) ?_
    refine lv_iconst (v := 0) hx hb dX4_cross_5 (by decide) ?_
    refine lv_iconst (v := 5) hx hb dX4_cross_6 (by decide) ?_
    refine inv_q1007 hC hS hl.1 hw ⟨Nat.le_of_ble_eq_true rfl, Nat.le_of_ble_eq_true rfl⟩ (Nat.le_of_ble_eq_true rfl) ⟨Nat.zero_le _, Nat.zero_le _⟩ dX4_cross_7 (fun r2 H locs hw hS => ?_)
    refine lv_if_ne (tgt := 16) hx hb dX4_cross_10 (by decide) (fun c3 => ?_) (fun c3 => ?_)
    · have hw := hw.2 c3
      refine lv_aload_n hx hb dX4_cross_16 rfl (lv_at hl 0 rfl) ?_
      refine lv_aload_n hx hb dX4_cross_17 rfl (lv_at hl 0 rfl) ?_
      refine ld_q941 hC hS dX4_cross_18 ?_
      refine inv_q1094 hC hA hS hl.1 hw ⟨Nat.le_of_ble_eq_true rfl, Nat.le_of_ble_eq_true rfl⟩ (Nat.le_of_ble_eq_true rfl) ⟨Nat.zero_le _, Nat.zero_le _⟩ dX4_cross_21 (fun r4 M5 H locs hw hS => ?_)
      refine lv_iconst (v := (-1)) hx hb dX4_cross_24 (by decide) ?_
      refine lv_icmp_ne (tgt := 33) hx hb dX4_cross_25 (by decide) (fun c6 => ?_) (fun c6 => ?_)
      · have hw := hw.2 c6
        refine lv_aload_n hx hb dX4_cross_33 rfl (lv_at hl 0 rfl) ?_
        refine lv_iload_n hx hb dX4_cross_34 rfl (lv_at hl 1 rfl) ?_
        refine lv_iload_n hx hb dX4_cross_35 rfl (lv_at hl 2 rfl) ?_
        refine inv_q1264 hC hA hS hl.1 hw ⟨Nat.le_of_ble_eq_true rfl, Nat.le_of_ble_eq_true rfl⟩ (Nat.le_of_ble_eq_true rfl) ⟨Nat.zero_le _, Nat.zero_le _⟩ dX4_cross_36 (fun r7 M8 H locs hw hS => ?_)
        exact wReti hC hS hw (Nat.le_refl _) (Nat.le_refl _) dX4_cross_39
      · have hw := hw.1 c6
        refine lv_bipush (v := (-3)) hx hb dX4_cross_28 (by decide) ?_
        refine lv_goto (tgt := 39) hx hb dX4_cross_30 (by decide) ?_
        exact wReti hC hS hw (Nat.le_refl _) (Nat.le_refl _) dX4_cross_39
    · have hw := hw.1 c3
      refine lv_bipush (v := (-2)) hx hb dX4_cross_13 (by decide) ?_
      exact wReti hC hS hw (Nat.le_refl _) (Nat.le_refl _) dX4_cross_15
abbrev v_X4_cross (M : MS) (p1 : Int32) (p2 : Int32) (post : Int32 → MS → Prop) : Prop := w_X4_cross p1 p2 post M
set_option maxHeartbeats 4000000 in
set_option maxRecDepth 100000 in
theorem met_X4_cross (l : Launch) (D : va_G) (dT : Nat → ClassId) (a : Nat → Nat) (sz : Nat) (M : MS) (p1 : Int32) (p2 : Int32) (post : Int32 → MS → Prop) (hw : v_X4_cross M p1 p2 post) : Met l yX4_cross (ws_ yX4_cross cX4_cross 3 (some .int)) rmX4_cross (wPc D dT (MW dT a) MI sz M [.ref (a 0), .int p1, .int p2]) (va_Qi post (wB D (MW dT a) MI (va_A ((MW dT a) M) sz)) (va_A ((MW dT a) M) sz)) 0 0 (va_A ((MW dT a) M) sz) :=
  wEnt (Q := fun A => (va_Qi post (wB D (MW dT a) MI A) A)) (by decide) (Nat.le_of_ble_eq_true rfl) (fun p e s m below meth c A ls hC _ hA hS hl => k_X4_cross_0 hC hA _ hS hl hw) sz
theorem hd_X4_cross : yX4_cross.cls ≠ "java/lang/invoke/MethodHandle" ∧ yX4_cross.cls ≠ "java/lang/invoke/VarHandle" ∧ (parseMethodDescriptor yX4_cross.desc).map (fun d => d.parameters.length) = some 2 := by decide +kernel
/-! LeastFramesModel.sheet -/
def w_X4_sheet_55b (p1 : Int32) (p2 : Int32) (p3 : Int32) (K55 : MS → Int32 → Prop) (post : Int32 → MS → Prop) (M : MS) (x4 : Int32) : Prop :=
  (((40 * p1) + 40) ≤ x4 → (post p3 M)) ∧ (¬ ((40 * p1) + 40) ≤ x4 → (vp_in x4 160 ∧ (∀ M2 : MS, M2 = sM_items M (vp_updL (M_items M) x4.toNatClampNeg 0) → (∀ v3 : Int32, v3 = x4 + 1 → (K55 M2 v3)))))
def w_X4_sheet_55 (p1 : Int32) (p2 : Int32) (p3 : Int32) (post : Int32 → MS → Prop) : Nat → MS → Int32 → Prop
  | 0, _, _ => False
  | n + 1, M, x4 => w_X4_sheet_55b p1 p2 p3 (w_X4_sheet_55 p1 p2 p3 post n) post M x4
def w_X4_sheet (p1 : Int32) (p2 : Int32) (p3 : Int32) (post : Int32 → MS → Prop) (M : MS) : Prop :=
  v_X4_isSheet p1 (fun r1 => (r1 = (0 : Int32) → (post ((-2) : Int32) M)) ∧ (¬ r1 = (0 : Int32) → (v_X4_in p2 (0 : Int32) (1 : Int32) (fun r3 => (r3 = (0 : Int32) → (post ((-2) : Int32) M)) ∧ (¬ r3 = (0 : Int32) → ((p3 ≤ (40 : Int32) → (((0 : Int32) ≤ p3 → (vp_in p1 4 ∧ (∀ M7 : MS, M7 = sM_forms M (upd (M_forms M) p1.toNatClampNeg p2) → (vp_in p1 4 ∧ (∀ M8 : MS, M8 = sM_sizes M7 (upd (M_sizes M7) p1.toNatClampNeg p3) → (∀ v9 : Int32, v9 = 40 * p1 → (∃ n, w_X4_sheet_55 p1 p2 p3 post n M8 v9))))))) ∧ (¬ (0 : Int32) ≤ p3 → (v_X4_meets M (5 : Int32) (fun r10 M11 => post r10 M11))))) ∧ (¬ p3 ≤ (40 : Int32) → (post ((-2) : Int32) M))))))))
abbrev rmX4_sheet : Room := { frames := 2, cells := 0, slots := 0, locals := 42 }
set_option maxHeartbeats 4000000 in
set_option maxRecDepth 100000 in
theorem k_X4_sheet_55b {p : Program} {l : Launch} {e : Env} {s : State} {m : MethodId} {args : Array Value} {below : List Frame} {meth : Method} {c : Code} {D : va_G} {dT : Nat → ClassId} {a : Nat → Nat} {A : Nat → Prop}  {p1 : Int32} {p2 : Int32} {p3 : Int32} {K55 : MS → Int32 → Prop} {post : Int32 → MS → Prop} (hC : wCx RX4 cX4_sheet 5 (some .int) D dT p s m args meth c) (hA : wAz A s) (hK55 : ∀ (M : MS) (x4 : Int32), K55 M x4 → ∀ {H : Heap} {locs : List Loc} {ls : Array Slot}, StM D dT a A s M H locs → lv_has ls 5 [(0, .ref (a 0)), (1, .int p1), (3, .int p3), (4, .int x4)] → W p l e rmX4_sheet s m args below meth c H locs 0 0 (MQ below (va_Qi post (wB D (MW dT a) MI A) A) args s 0 0 A) (F0 m 55 ls [])) (M : MS) (x4 : Int32) {H : Heap} {locs : List Loc} {ls : Array Slot} (hS : StM D dT a A s M H locs) (hl : lv_has ls 5 [(0, .ref (a 0)), (1, .int p1), (3, .int p3), (4, .int x4)])  (hw : w_X4_sheet_55b p1 p2 p3 K55 post M x4) : W p l e rmX4_sheet s m args below meth c H locs 0 0 (MQ below (va_Qi post (wB D (MW dT a) MI A) A) args s 0 0 A) (F0 m 55 ls []) := by
  have hx := hC.1
  have hb := hC.2.1
  have hown := hC.2.2.2.1
  have hts := hC.2.2.2.2.1
  unfold w_X4_sheet_55b at hw
  refine lv_iload hx hb dX4_sheet_55 (lv_at hl 3 rfl) ?_
  refine lv_bipush (v := 40) hx hb dX4_sheet_57 (by decide) ?_
  refine lv_iload_n hx hb dX4_sheet_59 rfl (lv_at hl 1 rfl) ?_
  refine lv_imul hx hb dX4_sheet_60 ?_
  refine lv_bipush (v := 40) hx hb dX4_sheet_61 (by decide) ?_
  refine lv_iadd hx hb dX4_sheet_63 ?_
  refine lv_icmp_ge (tgt := 81) hx hb dX4_sheet_64 (by decide) (fun c1 => ?_) (fun c1 => ?_)
  · have hw := hw.1 c1
    refine lv_iload_n hx hb dX4_sheet_81 rfl (lv_at hl 2 rfl) ?_
    exact wReti hC hS hw (Nat.le_refl _) (Nat.le_refl _) dX4_sheet_82
  · have hw := hw.2 c1
    refine lv_aload_n hx hb dX4_sheet_67 rfl (lv_at hl 0 rfl) ?_
    refine ld_q954 hC hS dX4_sheet_68 ?_
    refine lv_iload hx hb dX4_sheet_71 (lv_at hl 3 rfl) ?_
    refine lv_lconst (v := 0) hx hb dX4_sheet_73 (by decide) ?_
    have hi := hw.1
    have hw := hw.2
    refine as_items hC hS hi dX4_sheet_74 (fun H locs hS => ?_)
    have hw := hw (sM_items M (vp_updL (M_items M) x4.toNatClampNeg 0)) rfl
    generalize sM_items M (vp_updL (M_items M) x4.toNatClampNeg 0) = M2 at hS hw
    obtain ⟨v3, ev3⟩ : ∃ y : Int32, y = x4 + 1 := ⟨_, rfl⟩
    have hw := hw v3 ev3
    refine lv_iinc (v := v3) (lv' := [(4, .int v3), (0, .ref (a 0)), (1, .int p1), (3, .int p3)]) hx hb dX4_sheet_75 hl (k := 3) rfl (by rw [ev3]; rfl) (by decide) rfl (fun ls hl => ?_)
    refine lv_goto (tgt := 55) hx hb dX4_sheet_78 (by decide) ?_
    exact hK55 _ _ hw hS (lv_sub hl [1, 2, 3, 0] rfl)
set_option maxHeartbeats 4000000 in
set_option maxRecDepth 100000 in
theorem k_X4_sheet_55 {p : Program} {l : Launch} {e : Env} {s : State} {m : MethodId} {args : Array Value} {below : List Frame} {meth : Method} {c : Code} {D : va_G} {dT : Nat → ClassId} {a : Nat → Nat} {A : Nat → Prop}  {p1 : Int32} {p2 : Int32} {p3 : Int32} {post : Int32 → MS → Prop} (hC : wCx RX4 cX4_sheet 5 (some .int) D dT p s m args meth c) (hA : wAz A s) : ∀ (M : MS) (x4 : Int32) (n : Nat), ∀ {H : Heap} {locs : List Loc} {ls : Array Slot}, StM D dT a A s M H locs → lv_has ls 5 [(0, .ref (a 0)), (1, .int p1), (3, .int p3), (4, .int x4)] → w_X4_sheet_55 p1 p2 p3 post n M x4 → W p l e rmX4_sheet s m args below meth c H locs 0 0 (MQ below (va_Qi post (wB D (MW dT a) MI A) A) args s 0 0 A) (F0 m 55 ls []) := by
  intro M x4 n
  induction n generalizing M x4 with
  | zero => intro H locs ls  hS hl hw; exact hw.elim
  | succ n ih =>
    intro H locs ls  hS hl hw
    exact k_X4_sheet_55b hC hA (fun M x4 hk {H} {locs} {ls}  hS hl => ih M x4  hS hl hk) M x4  hS hl hw
set_option maxHeartbeats 4000000 in
set_option maxRecDepth 100000 in
theorem k_X4_sheet_0 {p : Program} {l : Launch} {e : Env} {s : State} {m : MethodId} {args : Array Value} {below : List Frame} {meth : Method} {c : Code} {D : va_G} {dT : Nat → ClassId} {a : Nat → Nat} {A : Nat → Prop}  {p1 : Int32} {p2 : Int32} {p3 : Int32} {post : Int32 → MS → Prop} (hC : wCx RX4 cX4_sheet 5 (some .int) D dT p s m args meth c) (hA : wAz A s) (M : MS) {H : Heap} {locs : List Loc} {ls : Array Slot} (hS : StM D dT a A s M H locs) (hl : lv_has ls 5 [(0, .ref (a 0)), (1, .int p1), (2, .int p2), (3, .int p3)])  (hw : w_X4_sheet p1 p2 p3 post M) : W p l e rmX4_sheet s m args below meth c H locs 0 0 (MQ below (va_Qi post (wB D (MW dT a) MI A) A) args s 0 0 A) (F0 m 0 ls []) := by
  have hx := hC.1
  have hb := hC.2.1
  have hown := hC.2.2.2.1
  have hts := hC.2.2.2.2.1
  unfold w_X4_sheet at hw
  refine lv_iload_n hx hb dX4_sheet_0 rfl (lv_at hl 1 rfl) ?_
  refine inv_q1047 hC hS hl.1 hw ⟨Nat.le_of_ble_eq_true rfl, Nat.le_of_ble_eq_true rfl⟩ (Nat.le_of_ble_eq_true rfl) ⟨Nat.zero_le _, Nat.zero_le _⟩ dX4_sheet_1 (fun r1 H locs hw hS => ?_)
  refine lv_if_eq (tgt := 22) hx hb dX4_sheet_4 (by decide) (fun c2 => ?_) (fun c2 => ?_)
  · have hw := hw.1 c2
    refine lv_bipush (v := (-2)) hx hb dX4_sheet_22 (by decide) ?_
    exact wReti hC hS hw (Nat.le_refl _) (Nat.le_refl _) dX4_sheet_24
  · have hw := hw.2 c2
    refine lv_iload_n hx hb dX4_sheet_7 rfl (lv_at hl 2 rfl) ?_
    refine lv_iconst (v := 0) hx hb dX4_sheet_8 (by decide) ?_
    refine lv_iconst (v := 1) hx hb dX4_sheet_9 (by decide) ?_
    refine inv_q1007 hC hS hl.1 hw ⟨Nat.le_of_ble_eq_true rfl, Nat.le_of_ble_eq_true rfl⟩ (Nat.le_of_ble_eq_true rfl) ⟨Nat.zero_le _, Nat.zero_le _⟩ dX4_sheet_10 (fun r3 H locs hw hS => ?_)
    refine lv_if_eq (tgt := 22) hx hb dX4_sheet_13 (by decide) (fun c4 => ?_) (fun c4 => ?_)
    · have hw := hw.1 c4
      refine lv_bipush (v := (-2)) hx hb dX4_sheet_22 (by decide) ?_
      exact wReti hC hS hw (Nat.le_refl _) (Nat.le_refl _) dX4_sheet_24
    · have hw := hw.2 c4
      refine lv_iload_n hx hb dX4_sheet_16 rfl (lv_at hl 3 rfl) ?_
      refine lv_bipush (v := 40) hx hb dX4_sheet_17 (by decide) ?_
      refine lv_icmp_le (tgt := 25) hx hb dX4_sheet_19 (by decide) (fun c5 => ?_) (fun c5 => ?_)
      · have hw := hw.1 c5
        refine lv_iload_n hx hb dX4_sheet_25 rfl (lv_at hl 3 rfl) ?_
        refine lv_if_ge (tgt := 35) hx hb dX4_sheet_26 (by decide) (fun c6 => ?_) (fun c6 => ?_)
        · have hw := hw.1 c6
          refine lv_aload_n hx hb dX4_sheet_35 rfl (lv_at hl 0 rfl) ?_
          refine ld_q952 hC hS dX4_sheet_36 ?_
          refine lv_iload_n hx hb dX4_sheet_39 rfl (lv_at hl 1 rfl) ?_
          refine lv_iload_n hx hb dX4_sheet_40 rfl (lv_at hl 2 rfl) ?_
          have hi := hw.1
          have hw := hw.2
          refine as_forms hC hS hi dX4_sheet_41 (fun H locs hS => ?_)
          have hw := hw (sM_forms M (upd (M_forms M) p1.toNatClampNeg p2)) rfl
          generalize sM_forms M (upd (M_forms M) p1.toNatClampNeg p2) = M7 at hS hw
          refine lv_aload_n hx hb dX4_sheet_42 rfl (lv_at hl 0 rfl) ?_
          refine ld_q953 hC hS dX4_sheet_43 ?_
          refine lv_iload_n hx hb dX4_sheet_46 rfl (lv_at hl 1 rfl) ?_
          refine lv_iload_n hx hb dX4_sheet_47 rfl (lv_at hl 3 rfl) ?_
          have hi := hw.1
          have hw := hw.2
          refine as_sizes hC hS hi dX4_sheet_48 (fun H locs hS => ?_)
          have hw := hw (sM_sizes M7 (upd (M_sizes M7) p1.toNatClampNeg p3)) rfl
          generalize sM_sizes M7 (upd (M_sizes M7) p1.toNatClampNeg p3) = M8 at hS hw
          refine lv_bipush (v := 40) hx hb dX4_sheet_49 (by decide) ?_
          refine lv_iload_n hx hb dX4_sheet_51 rfl (lv_at hl 1 rfl) ?_
          refine lv_imul hx hb dX4_sheet_52 ?_
          refine lv_topi (fun v9 ev9 => ?_)
          have hw := hw v9 ev9
          refine lv_istore (lv' := [(4, .int v9), (0, .ref (a 0)), (1, .int p1), (2, .int p2), (3, .int p3)]) hx hb dX4_sheet_53 hl (by decide) rfl (fun ls hl => ?_)
          obtain ⟨n, hw⟩ := hw
          exact k_X4_sheet_55 hC hA _ _ n hS (lv_sub hl [1, 2, 4, 0] rfl) hw
        · have hw := hw.2 c6
          refine lv_aload_n hx hb dX4_sheet_29 rfl (lv_at hl 0 rfl) ?_
          refine lv_iconst (v := 5) hx hb dX4_sheet_30 (by decide) ?_
          refine inv_q1050 hC hA hS hl.1 hw ⟨Nat.le_of_ble_eq_true rfl, Nat.le_of_ble_eq_true rfl⟩ (Nat.le_of_ble_eq_true rfl) ⟨Nat.zero_le _, Nat.zero_le _⟩ dX4_sheet_31 (fun r10 M11 H locs hw hS => ?_)
          exact wReti hC hS hw (Nat.le_refl _) (Nat.le_refl _) dX4_sheet_34
      · have hw := hw.2 c5
        refine lv_bipush (v := (-2)) hx hb dX4_sheet_22 (by decide) ?_
        exact wReti hC hS hw (Nat.le_refl _) (Nat.le_refl _) dX4_sheet_24
abbrev v_X4_sheet (M : MS) (p1 : Int32) (p2 : Int32) (p3 : Int32) (post : Int32 → MS → Prop) : Prop := w_X4_sheet p1 p2 p3 post M
set_option maxHeartbeats 4000000 in
set_option maxRecDepth 100000 in
theorem met_X4_sheet (l : Launch) (D : va_G) (dT : Nat → ClassId) (a : Nat → Nat) (sz : Nat) (M : MS) (p1 : Int32) (p2 : Int32) (p3 : Int32) (post : Int32 → MS → Prop) (hw : v_X4_sheet M p1 p2 p3 post) : Met l yX4_sheet (ws_ yX4_sheet cX4_sheet 5 (some .int)) rmX4_sheet (wPc D dT (MW dT a) MI sz M [.ref (a 0), .int p1, .int p2, .int p3]) (va_Qi post (wB D (MW dT a) MI (va_A ((MW dT a) M) sz)) (va_A ((MW dT a) M) sz)) 0 0 (va_A ((MW dT a) M) sz) :=
  wEnt (Q := fun A => (va_Qi post (wB D (MW dT a) MI A) A)) (by decide) (Nat.le_of_ble_eq_true rfl) (fun p e s m below meth c A ls hC _ hA hS hl => k_X4_sheet_0 hC hA _ hS hl hw) sz
theorem hd_X4_sheet : yX4_sheet.cls ≠ "java/lang/invoke/MethodHandle" ∧ yX4_sheet.cls ≠ "java/lang/invoke/VarHandle" ∧ (parseMethodDescriptor yX4_sheet.desc).map (fun d => d.parameters.length) = some 3 := by decide +kernel
/-! LeastFramesModel.lose -/
def w_X4_lose (p1 : Int32) (post : Int32 → MS → Prop) (M : MS) : Prop :=
  v_X4_isSheet p1 (fun r1 => (r1 = (0 : Int32) → (post ((-2) : Int32) M)) ∧ (¬ r1 = (0 : Int32) → (vp_in p1 4 ∧ (((M_forms M p1.toNatClampNeg) = ((-1) : Int32) → (v_X4_meets M (1 : Int32) (fun r5 M6 => post r5 M6))) ∧ (¬ (M_forms M p1.toNatClampNeg) = ((-1) : Int32) → (vp_in p1 4 ∧ (∀ M4 : MS, M4 = sM_forms M (upd (M_forms M) p1.toNatClampNeg (-1)) → (vp_in p1 4 ∧ (post (M_sizes M4 p1.toNatClampNeg) M4)))))))))
abbrev rmX4_lose : Room := { frames := 2, cells := 0, slots := 0, locals := 42 }
set_option maxHeartbeats 4000000 in
set_option maxRecDepth 100000 in
theorem k_X4_lose_0 {p : Program} {l : Launch} {e : Env} {s : State} {m : MethodId} {args : Array Value} {below : List Frame} {meth : Method} {c : Code} {D : va_G} {dT : Nat → ClassId} {a : Nat → Nat} {A : Nat → Prop}  {p1 : Int32} {post : Int32 → MS → Prop} (hC : wCx RX4 cX4_lose 2 (some .int) D dT p s m args meth c) (hA : wAz A s) (M : MS) {H : Heap} {locs : List Loc} {ls : Array Slot} (hS : StM D dT a A s M H locs) (hl : lv_has ls 2 [(0, .ref (a 0)), (1, .int p1)])  (hw : w_X4_lose p1 post M) : W p l e rmX4_lose s m args below meth c H locs 0 0 (MQ below (va_Qi post (wB D (MW dT a) MI A) A) args s 0 0 A) (F0 m 0 ls []) := by
  have hx := hC.1
  have hb := hC.2.1
  have hown := hC.2.2.2.1
  have hts := hC.2.2.2.2.1
  unfold w_X4_lose at hw
  refine lv_iload_n hx hb dX4_lose_0 rfl (lv_at hl 1 rfl) ?_
  refine inv_q1047 hC hS hl.1 hw ⟨Nat.le_of_ble_eq_true rfl, Nat.le_of_ble_eq_true rfl⟩ (Nat.le_of_ble_eq_true rfl) ⟨Nat.zero_le _, Nat.zero_le _⟩ dX4_lose_1 (fun r1 H locs hw hS => ?_)
  refine lv_if_ne (tgt := 10) hx hb dX4_lose_4 (by decide) (fun c2 => ?_) (fun c2 => ?_)
  · have hw := hw.2 c2
    refine lv_aload_n hx hb dX4_lose_10 rfl (lv_at hl 0 rfl) ?_
    refine ld_q952 hC hS dX4_lose_11 ?_
    refine lv_iload_n hx hb dX4_lose_14 rfl (lv_at hl 1 rfl) ?_
    refine al_forms hC hS hw.1 dX4_lose_15 ?_
    have hw := hw.2
    refine lv_iconst (v := (-1)) hx hb dX4_lose_16 (by decide) ?_
    refine lv_icmp_ne (tgt := 26) hx hb dX4_lose_17 (by decide) (fun c3 => ?_) (fun c3 => ?_)
    · have hw := hw.2 c3
      refine lv_aload_n hx hb dX4_lose_26 rfl (lv_at hl 0 rfl) ?_
      refine ld_q952 hC hS dX4_lose_27 ?_
      refine lv_iload_n hx hb dX4_lose_30 rfl (lv_at hl 1 rfl) ?_
      refine lv_iconst (v := (-1)) hx hb dX4_lose_31 (by decide) ?_
      have hi := hw.1
      have hw := hw.2
      refine as_forms hC hS hi dX4_lose_32 (fun H locs hS => ?_)
      have hw := hw (sM_forms M (upd (M_forms M) p1.toNatClampNeg (-1))) rfl
      generalize sM_forms M (upd (M_forms M) p1.toNatClampNeg (-1)) = M4 at hS hw
      refine lv_aload_n hx hb dX4_lose_33 rfl (lv_at hl 0 rfl) ?_
      refine ld_q953 hC hS dX4_lose_34 ?_
      refine lv_iload_n hx hb dX4_lose_37 rfl (lv_at hl 1 rfl) ?_
      refine al_sizes hC hS hw.1 dX4_lose_38 ?_
      have hw := hw.2
      exact wReti hC hS hw (Nat.le_refl _) (Nat.le_refl _) dX4_lose_39
    · have hw := hw.1 c3
      refine lv_aload_n hx hb dX4_lose_20 rfl (lv_at hl 0 rfl) ?_
      refine lv_iconst (v := 1) hx hb dX4_lose_21 (by decide) ?_
      refine inv_q1050 hC hA hS hl.1 hw ⟨Nat.le_of_ble_eq_true rfl, Nat.le_of_ble_eq_true rfl⟩ (Nat.le_of_ble_eq_true rfl) ⟨Nat.zero_le _, Nat.zero_le _⟩ dX4_lose_22 (fun r5 M6 H locs hw hS => ?_)
      exact wReti hC hS hw (Nat.le_refl _) (Nat.le_refl _) dX4_lose_25
  · have hw := hw.1 c2
    refine lv_bipush (v := (-2)) hx hb dX4_lose_7 (by decide) ?_
    exact wReti hC hS hw (Nat.le_refl _) (Nat.le_refl _) dX4_lose_9
abbrev v_X4_lose (M : MS) (p1 : Int32) (post : Int32 → MS → Prop) : Prop := w_X4_lose p1 post M
set_option maxHeartbeats 4000000 in
set_option maxRecDepth 100000 in
theorem met_X4_lose (l : Launch) (D : va_G) (dT : Nat → ClassId) (a : Nat → Nat) (sz : Nat) (M : MS) (p1 : Int32) (post : Int32 → MS → Prop) (hw : v_X4_lose M p1 post) : Met l yX4_lose (ws_ yX4_lose cX4_lose 2 (some .int)) rmX4_lose (wPc D dT (MW dT a) MI sz M [.ref (a 0), .int p1]) (va_Qi post (wB D (MW dT a) MI (va_A ((MW dT a) M) sz)) (va_A ((MW dT a) M) sz)) 0 0 (va_A ((MW dT a) M) sz) :=
  wEnt (Q := fun A => (va_Qi post (wB D (MW dT a) MI A) A)) (by decide) (Nat.le_of_ble_eq_true rfl) (fun p e s m below meth c A ls hC _ hA hS hl => k_X4_lose_0 hC hA _ hS hl hw) sz
theorem hd_X4_lose : yX4_lose.cls ≠ "java/lang/invoke/MethodHandle" ∧ yX4_lose.cls ≠ "java/lang/invoke/VarHandle" ∧ (parseMethodDescriptor yX4_lose.desc).map (fun d => d.parameters.length) = some 1 := by decide +kernel
/-! LeastFramesModel.put -/
def w_X4_put_102 (p1 : Int32) (p2 : Int32) (p3 : Int32) (p4 : Int32) (post : Int32 → MS → Prop) (M : MS) (y0 : Int32) : Prop :=
  (y0 ≤ (0 : Int32) → ((p2 = (1 : Int32) → (vp_in ((40 * p1) + p3) 160 ∧ (∀ M4 : MS, M4 = sM_items M (vp_updL (M_items M) ((40 * p1) + p3).toNatClampNeg ((p4.toInt64 * p4.toInt64) * p4.toInt64)) → (post (1 : Int32) M4)))) ∧ (¬ p2 = (1 : Int32) → (vp_in ((40 * p1) + p3) 160 ∧ (∀ M3 : MS, M3 = sM_items M (vp_updL (M_items M) ((40 * p1) + p3).toNatClampNeg p4.toInt64) → (post (1 : Int32) M3)))))) ∧ (¬ y0 ≤ (0 : Int32) → (v_X4_meets M y0 (fun r5 M6 => post r5 M6)))
def w_X4_put_41 (p1 : Int32) (p2 : Int32) (p3 : Int32) (p4 : Int32) (post : Int32 → MS → Prop) (M : MS) (y0 : Int32) : Prop :=
  vp_in p1 4 ∧ (((M_forms M p1.toNatClampNeg) = ((-1) : Int32) → (w_X4_put_102 p1 p2 p3 p4 post M 1)) ∧ (¬ (M_forms M p1.toNatClampNeg) = ((-1) : Int32) → (vp_in p1 4 ∧ (((M_forms M p1.toNatClampNeg) = p2 → (vp_in p1 4 ∧ (v_X4_in p3 (0 : Int32) ((M_sizes M p1.toNatClampNeg) - 1) (fun r3 => (r3 = (0 : Int32) → (w_X4_put_102 p1 p2 p3 p4 post M 2)) ∧ (¬ r3 = (0 : Int32) → ((y0 = (0 : Int32) → (w_X4_put_102 p1 p2 p3 p4 post M 0)) ∧ (¬ y0 = (0 : Int32) → (w_X4_put_102 p1 p2 p3 p4 post M 6)))))))) ∧ (¬ (M_forms M p1.toNatClampNeg) = p2 → (w_X4_put_102 p1 p2 p3 p4 post M 3))))))
def w_X4_put (p1 : Int32) (p2 : Int32) (p3 : Int32) (p4 : Int32) (post : Int32 → MS → Prop) (M : MS) : Prop :=
  v_X4_isSheet p1 (fun r1 => (r1 = (0 : Int32) → (post ((-2) : Int32) M)) ∧ (¬ r1 = (0 : Int32) → (v_X4_in p2 (0 : Int32) (1 : Int32) (fun r3 => (r3 = (0 : Int32) → (post ((-2) : Int32) M)) ∧ (¬ r3 = (0 : Int32) → ((p2 = (1 : Int32) → (v_X4_in p4 ((-2097152) : Int32) (2097151 : Int32) (fun r6 => (r6 = (0 : Int32) → (w_X4_put_41 p1 p2 p3 p4 post M 1)) ∧ (¬ r6 = (0 : Int32) → (w_X4_put_41 p1 p2 p3 p4 post M 0))))) ∧ (¬ p2 = (1 : Int32) → (w_X4_put_41 p1 p2 p3 p4 post M 0))))))))
abbrev rmX4_put : Room := { frames := 2, cells := 0, slots := 0, locals := 42 }
set_option maxHeartbeats 4000000 in
set_option maxRecDepth 100000 in
theorem k_X4_put_102 {p : Program} {l : Launch} {e : Env} {s : State} {m : MethodId} {args : Array Value} {below : List Frame} {meth : Method} {c : Code} {D : va_G} {dT : Nat → ClassId} {a : Nat → Nat} {A : Nat → Prop}  {p1 : Int32} {p2 : Int32} {p3 : Int32} {p4 : Int32} {post : Int32 → MS → Prop} (hC : wCx RX4 cX4_put 7 (some .int) D dT p s m args meth c) (hA : wAz A s) (M : MS) (y0 : Int32) {H : Heap} {locs : List Loc} {ls : Array Slot} (hS : StM D dT a A s M H locs) (hl : lv_has ls 7 [(0, .ref (a 0)), (1, .int p1), (2, .int p2), (3, .int p3), (4, .int p4)])  (hw : w_X4_put_102 p1 p2 p3 p4 post M y0) : W p l e rmX4_put s m args below meth c H locs 0 0 (MQ below (va_Qi post (wB D (MW dT a) MI A) A) args s 0 0 A) (F0 m 102 ls [.int y0]) := by
  have hx := hC.1
  have hb := hC.2.1
  have hown := hC.2.2.2.1
  have hts := hC.2.2.2.2.1
  unfold w_X4_put_102 at hw
  refine lv_istore (lv' := [(6, .int y0), (0, .ref (a 0)), (1, .int p1), (2, .int p2), (3, .int p3), (4, .int p4)]) hx hb dX4_put_102 hl (by decide) rfl (fun ls hl => ?_)
  refine lv_iload hx hb dX4_put_104 (lv_at hl 0 rfl) ?_
  refine lv_if_le (tgt := 116) hx hb dX4_put_106 (by decide) (fun c1 => ?_) (fun c1 => ?_)
  · have hw := hw.1 c1
    refine lv_aload_n hx hb dX4_put_116 rfl (lv_at hl 1 rfl) ?_
    refine ld_q954 hC hS dX4_put_117 ?_
    refine lv_bipush (v := 40) hx hb dX4_put_120 (by decide) ?_
    refine lv_iload_n hx hb dX4_put_122 rfl (lv_at hl 2 rfl) ?_
    refine lv_imul hx hb dX4_put_123 ?_
    refine lv_iload_n hx hb dX4_put_124 rfl (lv_at hl 4 rfl) ?_
    refine lv_iadd hx hb dX4_put_125 ?_
    refine lv_iload_n hx hb dX4_put_126 rfl (lv_at hl 3 rfl) ?_
    refine lv_iconst (v := 1) hx hb dX4_put_127 (by decide) ?_
    refine lv_icmp_ne (tgt := 145) hx hb dX4_put_128 (by decide) (fun c2 => ?_) (fun c2 => ?_)
    · have hw := hw.2 c2
      refine lv_iload hx hb dX4_put_145 (lv_at hl 5 rfl) ?_
      refine lv_i2l hx hb dX4_put_147 rfl ?_
      have hi := hw.1
      have hw := hw.2
      refine as_items hC hS hi dX4_put_148 (fun H locs hS => ?_)
      have hw := hw (sM_items M (vp_updL (M_items M) ((40 * p1) + p3).toNatClampNeg p4.toInt64)) rfl
      generalize sM_items M (vp_updL (M_items M) ((40 * p1) + p3).toNatClampNeg p4.toInt64) = M3 at hS hw
      refine lv_iconst (v := 1) hx hb dX4_put_149 (by decide) ?_
      exact wReti hC hS hw (Nat.le_refl _) (Nat.le_refl _) dX4_put_150
    · have hw := hw.1 c2
      refine lv_iload hx hb dX4_put_131 (lv_at hl 5 rfl) ?_
      refine lv_i2l hx hb dX4_put_133 rfl ?_
      refine lv_iload hx hb dX4_put_134 (lv_at hl 5 rfl) ?_
      refine lv_i2l hx hb dX4_put_136 rfl ?_
      refine lv_lmul hx hb dX4_put_137 ?_
      refine lv_iload hx hb dX4_put_138 (lv_at hl 5 rfl) ?_
      refine lv_i2l hx hb dX4_put_140 rfl ?_
      refine lv_lmul hx hb dX4_put_141 ?_
      refine lv_goto (tgt := 148) hx hb dX4_put_142 (by decide) ?_
      have hi := hw.1
      have hw := hw.2
      refine as_items hC hS hi dX4_put_148 (fun H locs hS => ?_)
      have hw := hw (sM_items M (vp_updL (M_items M) ((40 * p1) + p3).toNatClampNeg ((p4.toInt64 * p4.toInt64) * p4.toInt64))) rfl
      generalize sM_items M (vp_updL (M_items M) ((40 * p1) + p3).toNatClampNeg ((p4.toInt64 * p4.toInt64) * p4.toInt64)) = M4 at hS hw
      refine lv_iconst (v := 1) hx hb dX4_put_149 (by decide) ?_
      exact wReti hC hS hw (Nat.le_refl _) (Nat.le_refl _) dX4_put_150
  · have hw := hw.2 c1
    refine lv_aload_n hx hb dX4_put_109 rfl (lv_at hl 1 rfl) ?_
    refine lv_iload hx hb dX4_put_110 (lv_at hl 0 rfl) ?_
    refine inv_q1050 hC hA hS hl.1 hw ⟨Nat.le_of_ble_eq_true rfl, Nat.le_of_ble_eq_true rfl⟩ (Nat.le_of_ble_eq_true rfl) ⟨Nat.zero_le _, Nat.zero_le _⟩ dX4_put_112 (fun r5 M6 H locs hw hS => ?_)
    exact wReti hC hS hw (Nat.le_refl _) (Nat.le_refl _) dX4_put_115
set_option maxHeartbeats 4000000 in
set_option maxRecDepth 100000 in
theorem k_X4_put_41 {p : Program} {l : Launch} {e : Env} {s : State} {m : MethodId} {args : Array Value} {below : List Frame} {meth : Method} {c : Code} {D : va_G} {dT : Nat → ClassId} {a : Nat → Nat} {A : Nat → Prop}  {p1 : Int32} {p2 : Int32} {p3 : Int32} {p4 : Int32} {post : Int32 → MS → Prop} (hC : wCx RX4 cX4_put 7 (some .int) D dT p s m args meth c) (hA : wAz A s) (M : MS) (y0 : Int32) {H : Heap} {locs : List Loc} {ls : Array Slot} (hS : StM D dT a A s M H locs) (hl : lv_has ls 7 [(0, .ref (a 0)), (1, .int p1), (2, .int p2), (3, .int p3), (4, .int p4)])  (hw : w_X4_put_41 p1 p2 p3 p4 post M y0) : W p l e rmX4_put s m args below meth c H locs 0 0 (MQ below (va_Qi post (wB D (MW dT a) MI A) A) args s 0 0 A) (F0 m 41 ls [.int y0]) := by
  have hx := hC.1
  have hb := hC.2.1
  have hown := hC.2.2.2.1
  have hts := hC.2.2.2.2.1
  unfold w_X4_put_41 at hw
  refine lv_istore (lv' := [(5, .int y0), (0, .ref (a 0)), (1, .int p1), (2, .int p2), (3, .int p3), (4, .int p4)]) hx hb dX4_put_41 hl (by decide) rfl (fun ls hl => ?_)
  refine lv_aload_n hx hb dX4_put_43 rfl (lv_at hl 1 rfl) ?_
  refine ld_q952 hC hS dX4_put_44 ?_
  refine lv_iload_n hx hb dX4_put_47 rfl (lv_at hl 2 rfl) ?_
  refine al_forms hC hS hw.1 dX4_put_48 ?_
  have hw := hw.2
  refine lv_iconst (v := (-1)) hx hb dX4_put_49 (by decide) ?_
  refine lv_icmp_ne (tgt := 57) hx hb dX4_put_50 (by decide) (fun c1 => ?_) (fun c1 => ?_)
  · have hw := hw.2 c1
    refine lv_aload_n hx hb dX4_put_57 rfl (lv_at hl 1 rfl) ?_
    refine ld_q952 hC hS dX4_put_58 ?_
    refine lv_iload_n hx hb dX4_put_61 rfl (lv_at hl 2 rfl) ?_
    refine al_forms hC hS hw.1 dX4_put_62 ?_
    have hw := hw.2
    refine lv_iload_n hx hb dX4_put_63 rfl (lv_at hl 3 rfl) ?_
    refine lv_icmp_eq (tgt := 71) hx hb dX4_put_64 (by decide) (fun c2 => ?_) (fun c2 => ?_)
    · have hw := hw.1 c2
      refine lv_iload_n hx hb dX4_put_71 rfl (lv_at hl 4 rfl) ?_
      refine lv_iconst (v := 0) hx hb dX4_put_72 (by decide) ?_
      refine lv_aload_n hx hb dX4_put_73 rfl (lv_at hl 1 rfl) ?_
      refine ld_q953 hC hS dX4_put_74 ?_
      refine lv_iload_n hx hb dX4_put_77 rfl (lv_at hl 2 rfl) ?_
      refine al_sizes hC hS hw.1 dX4_put_78 ?_
      have hw := hw.2
      refine lv_iconst (v := 1) hx hb dX4_put_79 (by decide) ?_
      refine lv_isub hx hb dX4_put_80 ?_
      refine inv_q1007 hC hS hl.1 hw ⟨Nat.le_of_ble_eq_true rfl, Nat.le_of_ble_eq_true rfl⟩ (Nat.le_of_ble_eq_true rfl) ⟨Nat.zero_le _, Nat.zero_le _⟩ dX4_put_81 (fun r3 H locs hw hS => ?_)
      refine lv_if_ne (tgt := 91) hx hb dX4_put_84 (by decide) (fun c4 => ?_) (fun c4 => ?_)
      · have hw := hw.2 c4
        refine lv_iload hx hb dX4_put_91 (lv_at hl 0 rfl) ?_
        refine lv_if_eq (tgt := 101) hx hb dX4_put_93 (by decide) (fun c5 => ?_) (fun c5 => ?_)
        · have hw := hw.1 c5
          refine lv_iconst (v := 0) hx hb dX4_put_101 (by decide) ?_
          exact k_X4_put_102 hC hA _ _ hS (lv_sub hl [1, 2, 3, 4, 5] rfl) hw
        · have hw := hw.2 c5
          refine lv_bipush (v := 6) hx hb dX4_put_96 (by decide) ?_
          refine lv_goto (tgt := 102) hx hb dX4_put_98 (by decide) ?_
          exact k_X4_put_102 hC hA _ _ hS (lv_sub hl [1, 2, 3, 4, 5] rfl) hw
      · have hw := hw.1 c4
        refine lv_iconst (v := 2) hx hb dX4_put_87 (by decide) ?_
        refine lv_goto (tgt := 102) hx hb dX4_put_88 (by decide) ?_
        exact k_X4_put_102 hC hA _ _ hS (lv_sub hl [1, 2, 3, 4, 5] rfl) hw
    · have hw := hw.2 c2
      refine lv_iconst (v := 3) hx hb dX4_put_67 (by decide) ?_
      refine lv_goto (tgt := 102) hx hb dX4_put_68 (by decide) ?_
      exact k_X4_put_102 hC hA _ _ hS (lv_sub hl [1, 2, 3, 4, 5] rfl) hw
  · have hw := hw.1 c1
    refine lv_iconst (v := 1) hx hb dX4_put_53 (by decide) ?_
    refine lv_goto (tgt := 102) hx hb dX4_put_54 (by decide) ?_
    exact k_X4_put_102 hC hA _ _ hS (lv_sub hl [1, 2, 3, 4, 5] rfl) hw
set_option maxHeartbeats 4000000 in
set_option maxRecDepth 100000 in
theorem k_X4_put_0 {p : Program} {l : Launch} {e : Env} {s : State} {m : MethodId} {args : Array Value} {below : List Frame} {meth : Method} {c : Code} {D : va_G} {dT : Nat → ClassId} {a : Nat → Nat} {A : Nat → Prop}  {p1 : Int32} {p2 : Int32} {p3 : Int32} {p4 : Int32} {post : Int32 → MS → Prop} (hC : wCx RX4 cX4_put 7 (some .int) D dT p s m args meth c) (hA : wAz A s) (M : MS) {H : Heap} {locs : List Loc} {ls : Array Slot} (hS : StM D dT a A s M H locs) (hl : lv_has ls 7 [(0, .ref (a 0)), (1, .int p1), (2, .int p2), (3, .int p3), (4, .int p4)])  (hw : w_X4_put p1 p2 p3 p4 post M) : W p l e rmX4_put s m args below meth c H locs 0 0 (MQ below (va_Qi post (wB D (MW dT a) MI A) A) args s 0 0 A) (F0 m 0 ls []) := by
  have hx := hC.1
  have hb := hC.2.1
  have hown := hC.2.2.2.1
  have hts := hC.2.2.2.2.1
  unfold w_X4_put at hw
  refine lv_iload_n hx hb dX4_put_0 rfl (lv_at hl 1 rfl) ?_
  refine inv_q1047 hC hS hl.1 hw ⟨Nat.le_of_ble_eq_true rfl, Nat.le_of_ble_eq_true rfl⟩ (Nat.le_of_ble_eq_true rfl) ⟨Nat.zero_le _, Nat.zero_le _⟩ dX4_put_1 (fun r1 H locs hw hS => ?_)
  refine lv_if_eq (tgt := 16) hx hb dX4_put_4 (by decide) (fun c2 => ?_) (fun c2 => ?_)
  · have hw := hw.1 c2
    refine lv_bipush (v := (-2)) hx hb dX4_put_16 (by decide) ?_
    exact wReti hC hS hw (Nat.le_refl _) (Nat.le_refl _) dX4_put_18
  · have hw := hw.2 c2
    refine lv_iload_n hx hb dX4_put_7 rfl (lv_at hl 2 rfl) ?_
    refine lv_iconst (v := 0) hx hb dX4_put_8 (by decide) ?_
    refine lv_iconst (v := 1) hx hb dX4_put_9 (by decide) ?_
    refine inv_q1007 hC hS hl.1 hw ⟨Nat.le_of_ble_eq_true rfl, Nat.le_of_ble_eq_true rfl⟩ (Nat.le_of_ble_eq_true rfl) ⟨Nat.zero_le _, Nat.zero_le _⟩ dX4_put_10 (fun r3 H locs hw hS => ?_)
    refine lv_if_ne (tgt := 19) hx hb dX4_put_13 (by decide) (fun c4 => ?_) (fun c4 => ?_)
    · have hw := hw.2 c4
      refine lv_iload_n hx hb dX4_put_19 rfl (lv_at hl 2 rfl) ?_
      refine lv_iconst (v := 1) hx hb dX4_put_20 (by decide) ?_
      refine lv_icmp_ne (tgt := 40) hx hb dX4_put_21 (by decide) (fun c5 => ?_) (fun c5 => ?_)
      · have hw := hw.2 c5
        refine lv_iconst (v := 0) hx hb dX4_put_40 (by decide) ?_
        exact k_X4_put_41 hC hA _ _ hS (lv_sub hl [0, 1, 2, 3, 4] rfl) hw
      · have hw := hw.1 c5
        refine lv_iload hx hb dX4_put_24 (lv_at hl 4 rfl) ?_
        refine lv_ldc (v := (-2097152)) hx hb hown (hts _ q1288) dX4_put_26 ?_
        refine lv_ldc (v := 2097151) hx hb hown (hts _ q1289) dX4_put_28 ?_
        refine inv_q1007 hC hS hl.1 hw ⟨Nat.le_of_ble_eq_true rfl, Nat.le_of_ble_eq_true rfl⟩ (Nat.le_of_ble_eq_true rfl) ⟨Nat.zero_le _, Nat.zero_le _⟩ dX4_put_30 (fun r6 H locs hw hS => ?_)
        refine lv_if_ne (tgt := 40) hx hb dX4_put_33 (by decide) (fun c7 => ?_) (fun c7 => ?_)
        · have hw := hw.2 c7
          refine lv_iconst (v := 0) hx hb dX4_put_40 (by decide) ?_
          exact k_X4_put_41 hC hA _ _ hS (lv_sub hl [0, 1, 2, 3, 4] rfl) hw
        · have hw := hw.1 c7
          refine lv_iconst (v := 1) hx hb dX4_put_36 (by decide) ?_
          refine lv_goto (tgt := 41) hx hb dX4_put_37 (by decide) ?_
          exact k_X4_put_41 hC hA _ _ hS (lv_sub hl [0, 1, 2, 3, 4] rfl) hw
    · have hw := hw.1 c4
      refine lv_bipush (v := (-2)) hx hb dX4_put_16 (by decide) ?_
      exact wReti hC hS hw (Nat.le_refl _) (Nat.le_refl _) dX4_put_18
abbrev v_X4_put (M : MS) (p1 : Int32) (p2 : Int32) (p3 : Int32) (p4 : Int32) (post : Int32 → MS → Prop) : Prop := w_X4_put p1 p2 p3 p4 post M
set_option maxHeartbeats 4000000 in
set_option maxRecDepth 100000 in
theorem met_X4_put (l : Launch) (D : va_G) (dT : Nat → ClassId) (a : Nat → Nat) (sz : Nat) (M : MS) (p1 : Int32) (p2 : Int32) (p3 : Int32) (p4 : Int32) (post : Int32 → MS → Prop) (hw : v_X4_put M p1 p2 p3 p4 post) : Met l yX4_put (ws_ yX4_put cX4_put 7 (some .int)) rmX4_put (wPc D dT (MW dT a) MI sz M [.ref (a 0), .int p1, .int p2, .int p3, .int p4]) (va_Qi post (wB D (MW dT a) MI (va_A ((MW dT a) M) sz)) (va_A ((MW dT a) M) sz)) 0 0 (va_A ((MW dT a) M) sz) :=
  wEnt (Q := fun A => (va_Qi post (wB D (MW dT a) MI A) A)) (by decide) (Nat.le_of_ble_eq_true rfl) (fun p e s m below meth c A ls hC _ hA hS hl => k_X4_put_0 hC hA _ hS hl hw) sz
theorem hd_X4_put : yX4_put.cls ≠ "java/lang/invoke/MethodHandle" ∧ yX4_put.cls ≠ "java/lang/invoke/VarHandle" ∧ (parseMethodDescriptor yX4_put.desc).map (fun d => d.parameters.length) = some 4 := by decide +kernel
/-! LeastFramesModel.get -/
def w_X4_get_48 (p1 : Int32) (p2 : Int32) (post : Int64 → MS → Prop) (M : MS) (y0 : Int32) : Prop :=
  (y0 ≤ (0 : Int32) → (vp_in ((40 * p1) + p2) 160 ∧ (post (M_items M ((40 * p1) + p2).toNatClampNeg) M))) ∧ (¬ y0 ≤ (0 : Int32) → (v_X4_meets M y0 (fun r2 M3 => v_X4_no r2 (fun r4 => post r4 M3))))
def w_X4_get (p1 : Int32) (p2 : Int32) (post : Int64 → MS → Prop) (M : MS) : Prop :=
  v_X4_isSheet p1 (fun r1 => (r1 = (0 : Int32) → (v_X4_no ((-2) : Int32) (fun r6 => post r6 M))) ∧ (¬ r1 = (0 : Int32) → (vp_in p1 4 ∧ (((M_forms M p1.toNatClampNeg) = ((-1) : Int32) → (w_X4_get_48 p1 p2 post M 1)) ∧ (¬ (M_forms M p1.toNatClampNeg) = ((-1) : Int32) → (vp_in p1 4 ∧ (v_X4_in p2 (0 : Int32) ((M_sizes M p1.toNatClampNeg) - 1) (fun r4 => (r4 = (0 : Int32) → (w_X4_get_48 p1 p2 post M 2)) ∧ (¬ r4 = (0 : Int32) → (w_X4_get_48 p1 p2 post M 0))))))))))
abbrev rmX4_get : Room := { frames := 2, cells := 0, slots := 0, locals := 42 }
set_option maxHeartbeats 4000000 in
set_option maxRecDepth 100000 in
theorem k_X4_get_48 {p : Program} {l : Launch} {e : Env} {s : State} {m : MethodId} {args : Array Value} {below : List Frame} {meth : Method} {c : Code} {D : va_G} {dT : Nat → ClassId} {a : Nat → Nat} {A : Nat → Prop}  {p1 : Int32} {p2 : Int32} {post : Int64 → MS → Prop} (hC : wCx RX4 cX4_get 4 (some .long) D dT p s m args meth c) (hA : wAz A s) (M : MS) (y0 : Int32) {H : Heap} {locs : List Loc} {ls : Array Slot} (hS : StM D dT a A s M H locs) (hl : lv_has ls 4 [(0, .ref (a 0)), (1, .int p1), (2, .int p2)])  (hw : w_X4_get_48 p1 p2 post M y0) : W p l e rmX4_get s m args below meth c H locs 0 0 (MQ below (va_Ql post (wB D (MW dT a) MI A) A) args s 0 0 A) (F0 m 48 ls [.int y0]) := by
  have hx := hC.1
  have hb := hC.2.1
  have hown := hC.2.2.2.1
  have hts := hC.2.2.2.2.1
  unfold w_X4_get_48 at hw
  refine lv_istore_n (lv' := [(3, .int y0), (0, .ref (a 0)), (1, .int p1), (2, .int p2)]) hx hb dX4_get_48 rfl hl (by decide) rfl (fun ls hl => ?_)
  refine lv_iload_n hx hb dX4_get_49 rfl (lv_at hl 0 rfl) ?_
  refine lv_if_le (tgt := 64) hx hb dX4_get_50 (by decide) (fun c1 => ?_) (fun c1 => ?_)
  · have hw := hw.1 c1
    refine lv_aload_n hx hb dX4_get_64 rfl (lv_at hl 1 rfl) ?_
    refine ld_q954 hC hS dX4_get_65 ?_
    refine lv_bipush (v := 40) hx hb dX4_get_68 (by decide) ?_
    refine lv_iload_n hx hb dX4_get_70 rfl (lv_at hl 2 rfl) ?_
    refine lv_imul hx hb dX4_get_71 ?_
    refine lv_iload_n hx hb dX4_get_72 rfl (lv_at hl 3 rfl) ?_
    refine lv_iadd hx hb dX4_get_73 ?_
    refine al_items hC hS hw.1 dX4_get_74 ?_
    have hw := hw.2
    exact wRetl hC hS hw (Nat.le_refl _) (Nat.le_refl _) dX4_get_75
  · have hw := hw.2 c1
    refine lv_aload_n hx hb dX4_get_53 rfl (lv_at hl 1 rfl) ?_
    refine lv_iload_n hx hb dX4_get_54 rfl (lv_at hl 0 rfl) ?_
    refine inv_q1050 hC hA hS hl.1 hw ⟨Nat.le_of_ble_eq_true rfl, Nat.le_of_ble_eq_true rfl⟩ (Nat.le_of_ble_eq_true rfl) ⟨Nat.zero_le _, Nat.zero_le _⟩ dX4_get_55 (fun r2 M3 H locs hw hS => ?_)
    refine inv_q1143 hC hS hl.1 hw ⟨Nat.le_of_ble_eq_true rfl, Nat.le_of_ble_eq_true rfl⟩ (Nat.le_of_ble_eq_true rfl) ⟨Nat.zero_le _, Nat.zero_le _⟩ dX4_get_58 (fun r4 H locs hw hS => ?_)
    refine lv_goto (tgt := 75) hx hb dX4_get_61 (by decide) ?_
    exact wRetl hC hS hw (Nat.le_refl _) (Nat.le_refl _) dX4_get_75
set_option maxHeartbeats 4000000 in
set_option maxRecDepth 100000 in
theorem k_X4_get_0 {p : Program} {l : Launch} {e : Env} {s : State} {m : MethodId} {args : Array Value} {below : List Frame} {meth : Method} {c : Code} {D : va_G} {dT : Nat → ClassId} {a : Nat → Nat} {A : Nat → Prop}  {p1 : Int32} {p2 : Int32} {post : Int64 → MS → Prop} (hC : wCx RX4 cX4_get 4 (some .long) D dT p s m args meth c) (hA : wAz A s) (M : MS) {H : Heap} {locs : List Loc} {ls : Array Slot} (hS : StM D dT a A s M H locs) (hl : lv_has ls 4 [(0, .ref (a 0)), (1, .int p1), (2, .int p2)])  (hw : w_X4_get p1 p2 post M) : W p l e rmX4_get s m args below meth c H locs 0 0 (MQ below (va_Ql post (wB D (MW dT a) MI A) A) args s 0 0 A) (F0 m 0 ls []) := by
  have hx := hC.1
  have hb := hC.2.1
  have hown := hC.2.2.2.1
  have hts := hC.2.2.2.2.1
  unfold w_X4_get at hw
  refine lv_iload_n hx hb dX4_get_0 rfl (lv_at hl 1 rfl) ?_
  refine inv_q1047 hC hS hl.1 hw ⟨Nat.le_of_ble_eq_true rfl, Nat.le_of_ble_eq_true rfl⟩ (Nat.le_of_ble_eq_true rfl) ⟨Nat.zero_le _, Nat.zero_le _⟩ dX4_get_1 (fun r1 H locs hw hS => ?_)
  refine lv_if_ne (tgt := 13) hx hb dX4_get_4 (by decide) (fun c2 => ?_) (fun c2 => ?_)
  · have hw := hw.2 c2
    refine lv_aload_n hx hb dX4_get_13 rfl (lv_at hl 0 rfl) ?_
    refine ld_q952 hC hS dX4_get_14 ?_
    refine lv_iload_n hx hb dX4_get_17 rfl (lv_at hl 1 rfl) ?_
    refine al_forms hC hS hw.1 dX4_get_18 ?_
    have hw := hw.2
    refine lv_iconst (v := (-1)) hx hb dX4_get_19 (by decide) ?_
    refine lv_icmp_ne (tgt := 27) hx hb dX4_get_20 (by decide) (fun c3 => ?_) (fun c3 => ?_)
    · have hw := hw.2 c3
      refine lv_iload_n hx hb dX4_get_27 rfl (lv_at hl 2 rfl) ?_
      refine lv_iconst (v := 0) hx hb dX4_get_28 (by decide) ?_
      refine lv_aload_n hx hb dX4_get_29 rfl (lv_at hl 0 rfl) ?_
      refine ld_q953 hC hS dX4_get_30 ?_
      refine lv_iload_n hx hb dX4_get_33 rfl (lv_at hl 1 rfl) ?_
      refine al_sizes hC hS hw.1 dX4_get_34 ?_
      have hw := hw.2
      refine lv_iconst (v := 1) hx hb dX4_get_35 (by decide) ?_
      refine lv_isub hx hb dX4_get_36 ?_
      refine inv_q1007 hC hS hl.1 hw ⟨Nat.le_of_ble_eq_true rfl, Nat.le_of_ble_eq_true rfl⟩ (Nat.le_of_ble_eq_true rfl) ⟨Nat.zero_le _, Nat.zero_le _⟩ dX4_get_37 (fun r4 H locs hw hS => ?_)
      refine lv_if_eq (tgt := 47) hx hb dX4_get_40 (by decide) (fun c5 => ?_) (fun c5 => ?_)
      · have hw := hw.1 c5
        refine lv_iconst (v := 2) hx hb dX4_get_47 (by decide) ?_
        exact k_X4_get_48 hC hA _ _ hS (lv_sub hl [0, 1, 2] rfl) hw
      · have hw := hw.2 c5
        refine lv_iconst (v := 0) hx hb dX4_get_43 (by decide) ?_
        refine lv_goto (tgt := 48) hx hb dX4_get_44 (by decide) ?_
        exact k_X4_get_48 hC hA _ _ hS (lv_sub hl [0, 1, 2] rfl) hw
    · have hw := hw.1 c3
      refine lv_iconst (v := 1) hx hb dX4_get_23 (by decide) ?_
      refine lv_goto (tgt := 48) hx hb dX4_get_24 (by decide) ?_
      exact k_X4_get_48 hC hA _ _ hS (lv_sub hl [0, 1, 2] rfl) hw
  · have hw := hw.1 c2
    refine lv_bipush (v := (-2)) hx hb dX4_get_7 (by decide) ?_
    refine inv_q1143 hC hS hl.1 hw ⟨Nat.le_of_ble_eq_true rfl, Nat.le_of_ble_eq_true rfl⟩ (Nat.le_of_ble_eq_true rfl) ⟨Nat.zero_le _, Nat.zero_le _⟩ dX4_get_9 (fun r6 H locs hw hS => ?_)
    exact wRetl hC hS hw (Nat.le_refl _) (Nat.le_refl _) dX4_get_12
abbrev v_X4_get (M : MS) (p1 : Int32) (p2 : Int32) (post : Int64 → MS → Prop) : Prop := w_X4_get p1 p2 post M
set_option maxHeartbeats 4000000 in
set_option maxRecDepth 100000 in
theorem met_X4_get (l : Launch) (D : va_G) (dT : Nat → ClassId) (a : Nat → Nat) (sz : Nat) (M : MS) (p1 : Int32) (p2 : Int32) (post : Int64 → MS → Prop) (hw : v_X4_get M p1 p2 post) : Met l yX4_get (ws_ yX4_get cX4_get 4 (some .long)) rmX4_get (wPc D dT (MW dT a) MI sz M [.ref (a 0), .int p1, .int p2]) (va_Ql post (wB D (MW dT a) MI (va_A ((MW dT a) M) sz)) (va_A ((MW dT a) M) sz)) 0 0 (va_A ((MW dT a) M) sz) :=
  wEnt (Q := fun A => (va_Ql post (wB D (MW dT a) MI A) A)) (by decide) (Nat.le_of_ble_eq_true rfl) (fun p e s m below meth c A ls hC _ hA hS hl => k_X4_get_0 hC hA _ hS hl hw) sz
theorem hd_X4_get : yX4_get.cls ≠ "java/lang/invoke/MethodHandle" ∧ yX4_get.cls ≠ "java/lang/invoke/VarHandle" ∧ (parseMethodDescriptor yX4_get.desc).map (fun d => d.parameters.length) = some 2 := by decide +kernel
/-! LeastFramesModel.copy -/
def w_X4_copy_37 (p1 : Int32) (p2 : Int32) (p3 : Int32) (p4 : Int32) (p5 : Int32) (post : Int32 → MS → Prop) (M : MS) : Prop :=
  v_X4_meets M (1 : Int32) (fun r1 M2 => post r1 M2)
def w_X4_copy_113 (p1 : Int32) (p2 : Int32) (p3 : Int32) (p4 : Int32) (p5 : Int32) (post : Int32 → MS → Prop) (M : MS) : Prop :=
  v_X4_meets M (2 : Int32) (fun r1 M2 => post r1 M2)
def w_X4_copy_159b (p1 : Int32) (p2 : Int32) (p3 : Int32) (p4 : Int32) (p5 : Int32) (K159 : MS → Int32 → Prop) (post : Int32 → MS → Prop) (M : MS) (x6 : Int32) : Prop :=
  (p5 ≤ x6 → (post (1 : Int32) M)) ∧ (¬ p5 ≤ x6 → (vp_in x6 40 ∧ (vp_in (((40 * p3) + p4) + x6) 160 ∧ (∀ M2 : MS, M2 = sM_items M (vp_updL (M_items M) (((40 * p3) + p4) + x6).toNatClampNeg (M_movedItems M x6.toNatClampNeg)) → (∀ v3 : Int32, v3 = x6 + 1 → (K159 M2 v3))))))
def w_X4_copy_159 (p1 : Int32) (p2 : Int32) (p3 : Int32) (p4 : Int32) (p5 : Int32) (post : Int32 → MS → Prop) : Nat → MS → Int32 → Prop
  | 0, _, _ => False
  | n + 1, M, x6 => w_X4_copy_159b p1 p2 p3 p4 p5 (w_X4_copy_159 p1 p2 p3 p4 p5 post n) post M x6
def w_X4_copy_122b (p1 : Int32) (p2 : Int32) (p3 : Int32) (p4 : Int32) (p5 : Int32) (K122 : MS → Int32 → Prop) (post : Int32 → MS → Prop) (M : MS) (x6 : Int32) : Prop :=
  (p5 ≤ x6 → (∃ n, w_X4_copy_159 p1 p2 p3 p4 p5 post n M 0)) ∧ (¬ p5 ≤ x6 → (vp_in (((40 * p1) + p2) + x6) 160 ∧ (vp_in x6 40 ∧ (∀ M2 : MS, M2 = sM_movedItems M (vp_updL (M_movedItems M) x6.toNatClampNeg (M_items M (((40 * p1) + p2) + x6).toNatClampNeg)) → (∀ v3 : Int32, v3 = x6 + 1 → (K122 M2 v3))))))
def w_X4_copy_122 (p1 : Int32) (p2 : Int32) (p3 : Int32) (p4 : Int32) (p5 : Int32) (post : Int32 → MS → Prop) : Nat → MS → Int32 → Prop
  | 0, _, _ => False
  | n + 1, M, x6 => w_X4_copy_122b p1 p2 p3 p4 p5 (w_X4_copy_122 p1 p2 p3 p4 p5 post n) post M x6
def w_X4_copy (p1 : Int32) (p2 : Int32) (p3 : Int32) (p4 : Int32) (p5 : Int32) (post : Int32 → MS → Prop) (M : MS) : Prop :=
  v_X4_isSheet p1 (fun r1 => (r1 = (0 : Int32) → (post ((-2) : Int32) M)) ∧ (¬ r1 = (0 : Int32) → (v_X4_isSheet p3 (fun r3 => (r3 = (0 : Int32) → (post ((-2) : Int32) M)) ∧ (¬ r3 = (0 : Int32) → (vp_in p1 4 ∧ (((M_forms M p1.toNatClampNeg) = ((-1) : Int32) → (w_X4_copy_37 p1 p2 p3 p4 p5 post M)) ∧ (¬ (M_forms M p1.toNatClampNeg) = ((-1) : Int32) → (vp_in p3 4 ∧ (((M_forms M p3.toNatClampNeg) = ((-1) : Int32) → (w_X4_copy_37 p1 p2 p3 p4 p5 post M)) ∧ (¬ (M_forms M p3.toNatClampNeg) = ((-1) : Int32) → (vp_in p1 4 ∧ (vp_in p3 4 ∧ (((M_forms M p1.toNatClampNeg) = (M_forms M p3.toNatClampNeg) → ((p2 < (0 : Int32) → (w_X4_copy_113 p1 p2 p3 p4 p5 post M)) ∧ (¬ p2 < (0 : Int32) → ((p4 < (0 : Int32) → (w_X4_copy_113 p1 p2 p3 p4 p5 post M)) ∧ (¬ p4 < (0 : Int32) → ((p5 < (0 : Int32) → (w_X4_copy_113 p1 p2 p3 p4 p5 post M)) ∧ (¬ p5 < (0 : Int32) → (vp_in p1 4 ∧ ((((M_sizes M p1.toNatClampNeg).toInt64) < (p2.toInt64 + p5.toInt64) → (w_X4_copy_113 p1 p2 p3 p4 p5 post M)) ∧ (¬ ((M_sizes M p1.toNatClampNeg).toInt64) < (p2.toInt64 + p5.toInt64) → (vp_in p3 4 ∧ (((p4.toInt64 + p5.toInt64) ≤ ((M_sizes M p3.toNatClampNeg).toInt64) → (∃ n, w_X4_copy_122 p1 p2 p3 p4 p5 post n M 0)) ∧ (¬ (p4.toInt64 + p5.toInt64) ≤ ((M_sizes M p3.toNatClampNeg).toInt64) → (w_X4_copy_113 p1 p2 p3 p4 p5 post M)))))))))))))) ∧ (¬ (M_forms M p1.toNatClampNeg) = (M_forms M p3.toNatClampNeg) → (v_X4_meets M (4 : Int32) (fun r13 M14 => post r13 M14)))))))))))))))))
abbrev rmX4_copy : Room := { frames := 2, cells := 0, slots := 0, locals := 42 }
set_option maxHeartbeats 4000000 in
set_option maxRecDepth 100000 in
theorem k_X4_copy_37 {p : Program} {l : Launch} {e : Env} {s : State} {m : MethodId} {args : Array Value} {below : List Frame} {meth : Method} {c : Code} {D : va_G} {dT : Nat → ClassId} {a : Nat → Nat} {A : Nat → Prop}  {p1 : Int32} {p2 : Int32} {p3 : Int32} {p4 : Int32} {p5 : Int32} {post : Int32 → MS → Prop} (hC : wCx RX4 cX4_copy 7 (some .int) D dT p s m args meth c) (hA : wAz A s) (M : MS) {H : Heap} {locs : List Loc} {ls : Array Slot} (hS : StM D dT a A s M H locs) (hl : lv_has ls 7 [(0, .ref (a 0))])  (hw : w_X4_copy_37 p1 p2 p3 p4 p5 post M) : W p l e rmX4_copy s m args below meth c H locs 0 0 (MQ below (va_Qi post (wB D (MW dT a) MI A) A) args s 0 0 A) (F0 m 37 ls []) := by
  have hx := hC.1
  have hb := hC.2.1
  have hown := hC.2.2.2.1
  have hts := hC.2.2.2.2.1
  unfold w_X4_copy_37 at hw
  refine lv_aload_n hx hb dX4_copy_37 rfl (lv_at hl 0 rfl) ?_
  refine lv_iconst (v := 1) hx hb dX4_copy_38 (by decide) ?_
  refine inv_q1050 hC hA hS hl.1 hw ⟨Nat.le_of_ble_eq_true rfl, Nat.le_of_ble_eq_true rfl⟩ (Nat.le_of_ble_eq_true rfl) ⟨Nat.zero_le _, Nat.zero_le _⟩ dX4_copy_39 (fun r1 M2 H locs hw hS => ?_)
  exact wReti hC hS hw (Nat.le_refl _) (Nat.le_refl _) dX4_copy_42
set_option maxHeartbeats 4000000 in
set_option maxRecDepth 100000 in
theorem k_X4_copy_113 {p : Program} {l : Launch} {e : Env} {s : State} {m : MethodId} {args : Array Value} {below : List Frame} {meth : Method} {c : Code} {D : va_G} {dT : Nat → ClassId} {a : Nat → Nat} {A : Nat → Prop}  {p1 : Int32} {p2 : Int32} {p3 : Int32} {p4 : Int32} {p5 : Int32} {post : Int32 → MS → Prop} (hC : wCx RX4 cX4_copy 7 (some .int) D dT p s m args meth c) (hA : wAz A s) (M : MS) {H : Heap} {locs : List Loc} {ls : Array Slot} (hS : StM D dT a A s M H locs) (hl : lv_has ls 7 [(0, .ref (a 0))])  (hw : w_X4_copy_113 p1 p2 p3 p4 p5 post M) : W p l e rmX4_copy s m args below meth c H locs 0 0 (MQ below (va_Qi post (wB D (MW dT a) MI A) A) args s 0 0 A) (F0 m 113 ls []) := by
  have hx := hC.1
  have hb := hC.2.1
  have hown := hC.2.2.2.1
  have hts := hC.2.2.2.2.1
  unfold w_X4_copy_113 at hw
  refine lv_aload_n hx hb dX4_copy_113 rfl (lv_at hl 0 rfl) ?_
  refine lv_iconst (v := 2) hx hb dX4_copy_114 (by decide) ?_
  refine inv_q1050 hC hA hS hl.1 hw ⟨Nat.le_of_ble_eq_true rfl, Nat.le_of_ble_eq_true rfl⟩ (Nat.le_of_ble_eq_true rfl) ⟨Nat.zero_le _, Nat.zero_le _⟩ dX4_copy_115 (fun r1 M2 H locs hw hS => ?_)
  exact wReti hC hS hw (Nat.le_refl _) (Nat.le_refl _) dX4_copy_118
set_option maxHeartbeats 4000000 in
set_option maxRecDepth 100000 in
theorem k_X4_copy_159b {p : Program} {l : Launch} {e : Env} {s : State} {m : MethodId} {args : Array Value} {below : List Frame} {meth : Method} {c : Code} {D : va_G} {dT : Nat → ClassId} {a : Nat → Nat} {A : Nat → Prop}  {p1 : Int32} {p2 : Int32} {p3 : Int32} {p4 : Int32} {p5 : Int32} {K159 : MS → Int32 → Prop} {post : Int32 → MS → Prop} (hC : wCx RX4 cX4_copy 7 (some .int) D dT p s m args meth c) (hA : wAz A s) (hK159 : ∀ (M : MS) (x6 : Int32), K159 M x6 → ∀ {H : Heap} {locs : List Loc} {ls : Array Slot}, StM D dT a A s M H locs → lv_has ls 7 [(0, .ref (a 0)), (3, .int p3), (4, .int p4), (5, .int p5), (6, .int x6)] → W p l e rmX4_copy s m args below meth c H locs 0 0 (MQ below (va_Qi post (wB D (MW dT a) MI A) A) args s 0 0 A) (F0 m 159 ls [])) (M : MS) (x6 : Int32) {H : Heap} {locs : List Loc} {ls : Array Slot} (hS : StM D dT a A s M H locs) (hl : lv_has ls 7 [(0, .ref (a 0)), (3, .int p3), (4, .int p4), (5, .int p5), (6, .int x6)])  (hw : w_X4_copy_159b p1 p2 p3 p4 p5 K159 post M x6) : W p l e rmX4_copy s m args below meth c H locs 0 0 (MQ below (va_Qi post (wB D (MW dT a) MI A) A) args s 0 0 A) (F0 m 159 ls []) := by
  have hx := hC.1
  have hb := hC.2.1
  have hown := hC.2.2.2.1
  have hts := hC.2.2.2.2.1
  unfold w_X4_copy_159b at hw
  refine lv_iload hx hb dX4_copy_159 (lv_at hl 4 rfl) ?_
  refine lv_iload hx hb dX4_copy_161 (lv_at hl 3 rfl) ?_
  refine lv_icmp_ge (tgt := 194) hx hb dX4_copy_163 (by decide) (fun c1 => ?_) (fun c1 => ?_)
  · have hw := hw.1 c1
    refine lv_iconst (v := 1) hx hb dX4_copy_194 (by decide) ?_
    exact wReti hC hS hw (Nat.le_refl _) (Nat.le_refl _) dX4_copy_195
  · have hw := hw.2 c1
    refine lv_aload_n hx hb dX4_copy_166 rfl (lv_at hl 0 rfl) ?_
    refine ld_q954 hC hS dX4_copy_167 ?_
    refine lv_bipush (v := 40) hx hb dX4_copy_170 (by decide) ?_
    refine lv_iload_n hx hb dX4_copy_172 rfl (lv_at hl 1 rfl) ?_
    refine lv_imul hx hb dX4_copy_173 ?_
    refine lv_iload hx hb dX4_copy_174 (lv_at hl 2 rfl) ?_
    refine lv_iadd hx hb dX4_copy_176 ?_
    refine lv_iload hx hb dX4_copy_177 (lv_at hl 4 rfl) ?_
    refine lv_iadd hx hb dX4_copy_179 ?_
    refine lv_aload_n hx hb dX4_copy_180 rfl (lv_at hl 0 rfl) ?_
    refine ld_q955 hC hS dX4_copy_181 ?_
    refine lv_iload hx hb dX4_copy_184 (lv_at hl 4 rfl) ?_
    refine al_movedItems hC hS hw.1 dX4_copy_186 ?_
    have hw := hw.2
    have hi := hw.1
    have hw := hw.2
    refine as_items hC hS hi dX4_copy_187 (fun H locs hS => ?_)
    have hw := hw (sM_items M (vp_updL (M_items M) (((40 * p3) + p4) + x6).toNatClampNeg (M_movedItems M x6.toNatClampNeg))) rfl
    generalize sM_items M (vp_updL (M_items M) (((40 * p3) + p4) + x6).toNatClampNeg (M_movedItems M x6.toNatClampNeg)) = M2 at hS hw
    obtain ⟨v3, ev3⟩ : ∃ y : Int32, y = x6 + 1 := ⟨_, rfl⟩
    have hw := hw v3 ev3
    refine lv_iinc (v := v3) (lv' := [(6, .int v3), (0, .ref (a 0)), (3, .int p3), (4, .int p4), (5, .int p5)]) hx hb dX4_copy_188 hl (k := 4) rfl (by rw [ev3]; rfl) (by decide) rfl (fun ls hl => ?_)
    refine lv_goto (tgt := 159) hx hb dX4_copy_191 (by decide) ?_
    exact hK159 _ _ hw hS (lv_sub hl [1, 2, 3, 4, 0] rfl)
set_option maxHeartbeats 4000000 in
set_option maxRecDepth 100000 in
theorem k_X4_copy_159 {p : Program} {l : Launch} {e : Env} {s : State} {m : MethodId} {args : Array Value} {below : List Frame} {meth : Method} {c : Code} {D : va_G} {dT : Nat → ClassId} {a : Nat → Nat} {A : Nat → Prop}  {p1 : Int32} {p2 : Int32} {p3 : Int32} {p4 : Int32} {p5 : Int32} {post : Int32 → MS → Prop} (hC : wCx RX4 cX4_copy 7 (some .int) D dT p s m args meth c) (hA : wAz A s) : ∀ (M : MS) (x6 : Int32) (n : Nat), ∀ {H : Heap} {locs : List Loc} {ls : Array Slot}, StM D dT a A s M H locs → lv_has ls 7 [(0, .ref (a 0)), (3, .int p3), (4, .int p4), (5, .int p5), (6, .int x6)] → w_X4_copy_159 p1 p2 p3 p4 p5 post n M x6 → W p l e rmX4_copy s m args below meth c H locs 0 0 (MQ below (va_Qi post (wB D (MW dT a) MI A) A) args s 0 0 A) (F0 m 159 ls []) := by
  intro M x6 n
  induction n generalizing M x6 with
  | zero => intro H locs ls  hS hl hw; exact hw.elim
  | succ n ih =>
    intro H locs ls  hS hl hw
    exact k_X4_copy_159b hC hA (fun M x6 hk {H} {locs} {ls}  hS hl => ih M x6  hS hl hk) M x6  hS hl hw
set_option maxHeartbeats 4000000 in
set_option maxRecDepth 100000 in
theorem k_X4_copy_122b {p : Program} {l : Launch} {e : Env} {s : State} {m : MethodId} {args : Array Value} {below : List Frame} {meth : Method} {c : Code} {D : va_G} {dT : Nat → ClassId} {a : Nat → Nat} {A : Nat → Prop}  {p1 : Int32} {p2 : Int32} {p3 : Int32} {p4 : Int32} {p5 : Int32} {K122 : MS → Int32 → Prop} {post : Int32 → MS → Prop} (hC : wCx RX4 cX4_copy 7 (some .int) D dT p s m args meth c) (hA : wAz A s) (hK122 : ∀ (M : MS) (x6 : Int32), K122 M x6 → ∀ {H : Heap} {locs : List Loc} {ls : Array Slot}, StM D dT a A s M H locs → lv_has ls 7 [(0, .ref (a 0)), (1, .int p1), (2, .int p2), (3, .int p3), (4, .int p4), (5, .int p5), (6, .int x6)] → W p l e rmX4_copy s m args below meth c H locs 0 0 (MQ below (va_Qi post (wB D (MW dT a) MI A) A) args s 0 0 A) (F0 m 122 ls [])) (M : MS) (x6 : Int32) {H : Heap} {locs : List Loc} {ls : Array Slot} (hS : StM D dT a A s M H locs) (hl : lv_has ls 7 [(0, .ref (a 0)), (1, .int p1), (2, .int p2), (3, .int p3), (4, .int p4), (5, .int p5), (6, .int x6)])  (hw : w_X4_copy_122b p1 p2 p3 p4 p5 K122 post M x6) : W p l e rmX4_copy s m args below meth c H locs 0 0 (MQ below (va_Qi post (wB D (MW dT a) MI A) A) args s 0 0 A) (F0 m 122 ls []) := by
  have hx := hC.1
  have hb := hC.2.1
  have hown := hC.2.2.2.1
  have hts := hC.2.2.2.2.1
  unfold w_X4_copy_122b at hw
  refine lv_iload hx hb dX4_copy_122 (lv_at hl 6 rfl) ?_
  refine lv_iload hx hb dX4_copy_124 (lv_at hl 5 rfl) ?_
  refine lv_icmp_ge (tgt := 156) hx hb dX4_copy_126 (by decide) (fun c1 => ?_) (fun c1 => ?_)
  · have hw := hw.1 c1
    refine lv_iconst (v := 0) hx hb dX4_copy_156 (by decide) ?_
    refine lv_istore (lv' := [(6, .int 0), (0, .ref (a 0)), (1, .int p1), (2, .int p2), (3, .int p3), (4, .int p4), (5, .int p5)]) hx hb dX4_copy_157 hl (by decide) rfl (fun ls hl => ?_)
    obtain ⟨n, hw⟩ := hw
    exact k_X4_copy_159 hC hA _ _ n hS (lv_sub hl [1, 4, 5, 6, 0] rfl) hw
  · have hw := hw.2 c1
    refine lv_aload_n hx hb dX4_copy_129 rfl (lv_at hl 0 rfl) ?_
    refine ld_q955 hC hS dX4_copy_130 ?_
    refine lv_iload hx hb dX4_copy_133 (lv_at hl 6 rfl) ?_
    refine lv_aload_n hx hb dX4_copy_135 rfl (lv_at hl 0 rfl) ?_
    refine ld_q954 hC hS dX4_copy_136 ?_
    refine lv_bipush (v := 40) hx hb dX4_copy_139 (by decide) ?_
    refine lv_iload_n hx hb dX4_copy_141 rfl (lv_at hl 1 rfl) ?_
    refine lv_imul hx hb dX4_copy_142 ?_
    refine lv_iload_n hx hb dX4_copy_143 rfl (lv_at hl 2 rfl) ?_
    refine lv_iadd hx hb dX4_copy_144 ?_
    refine lv_iload hx hb dX4_copy_145 (lv_at hl 6 rfl) ?_
    refine lv_iadd hx hb dX4_copy_147 ?_
    refine al_items hC hS hw.1 dX4_copy_148 ?_
    have hw := hw.2
    have hi := hw.1
    have hw := hw.2
    refine as_movedItems hC hS hi dX4_copy_149 (fun H locs hS => ?_)
    have hw := hw (sM_movedItems M (vp_updL (M_movedItems M) x6.toNatClampNeg (M_items M (((40 * p1) + p2) + x6).toNatClampNeg))) rfl
    generalize sM_movedItems M (vp_updL (M_movedItems M) x6.toNatClampNeg (M_items M (((40 * p1) + p2) + x6).toNatClampNeg)) = M2 at hS hw
    obtain ⟨v3, ev3⟩ : ∃ y : Int32, y = x6 + 1 := ⟨_, rfl⟩
    have hw := hw v3 ev3
    refine lv_iinc (v := v3) (lv' := [(6, .int v3), (0, .ref (a 0)), (1, .int p1), (2, .int p2), (3, .int p3), (4, .int p4), (5, .int p5)]) hx hb dX4_copy_150 hl (k := 6) rfl (by rw [ev3]; rfl) (by decide) rfl (fun ls hl => ?_)
    refine lv_goto (tgt := 122) hx hb dX4_copy_153 (by decide) ?_
    exact hK122 _ _ hw hS (lv_sub hl [1, 2, 3, 4, 5, 6, 0] rfl)
set_option maxHeartbeats 4000000 in
set_option maxRecDepth 100000 in
theorem k_X4_copy_122 {p : Program} {l : Launch} {e : Env} {s : State} {m : MethodId} {args : Array Value} {below : List Frame} {meth : Method} {c : Code} {D : va_G} {dT : Nat → ClassId} {a : Nat → Nat} {A : Nat → Prop}  {p1 : Int32} {p2 : Int32} {p3 : Int32} {p4 : Int32} {p5 : Int32} {post : Int32 → MS → Prop} (hC : wCx RX4 cX4_copy 7 (some .int) D dT p s m args meth c) (hA : wAz A s) : ∀ (M : MS) (x6 : Int32) (n : Nat), ∀ {H : Heap} {locs : List Loc} {ls : Array Slot}, StM D dT a A s M H locs → lv_has ls 7 [(0, .ref (a 0)), (1, .int p1), (2, .int p2), (3, .int p3), (4, .int p4), (5, .int p5), (6, .int x6)] → w_X4_copy_122 p1 p2 p3 p4 p5 post n M x6 → W p l e rmX4_copy s m args below meth c H locs 0 0 (MQ below (va_Qi post (wB D (MW dT a) MI A) A) args s 0 0 A) (F0 m 122 ls []) := by
  intro M x6 n
  induction n generalizing M x6 with
  | zero => intro H locs ls  hS hl hw; exact hw.elim
  | succ n ih =>
    intro H locs ls  hS hl hw
    exact k_X4_copy_122b hC hA (fun M x6 hk {H} {locs} {ls}  hS hl => ih M x6  hS hl hk) M x6  hS hl hw
set_option maxHeartbeats 4000000 in
set_option maxRecDepth 100000 in
theorem k_X4_copy_0 {p : Program} {l : Launch} {e : Env} {s : State} {m : MethodId} {args : Array Value} {below : List Frame} {meth : Method} {c : Code} {D : va_G} {dT : Nat → ClassId} {a : Nat → Nat} {A : Nat → Prop}  {p1 : Int32} {p2 : Int32} {p3 : Int32} {p4 : Int32} {p5 : Int32} {post : Int32 → MS → Prop} (hC : wCx RX4 cX4_copy 7 (some .int) D dT p s m args meth c) (hA : wAz A s) (M : MS) {H : Heap} {locs : List Loc} {ls : Array Slot} (hS : StM D dT a A s M H locs) (hl : lv_has ls 7 [(0, .ref (a 0)), (1, .int p1), (2, .int p2), (3, .int p3), (4, .int p4), (5, .int p5)])  (hw : w_X4_copy p1 p2 p3 p4 p5 post M) : W p l e rmX4_copy s m args below meth c H locs 0 0 (MQ below (va_Qi post (wB D (MW dT a) MI A) A) args s 0 0 A) (F0 m 0 ls []) := by
  have hx := hC.1
  have hb := hC.2.1
  have hown := hC.2.2.2.1
  have hts := hC.2.2.2.2.1
  unfold w_X4_copy at hw
  refine lv_iload_n hx hb dX4_copy_0 rfl (lv_at hl 1 rfl) ?_
  refine inv_q1047 hC hS hl.1 hw ⟨Nat.le_of_ble_eq_true rfl, Nat.le_of_ble_eq_true rfl⟩ (Nat.le_of_ble_eq_true rfl) ⟨Nat.zero_le _, Nat.zero_le _⟩ dX4_copy_1 (fun r1 H locs hw hS => ?_)
  refine lv_if_eq (tgt := 14) hx hb dX4_copy_4 (by decide) (fun c2 => ?_) (fun c2 => ?_)
  · have hw := hw.1 c2
    refine lv_bipush (v := (-2)) hx hb dX4_copy_14 (by decide) ?_
    exact wReti hC hS hw (Nat.le_refl _) (Nat.le_refl _) dX4_copy_16
  · have hw := hw.2 c2
    refine lv_iload_n hx hb dX4_copy_7 rfl (lv_at hl 3 rfl) ?_
    refine inv_q1047 hC hS hl.1 hw ⟨Nat.le_of_ble_eq_true rfl, Nat.le_of_ble_eq_true rfl⟩ (Nat.le_of_ble_eq_true rfl) ⟨Nat.zero_le _, Nat.zero_le _⟩ dX4_copy_8 (fun r3 H locs hw hS => ?_)
    refine lv_if_ne (tgt := 17) hx hb dX4_copy_11 (by decide) (fun c4 => ?_) (fun c4 => ?_)
    · have hw := hw.2 c4
      refine lv_aload_n hx hb dX4_copy_17 rfl (lv_at hl 0 rfl) ?_
      refine ld_q952 hC hS dX4_copy_18 ?_
      refine lv_iload_n hx hb dX4_copy_21 rfl (lv_at hl 1 rfl) ?_
      refine al_forms hC hS hw.1 dX4_copy_22 ?_
      have hw := hw.2
      refine lv_iconst (v := (-1)) hx hb dX4_copy_23 (by decide) ?_
      refine lv_icmp_eq (tgt := 37) hx hb dX4_copy_24 (by decide) (fun c5 => ?_) (fun c5 => ?_)
      · have hw := hw.1 c5
        exact k_X4_copy_37 hC hA _ hS (lv_sub hl [0] rfl) hw
      · have hw := hw.2 c5
        refine lv_aload_n hx hb dX4_copy_27 rfl (lv_at hl 0 rfl) ?_
        refine ld_q952 hC hS dX4_copy_28 ?_
        refine lv_iload_n hx hb dX4_copy_31 rfl (lv_at hl 3 rfl) ?_
        refine al_forms hC hS hw.1 dX4_copy_32 ?_
        have hw := hw.2
        refine lv_iconst (v := (-1)) hx hb dX4_copy_33 (by decide) ?_
        refine lv_icmp_ne (tgt := 43) hx hb dX4_copy_34 (by decide) (fun c6 => ?_) (fun c6 => ?_)
        · have hw := hw.2 c6
          refine lv_aload_n hx hb dX4_copy_43 rfl (lv_at hl 0 rfl) ?_
          refine ld_q952 hC hS dX4_copy_44 ?_
          refine lv_iload_n hx hb dX4_copy_47 rfl (lv_at hl 1 rfl) ?_
          refine al_forms hC hS hw.1 dX4_copy_48 ?_
          have hw := hw.2
          refine lv_aload_n hx hb dX4_copy_49 rfl (lv_at hl 0 rfl) ?_
          refine ld_q952 hC hS dX4_copy_50 ?_
          refine lv_iload_n hx hb dX4_copy_53 rfl (lv_at hl 3 rfl) ?_
          refine al_forms hC hS hw.1 dX4_copy_54 ?_
          have hw := hw.2
          refine lv_icmp_eq (tgt := 64) hx hb dX4_copy_55 (by decide) (fun c7 => ?_) (fun c7 => ?_)
          · have hw := hw.1 c7
            refine lv_iload_n hx hb dX4_copy_64 rfl (lv_at hl 2 rfl) ?_
            refine lv_if_lt (tgt := 113) hx hb dX4_copy_65 (by decide) (fun c8 => ?_) (fun c8 => ?_)
            · have hw := hw.1 c8
              exact k_X4_copy_113 hC hA _ hS (lv_sub hl [0] rfl) hw
            · have hw := hw.2 c8
              refine lv_iload hx hb dX4_copy_68 (lv_at hl 4 rfl) ?_
              refine lv_if_lt (tgt := 113) hx hb dX4_copy_70 (by decide) (fun c9 => ?_) (fun c9 => ?_)
              · have hw := hw.1 c9
                exact k_X4_copy_113 hC hA _ hS (lv_sub hl [0] rfl) hw
              · have hw := hw.2 c9
                refine lv_iload hx hb dX4_copy_73 (lv_at hl 5 rfl) ?_
                refine lv_if_lt (tgt := 113) hx hb dX4_copy_75 (by decide) (fun c10 => ?_) (fun c10 => ?_)
                · have hw := hw.1 c10
                  exact k_X4_copy_113 hC hA _ hS (lv_sub hl [0] rfl) hw
                · have hw := hw.2 c10
                  refine lv_iload_n hx hb dX4_copy_78 rfl (lv_at hl 2 rfl) ?_
                  refine lv_i2l hx hb dX4_copy_79 rfl ?_
                  refine lv_iload hx hb dX4_copy_80 (lv_at hl 5 rfl) ?_
                  refine lv_i2l hx hb dX4_copy_82 rfl ?_
                  refine lv_ladd hx hb dX4_copy_83 ?_
                  refine lv_aload_n hx hb dX4_copy_84 rfl (lv_at hl 0 rfl) ?_
                  refine ld_q953 hC hS dX4_copy_85 ?_
                  refine lv_iload_n hx hb dX4_copy_88 rfl (lv_at hl 1 rfl) ?_
                  refine al_sizes hC hS hw.1 dX4_copy_89 ?_
                  have hw := hw.2
                  refine lv_i2l hx hb dX4_copy_90 rfl ?_
                  refine lc_if_gt (tgt := 113) hx hb dX4_copy_91 dX4_copy_92 (by decide) (fun c11 => ?_) (fun c11 => ?_)
                  · have hw := hw.1 c11
                    exact k_X4_copy_113 hC hA _ hS (lv_sub hl [0] rfl) hw
                  · have hw := hw.2 c11
                    refine lv_iload hx hb dX4_copy_95 (lv_at hl 4 rfl) ?_
                    refine lv_i2l hx hb dX4_copy_97 rfl ?_
                    refine lv_iload hx hb dX4_copy_98 (lv_at hl 5 rfl) ?_
                    refine lv_i2l hx hb dX4_copy_100 rfl ?_
                    refine lv_ladd hx hb dX4_copy_101 ?_
                    refine lv_aload_n hx hb dX4_copy_102 rfl (lv_at hl 0 rfl) ?_
                    refine ld_q953 hC hS dX4_copy_103 ?_
                    refine lv_iload_n hx hb dX4_copy_106 rfl (lv_at hl 3 rfl) ?_
                    refine al_sizes hC hS hw.1 dX4_copy_107 ?_
                    have hw := hw.2
                    refine lv_i2l hx hb dX4_copy_108 rfl ?_
                    refine lc_if_le (tgt := 119) hx hb dX4_copy_109 dX4_copy_110 (by decide) (fun c12 => ?_) (fun c12 => ?_)
                    · have hw := hw.1 c12
                      refine lv_iconst (v := 0) hx hb dX4_copy_119 (by decide) ?_
                      refine lv_istore (lv' := [(6, .int 0), (0, .ref (a 0)), (1, .int p1), (2, .int p2), (3, .int p3), (4, .int p4), (5, .int p5)]) hx hb dX4_copy_120 hl (by decide) rfl (fun ls hl => ?_)
                      obtain ⟨n, hw⟩ := hw
                      exact k_X4_copy_122 hC hA _ _ n hS (lv_sub hl [1, 2, 3, 4, 5, 6, 0] rfl) hw
                    · have hw := hw.2 c12
                      exact k_X4_copy_113 hC hA _ hS (lv_sub hl [0] rfl) hw
          · have hw := hw.2 c7
            refine lv_aload_n hx hb dX4_copy_58 rfl (lv_at hl 0 rfl) ?_
            refine lv_iconst (v := 4) hx hb dX4_copy_59 (by decide) ?_
            refine inv_q1050 hC hA hS hl.1 hw ⟨Nat.le_of_ble_eq_true rfl, Nat.le_of_ble_eq_true rfl⟩ (Nat.le_of_ble_eq_true rfl) ⟨Nat.zero_le _, Nat.zero_le _⟩ dX4_copy_60 (fun r13 M14 H locs hw hS => ?_)
            exact wReti hC hS hw (Nat.le_refl _) (Nat.le_refl _) dX4_copy_63
        · have hw := hw.1 c6
          exact k_X4_copy_37 hC hA _ hS (lv_sub hl [0] rfl) hw
    · have hw := hw.1 c4
      refine lv_bipush (v := (-2)) hx hb dX4_copy_14 (by decide) ?_
      exact wReti hC hS hw (Nat.le_refl _) (Nat.le_refl _) dX4_copy_16
abbrev v_X4_copy (M : MS) (p1 : Int32) (p2 : Int32) (p3 : Int32) (p4 : Int32) (p5 : Int32) (post : Int32 → MS → Prop) : Prop := w_X4_copy p1 p2 p3 p4 p5 post M
set_option maxHeartbeats 4000000 in
set_option maxRecDepth 100000 in
theorem met_X4_copy (l : Launch) (D : va_G) (dT : Nat → ClassId) (a : Nat → Nat) (sz : Nat) (M : MS) (p1 : Int32) (p2 : Int32) (p3 : Int32) (p4 : Int32) (p5 : Int32) (post : Int32 → MS → Prop) (hw : v_X4_copy M p1 p2 p3 p4 p5 post) : Met l yX4_copy (ws_ yX4_copy cX4_copy 7 (some .int)) rmX4_copy (wPc D dT (MW dT a) MI sz M [.ref (a 0), .int p1, .int p2, .int p3, .int p4, .int p5]) (va_Qi post (wB D (MW dT a) MI (va_A ((MW dT a) M) sz)) (va_A ((MW dT a) M) sz)) 0 0 (va_A ((MW dT a) M) sz) :=
  wEnt (Q := fun A => (va_Qi post (wB D (MW dT a) MI A) A)) (by decide) (Nat.le_of_ble_eq_true rfl) (fun p e s m below meth c A ls hC _ hA hS hl => k_X4_copy_0 hC hA _ hS hl hw) sz
theorem hd_X4_copy : yX4_copy.cls ≠ "java/lang/invoke/MethodHandle" ∧ yX4_copy.cls ≠ "java/lang/invoke/VarHandle" ∧ (parseMethodDescriptor yX4_copy.desc).map (fun d => d.parameters.length) = some 5 := by decide +kernel
/-! LeastFramesModel.write -/
def w_X4_write_100 (p1 : Int32) (K43 : MS → Int32 → Prop) (post : Int32 → MS → Prop) (M : MS) (x2 : Int32) (y0 : Int64) (y1 : Int32) : Prop :=
  vp_in y1 160 ∧ (∀ M1 : MS, M1 = sM_items M (vp_updL (M_items M) y1.toNatClampNeg y0) → (∀ v2 : Int32, v2 = x2 + 1 → (K43 M1 v2)))
def w_X4_write_43b (p1 : Int32) (K43 : MS → Int32 → Prop) (post : Int32 → MS → Prop) (M : MS) (x2 : Int32) : Prop :=
  vp_in p1 4 ∧ (((M_sizes M p1.toNatClampNeg) ≤ x2 → (post x2 M)) ∧ (¬ (M_sizes M p1.toNatClampNeg) ≤ x2 → (v_X4_pairs M (fun r2 => ((2 * r2) ≤ x2 → (post x2 M)) ∧ (¬ (2 * r2) ≤ x2 → (v_X4_pullOf M (x2 / 2) (x2 - x2 / 2 * 2) (fun r4 M5 => vp_in p1 4 ∧ (((M_forms M5 p1.toNatClampNeg) = (0 : Int32) → (w_X4_write_100 p1 K43 post M5 x2 r4.toInt32.toInt64 ((40 * p1) + x2))) ∧ (¬ (M_forms M5 p1.toNatClampNeg) = (0 : Int32) → (w_X4_write_100 p1 K43 post M5 x2 r4 ((40 * p1) + x2)))))))))))
def w_X4_write_43 (p1 : Int32) (post : Int32 → MS → Prop) : Nat → MS → Int32 → Prop
  | 0, _, _ => False
  | n + 1, M, x2 => w_X4_write_43b p1 (w_X4_write_43 p1 post n) post M x2
def w_X4_write (p1 : Int32) (post : Int32 → MS → Prop) (M : MS) : Prop :=
  v_X4_isSheet p1 (fun r1 => (r1 = (0 : Int32) → (post ((-2) : Int32) M)) ∧ (¬ r1 = (0 : Int32) → (vp_in p1 4 ∧ (((M_forms M p1.toNatClampNeg) = ((-1) : Int32) → (v_X4_meets M (1 : Int32) (fun r7 M8 => post r7 M8))) ∧ (¬ (M_forms M p1.toNatClampNeg) = ((-1) : Int32) → (v_X4_bestOf M (M_bars M) (fun r4 M5 => (r4 = ((-1) : Int32) → (post ((-3) : Int32) M5)) ∧ (¬ r4 = ((-1) : Int32) → (∃ n, w_X4_write_43 p1 post n M5 0)))))))))
abbrev rmX4_write : Room := { frames := 9, cells := 0, slots := 0, locals := 207 }
set_option maxHeartbeats 4000000 in
set_option maxRecDepth 100000 in
theorem k_X4_write_100 {p : Program} {l : Launch} {e : Env} {s : State} {m : MethodId} {args : Array Value} {below : List Frame} {meth : Method} {c : Code} {D : va_G} {dT : Nat → ClassId} {a : Nat → Nat} {A : Nat → Prop}  {p1 : Int32} {K43 : MS → Int32 → Prop} {post : Int32 → MS → Prop} (hC : wCx RX4 cX4_write 5 (some .int) D dT p s m args meth c) (hA : wAz A s) (hK43 : ∀ (M : MS) (x2 : Int32), K43 M x2 → ∀ {H : Heap} {locs : List Loc} {ls : Array Slot}, StM D dT a A s M H locs → lv_has ls 5 [(0, .ref (a 0)), (1, .int p1), (2, .int x2)] → W p l e rmX4_write s m args below meth c H locs 0 0 (MQ below (va_Qi post (wB D (MW dT a) MI A) A) args s 0 0 A) (F0 m 43 ls [])) (M : MS) (x2 : Int32) (y0 : Int64) (y1 : Int32) {H : Heap} {locs : List Loc} {ls : Array Slot} (hS : StM D dT a A s M H locs) (hl : lv_has ls 5 [(0, .ref (a 0)), (1, .int p1), (2, .int x2)])  (hw : w_X4_write_100 p1 K43 post M x2 y0 y1) : W p l e rmX4_write s m args below meth c H locs 0 0 (MQ below (va_Qi post (wB D (MW dT a) MI A) A) args s 0 0 A) (F0 m 100 ls [.long y0, .int y1, .ref (a 13)]) := by
  have hx := hC.1
  have hb := hC.2.1
  have hown := hC.2.2.2.1
  have hts := hC.2.2.2.2.1
  unfold w_X4_write_100 at hw
  have hi := hw.1
  have hw := hw.2
  refine as_items hC hS hi dX4_write_100 (fun H locs hS => ?_)
  have hw := hw (sM_items M (vp_updL (M_items M) y1.toNatClampNeg y0)) rfl
  generalize sM_items M (vp_updL (M_items M) y1.toNatClampNeg y0) = M1 at hS hw
  obtain ⟨v2, ev2⟩ : ∃ y : Int32, y = x2 + 1 := ⟨_, rfl⟩
  have hw := hw v2 ev2
  refine lv_iinc (v := v2) (lv' := [(2, .int v2), (0, .ref (a 0)), (1, .int p1)]) hx hb dX4_write_101 hl (k := 2) rfl (by rw [ev2]; rfl) (by decide) rfl (fun ls hl => ?_)
  refine lv_goto (tgt := 43) hx hb dX4_write_104 (by decide) ?_
  exact hK43 _ _ hw hS (lv_sub hl [1, 2, 0] rfl)
set_option maxHeartbeats 4000000 in
set_option maxRecDepth 100000 in
theorem k_X4_write_43b {p : Program} {l : Launch} {e : Env} {s : State} {m : MethodId} {args : Array Value} {below : List Frame} {meth : Method} {c : Code} {D : va_G} {dT : Nat → ClassId} {a : Nat → Nat} {A : Nat → Prop}  {p1 : Int32} {K43 : MS → Int32 → Prop} {post : Int32 → MS → Prop} (hC : wCx RX4 cX4_write 5 (some .int) D dT p s m args meth c) (hA : wAz A s) (hK43 : ∀ (M : MS) (x2 : Int32), K43 M x2 → ∀ {H : Heap} {locs : List Loc} {ls : Array Slot}, StM D dT a A s M H locs → lv_has ls 5 [(0, .ref (a 0)), (1, .int p1), (2, .int x2)] → W p l e rmX4_write s m args below meth c H locs 0 0 (MQ below (va_Qi post (wB D (MW dT a) MI A) A) args s 0 0 A) (F0 m 43 ls [])) (M : MS) (x2 : Int32) {H : Heap} {locs : List Loc} {ls : Array Slot} (hS : StM D dT a A s M H locs) (hl : lv_has ls 5 [(0, .ref (a 0)), (1, .int p1), (2, .int x2)])  (hw : w_X4_write_43b p1 K43 post M x2) : W p l e rmX4_write s m args below meth c H locs 0 0 (MQ below (va_Qi post (wB D (MW dT a) MI A) A) args s 0 0 A) (F0 m 43 ls []) := by
  have hx := hC.1
  have hb := hC.2.1
  have hown := hC.2.2.2.1
  have hts := hC.2.2.2.2.1
  unfold w_X4_write_43b at hw
  refine lv_iload_n hx hb dX4_write_43 rfl (lv_at hl 2 rfl) ?_
  refine lv_aload_n hx hb dX4_write_44 rfl (lv_at hl 0 rfl) ?_
  refine ld_q953 hC hS dX4_write_45 ?_
  refine lv_iload_n hx hb dX4_write_48 rfl (lv_at hl 1 rfl) ?_
  refine al_sizes hC hS hw.1 dX4_write_49 ?_
  have hw := hw.2
  refine lv_icmp_ge (tgt := 107) hx hb dX4_write_50 (by decide) (fun c1 => ?_) (fun c1 => ?_)
  · have hw := hw.1 c1
    refine lv_iload_n hx hb dX4_write_107 rfl (lv_at hl 2 rfl) ?_
    exact wReti hC hS hw (Nat.le_refl _) (Nat.le_refl _) dX4_write_108
  · have hw := hw.2 c1
    refine lv_iload_n hx hb dX4_write_53 rfl (lv_at hl 2 rfl) ?_
    refine lv_iconst (v := 2) hx hb dX4_write_54 (by decide) ?_
    refine lv_aload_n hx hb dX4_write_55 rfl (lv_at hl 0 rfl) ?_
    refine inv_q1014 hC hA hS hl.1 hw ⟨Nat.le_of_ble_eq_true rfl, Nat.le_of_ble_eq_true rfl⟩ (Nat.le_of_ble_eq_true rfl) ⟨Nat.zero_le _, Nat.zero_le _⟩ dX4_write_56 (fun r2 H locs hw hS => ?_)
    refine lv_imul hx hb dX4_write_59 ?_
    refine lv_icmp_ge (tgt := 107) hx hb dX4_write_60 (by decide) (fun c3 => ?_) (fun c3 => ?_)
    · have hw := hw.1 c3
      refine lv_iload_n hx hb dX4_write_107 rfl (lv_at hl 2 rfl) ?_
      exact wReti hC hS hw (Nat.le_refl _) (Nat.le_refl _) dX4_write_108
    · have hw := hw.2 c3
      refine lv_aload_n hx hb dX4_write_63 rfl (lv_at hl 0 rfl) ?_
      refine lv_iload_n hx hb dX4_write_64 rfl (lv_at hl 2 rfl) ?_
      refine lv_iconst (v := 2) hx hb dX4_write_65 (by decide) ?_
      refine lv_idiv hx hb dX4_write_66 (by decide) ?_
      refine lv_iload_n hx hb dX4_write_67 rfl (lv_at hl 2 rfl) ?_
      refine lv_iconst (v := 2) hx hb dX4_write_68 (by decide) ?_
      refine lv_irem hx hb dX4_write_69 (by decide) ?_
      refine inv_q1163 hC hA hS hl.1 hw ⟨Nat.le_of_ble_eq_true rfl, Nat.le_of_ble_eq_true rfl⟩ (Nat.le_of_ble_eq_true rfl) ⟨Nat.zero_le _, Nat.zero_le _⟩ dX4_write_70 (fun r4 M5 H locs hw hS => ?_)
      refine lv_lstore_n (lv' := [(3, .long r4), (0, .ref (a 0)), (1, .int p1), (2, .int x2)]) hx hb dX4_write_73 rfl hl (by decide) rfl (fun ls hl => ?_)
      refine lv_aload_n hx hb dX4_write_74 rfl (lv_at hl 1 rfl) ?_
      refine ld_q954 hC hS dX4_write_75 ?_
      refine lv_bipush (v := 40) hx hb dX4_write_78 (by decide) ?_
      refine lv_iload_n hx hb dX4_write_80 rfl (lv_at hl 2 rfl) ?_
      refine lv_imul hx hb dX4_write_81 ?_
      refine lv_iload_n hx hb dX4_write_82 rfl (lv_at hl 3 rfl) ?_
      refine lv_iadd hx hb dX4_write_83 ?_
      refine lv_aload_n hx hb dX4_write_84 rfl (lv_at hl 1 rfl) ?_
      refine ld_q952 hC hS dX4_write_85 ?_
      refine lv_iload_n hx hb dX4_write_88 rfl (lv_at hl 2 rfl) ?_
      refine al_forms hC hS hw.1 dX4_write_89 ?_
      have hw := hw.2
      refine lv_if_ne (tgt := 99) hx hb dX4_write_90 (by decide) (fun c6 => ?_) (fun c6 => ?_)
      · have hw := hw.2 c6
        refine lv_lload_n hx hb dX4_write_99 rfl (lv_at hl 0 rfl) ?_
        exact k_X4_write_100 hC hA hK43 _ _ _ _ hS (lv_sub hl [1, 2, 3] rfl) hw
      · have hw := hw.1 c6
        refine lv_lload_n hx hb dX4_write_93 rfl (lv_at hl 0 rfl) ?_
        refine lv_l2i hx hb dX4_write_94 rfl ?_
        refine lv_i2l hx hb dX4_write_95 rfl ?_
        refine lv_goto (tgt := 100) hx hb dX4_write_96 (by decide) ?_
        exact k_X4_write_100 hC hA hK43 _ _ _ _ hS (lv_sub hl [1, 2, 3] rfl) hw
set_option maxHeartbeats 4000000 in
set_option maxRecDepth 100000 in
theorem k_X4_write_43 {p : Program} {l : Launch} {e : Env} {s : State} {m : MethodId} {args : Array Value} {below : List Frame} {meth : Method} {c : Code} {D : va_G} {dT : Nat → ClassId} {a : Nat → Nat} {A : Nat → Prop}  {p1 : Int32} {post : Int32 → MS → Prop} (hC : wCx RX4 cX4_write 5 (some .int) D dT p s m args meth c) (hA : wAz A s) : ∀ (M : MS) (x2 : Int32) (n : Nat), ∀ {H : Heap} {locs : List Loc} {ls : Array Slot}, StM D dT a A s M H locs → lv_has ls 5 [(0, .ref (a 0)), (1, .int p1), (2, .int x2)] → w_X4_write_43 p1 post n M x2 → W p l e rmX4_write s m args below meth c H locs 0 0 (MQ below (va_Qi post (wB D (MW dT a) MI A) A) args s 0 0 A) (F0 m 43 ls []) := by
  intro M x2 n
  induction n generalizing M x2 with
  | zero => intro H locs ls  hS hl hw; exact hw.elim
  | succ n ih =>
    intro H locs ls  hS hl hw
    exact k_X4_write_43b hC hA (fun M x2 hk {H} {locs} {ls}  hS hl => ih M x2  hS hl hk) M x2  hS hl hw
set_option maxHeartbeats 4000000 in
set_option maxRecDepth 100000 in
theorem k_X4_write_0 {p : Program} {l : Launch} {e : Env} {s : State} {m : MethodId} {args : Array Value} {below : List Frame} {meth : Method} {c : Code} {D : va_G} {dT : Nat → ClassId} {a : Nat → Nat} {A : Nat → Prop}  {p1 : Int32} {post : Int32 → MS → Prop} (hC : wCx RX4 cX4_write 5 (some .int) D dT p s m args meth c) (hA : wAz A s) (M : MS) {H : Heap} {locs : List Loc} {ls : Array Slot} (hS : StM D dT a A s M H locs) (hl : lv_has ls 5 [(0, .ref (a 0)), (1, .int p1)])  (hw : w_X4_write p1 post M) : W p l e rmX4_write s m args below meth c H locs 0 0 (MQ below (va_Qi post (wB D (MW dT a) MI A) A) args s 0 0 A) (F0 m 0 ls []) := by
  have hx := hC.1
  have hb := hC.2.1
  have hown := hC.2.2.2.1
  have hts := hC.2.2.2.2.1
  unfold w_X4_write at hw
  refine lv_iload_n hx hb dX4_write_0 rfl (lv_at hl 1 rfl) ?_
  refine inv_q1047 hC hS hl.1 hw ⟨Nat.le_of_ble_eq_true rfl, Nat.le_of_ble_eq_true rfl⟩ (Nat.le_of_ble_eq_true rfl) ⟨Nat.zero_le _, Nat.zero_le _⟩ dX4_write_1 (fun r1 H locs hw hS => ?_)
  refine lv_if_ne (tgt := 10) hx hb dX4_write_4 (by decide) (fun c2 => ?_) (fun c2 => ?_)
  · have hw := hw.2 c2
    refine lv_aload_n hx hb dX4_write_10 rfl (lv_at hl 0 rfl) ?_
    refine ld_q952 hC hS dX4_write_11 ?_
    refine lv_iload_n hx hb dX4_write_14 rfl (lv_at hl 1 rfl) ?_
    refine al_forms hC hS hw.1 dX4_write_15 ?_
    have hw := hw.2
    refine lv_iconst (v := (-1)) hx hb dX4_write_16 (by decide) ?_
    refine lv_icmp_ne (tgt := 26) hx hb dX4_write_17 (by decide) (fun c3 => ?_) (fun c3 => ?_)
    · have hw := hw.2 c3
      refine lv_aload_n hx hb dX4_write_26 rfl (lv_at hl 0 rfl) ?_
      refine lv_aload_n hx hb dX4_write_27 rfl (lv_at hl 0 rfl) ?_
      refine ld_q941 hC hS dX4_write_28 ?_
      refine inv_q1094 hC hA hS hl.1 hw ⟨Nat.le_of_ble_eq_true rfl, Nat.le_of_ble_eq_true rfl⟩ (Nat.le_of_ble_eq_true rfl) ⟨Nat.zero_le _, Nat.zero_le _⟩ dX4_write_31 (fun r4 M5 H locs hw hS => ?_)
      refine lv_iconst (v := (-1)) hx hb dX4_write_34 (by decide) ?_
      refine lv_icmp_ne (tgt := 41) hx hb dX4_write_35 (by decide) (fun c6 => ?_) (fun c6 => ?_)
      · have hw := hw.2 c6
        refine lv_iconst (v := 0) hx hb dX4_write_41 (by decide) ?_
        refine lv_istore_n (lv' := [(2, .int 0), (0, .ref (a 0)), (1, .int p1)]) hx hb dX4_write_42 rfl hl (by decide) rfl (fun ls hl => ?_)
        obtain ⟨n, hw⟩ := hw
        exact k_X4_write_43 hC hA _ _ n hS (lv_sub hl [1, 2, 0] rfl) hw
      · have hw := hw.1 c6
        refine lv_bipush (v := (-3)) hx hb dX4_write_38 (by decide) ?_
        exact wReti hC hS hw (Nat.le_refl _) (Nat.le_refl _) dX4_write_40
    · have hw := hw.1 c3
      refine lv_aload_n hx hb dX4_write_20 rfl (lv_at hl 0 rfl) ?_
      refine lv_iconst (v := 1) hx hb dX4_write_21 (by decide) ?_
      refine inv_q1050 hC hA hS hl.1 hw ⟨Nat.le_of_ble_eq_true rfl, Nat.le_of_ble_eq_true rfl⟩ (Nat.le_of_ble_eq_true rfl) ⟨Nat.zero_le _, Nat.zero_le _⟩ dX4_write_22 (fun r7 M8 H locs hw hS => ?_)
      exact wReti hC hS hw (Nat.le_refl _) (Nat.le_refl _) dX4_write_25
  · have hw := hw.1 c2
    refine lv_bipush (v := (-2)) hx hb dX4_write_7 (by decide) ?_
    exact wReti hC hS hw (Nat.le_refl _) (Nat.le_refl _) dX4_write_9
abbrev v_X4_write (M : MS) (p1 : Int32) (post : Int32 → MS → Prop) : Prop := w_X4_write p1 post M
set_option maxHeartbeats 4000000 in
set_option maxRecDepth 100000 in
theorem met_X4_write (l : Launch) (D : va_G) (dT : Nat → ClassId) (a : Nat → Nat) (sz : Nat) (M : MS) (p1 : Int32) (post : Int32 → MS → Prop) (hw : v_X4_write M p1 post) : Met l yX4_write (ws_ yX4_write cX4_write 5 (some .int)) rmX4_write (wPc D dT (MW dT a) MI sz M [.ref (a 0), .int p1]) (va_Qi post (wB D (MW dT a) MI (va_A ((MW dT a) M) sz)) (va_A ((MW dT a) M) sz)) 0 0 (va_A ((MW dT a) M) sz) :=
  wEnt (Q := fun A => (va_Qi post (wB D (MW dT a) MI A) A)) (by decide) (Nat.le_of_ble_eq_true rfl) (fun p e s m below meth c A ls hC _ hA hS hl => k_X4_write_0 hC hA _ hS hl hw) sz
theorem hd_X4_write : yX4_write.cls ≠ "java/lang/invoke/MethodHandle" ∧ yX4_write.cls ≠ "java/lang/invoke/VarHandle" ∧ (parseMethodDescriptor yX4_write.desc).map (fun d => d.parameters.length) = some 1 := by decide +kernel
/-! LeastFramesModel.ways -/
def w_X4_ways_24 (M : MS) (K4 : Int32 → Int32 → Prop) (post : Int32 → Prop) (x2 : Int32) (y0 : Int32) (y1 : Int32) : Prop :=
  ∀ v1 : Int32, v1 = y1 + y0 → (∀ v2 : Int32, v2 = x2 + 1 → (K4 v1 v2))
def w_X4_ways_4b (M : MS) (K4 : Int32 → Int32 → Prop) (post : Int32 → Prop) (x1 : Int32) (x2 : Int32) : Prop :=
  ((10 : Int32) ≤ x2 → (post x1)) ∧ (¬ (10 : Int32) ≤ x2 → (v_X4_isWay M x2 (fun r2 => (r2 = (0 : Int32) → (w_X4_ways_24 M K4 post x2 0 x1)) ∧ (¬ r2 = (0 : Int32) → (w_X4_ways_24 M K4 post x2 1 x1)))))
def w_X4_ways_4 (M : MS) (post : Int32 → Prop) : Nat → Int32 → Int32 → Prop
  | 0, _, _ => False
  | n + 1, x1, x2 => w_X4_ways_4b M (w_X4_ways_4 M post n) post x1 x2
def w_X4_ways (M : MS) (post : Int32 → Prop) : Prop :=
  ∃ n, w_X4_ways_4 M post n 0 0
abbrev rmX4_ways : Room := { frames := 1, cells := 0, slots := 0, locals := 21 }
set_option maxHeartbeats 4000000 in
set_option maxRecDepth 100000 in
theorem k_X4_ways_24 {p : Program} {l : Launch} {e : Env} {s : State} {m : MethodId} {args : Array Value} {below : List Frame} {meth : Method} {c : Code} {D : va_G} {dT : Nat → ClassId} {a : Nat → Nat} {A : Nat → Prop}  {M : MS} {K4 : Int32 → Int32 → Prop} {post : Int32 → Prop} (hC : wCx RX4 cX4_ways 3 (some .int) D dT p s m args meth c) (hA : wAz A s) (hK4 : ∀ (x1 : Int32) (x2 : Int32), K4 x1 x2 → ∀ {H : Heap} {locs : List Loc} {ls : Array Slot}, StM D dT a A s M H locs → lv_has ls 3 [(0, .ref (a 0)), (1, .int x1), (2, .int x2)] → W p l e rmX4_ways s m args below meth c H locs 0 0 (MQ below (va_Qi (fun r M9 => M9 = M ∧ post r) (wB D (MW dT a) MI A) A) args s 0 0 A) (F0 m 4 ls [])) (x2 : Int32) (y0 : Int32) (y1 : Int32) {H : Heap} {locs : List Loc} {ls : Array Slot} (hS : StM D dT a A s M H locs) (hl : lv_has ls 3 [(0, .ref (a 0)), (2, .int x2)])  (hw : w_X4_ways_24 M K4 post x2 y0 y1) : W p l e rmX4_ways s m args below meth c H locs 0 0 (MQ below (va_Qi (fun r M9 => M9 = M ∧ post r) (wB D (MW dT a) MI A) A) args s 0 0 A) (F0 m 24 ls [.int y0, .int y1]) := by
  have hx := hC.1
  have hb := hC.2.1
  have hown := hC.2.2.2.1
  have hts := hC.2.2.2.2.1
  unfold w_X4_ways_24 at hw
  refine lv_iadd hx hb dX4_ways_24 ?_
  refine lv_topi (fun v1 ev1 => ?_)
  have hw := hw v1 ev1
  refine lv_istore_n (lv' := [(1, .int v1), (0, .ref (a 0)), (2, .int x2)]) hx hb dX4_ways_25 rfl hl (by decide) rfl (fun ls hl => ?_)
  obtain ⟨v2, ev2⟩ : ∃ y : Int32, y = x2 + 1 := ⟨_, rfl⟩
  have hw := hw v2 ev2
  refine lv_iinc (v := v2) (lv' := [(2, .int v2), (1, .int v1), (0, .ref (a 0))]) hx hb dX4_ways_26 hl (k := 2) rfl (by rw [ev2]; rfl) (by decide) rfl (fun ls hl => ?_)
  refine lv_goto (tgt := 4) hx hb dX4_ways_29 (by decide) ?_
  exact hK4 _ _ hw hS (lv_sub hl [2, 1, 0] rfl)
set_option maxHeartbeats 4000000 in
set_option maxRecDepth 100000 in
theorem k_X4_ways_4b {p : Program} {l : Launch} {e : Env} {s : State} {m : MethodId} {args : Array Value} {below : List Frame} {meth : Method} {c : Code} {D : va_G} {dT : Nat → ClassId} {a : Nat → Nat} {A : Nat → Prop}  {M : MS} {K4 : Int32 → Int32 → Prop} {post : Int32 → Prop} (hC : wCx RX4 cX4_ways 3 (some .int) D dT p s m args meth c) (hA : wAz A s) (hK4 : ∀ (x1 : Int32) (x2 : Int32), K4 x1 x2 → ∀ {H : Heap} {locs : List Loc} {ls : Array Slot}, StM D dT a A s M H locs → lv_has ls 3 [(0, .ref (a 0)), (1, .int x1), (2, .int x2)] → W p l e rmX4_ways s m args below meth c H locs 0 0 (MQ below (va_Qi (fun r M9 => M9 = M ∧ post r) (wB D (MW dT a) MI A) A) args s 0 0 A) (F0 m 4 ls [])) (x1 : Int32) (x2 : Int32) {H : Heap} {locs : List Loc} {ls : Array Slot} (hS : StM D dT a A s M H locs) (hl : lv_has ls 3 [(0, .ref (a 0)), (1, .int x1), (2, .int x2)])  (hw : w_X4_ways_4b M K4 post x1 x2) : W p l e rmX4_ways s m args below meth c H locs 0 0 (MQ below (va_Qi (fun r M9 => M9 = M ∧ post r) (wB D (MW dT a) MI A) A) args s 0 0 A) (F0 m 4 ls []) := by
  have hx := hC.1
  have hb := hC.2.1
  have hown := hC.2.2.2.1
  have hts := hC.2.2.2.2.1
  unfold w_X4_ways_4b at hw
  refine lv_iload_n hx hb dX4_ways_4 rfl (lv_at hl 2 rfl) ?_
  refine lv_bipush (v := 10) hx hb dX4_ways_5 (by decide) ?_
  refine lv_icmp_ge (tgt := 32) hx hb dX4_ways_7 (by decide) (fun c1 => ?_) (fun c1 => ?_)
  · have hw := hw.1 c1
    refine lv_iload_n hx hb dX4_ways_32 rfl (lv_at hl 1 rfl) ?_
    exact wReti hC hS ⟨rfl, hw⟩ (Nat.le_refl _) (Nat.le_refl _) dX4_ways_33
  · have hw := hw.2 c1
    refine lv_iload_n hx hb dX4_ways_10 rfl (lv_at hl 1 rfl) ?_
    refine lv_aload_n hx hb dX4_ways_11 rfl (lv_at hl 0 rfl) ?_
    refine lv_iload_n hx hb dX4_ways_12 rfl (lv_at hl 2 rfl) ?_
    refine inv_q1106 hC hA hS hl.1 hw ⟨Nat.le_of_ble_eq_true rfl, Nat.le_of_ble_eq_true rfl⟩ (Nat.le_of_ble_eq_true rfl) ⟨Nat.zero_le _, Nat.zero_le _⟩ dX4_ways_13 (fun r2 H locs hw hS => ?_)
    refine lv_if_eq (tgt := 23) hx hb dX4_ways_16 (by decide) (fun c3 => ?_) (fun c3 => ?_)
    · have hw := hw.1 c3
      refine lv_iconst (v := 0) hx hb dX4_ways_23 (by decide) ?_
      exact k_X4_ways_24 hC hA hK4 _ _ _ hS (lv_sub hl [0, 2] rfl) hw
    · have hw := hw.2 c3
      refine lv_iconst (v := 1) hx hb dX4_ways_19 (by decide) ?_
      refine lv_goto (tgt := 24) hx hb dX4_ways_20 (by decide) ?_
      exact k_X4_ways_24 hC hA hK4 _ _ _ hS (lv_sub hl [0, 2] rfl) hw
set_option maxHeartbeats 4000000 in
set_option maxRecDepth 100000 in
theorem k_X4_ways_4 {p : Program} {l : Launch} {e : Env} {s : State} {m : MethodId} {args : Array Value} {below : List Frame} {meth : Method} {c : Code} {D : va_G} {dT : Nat → ClassId} {a : Nat → Nat} {A : Nat → Prop}  {M : MS} {post : Int32 → Prop} (hC : wCx RX4 cX4_ways 3 (some .int) D dT p s m args meth c) (hA : wAz A s) : ∀ (x1 : Int32) (x2 : Int32) (n : Nat), ∀ {H : Heap} {locs : List Loc} {ls : Array Slot}, StM D dT a A s M H locs → lv_has ls 3 [(0, .ref (a 0)), (1, .int x1), (2, .int x2)] → w_X4_ways_4 M post n x1 x2 → W p l e rmX4_ways s m args below meth c H locs 0 0 (MQ below (va_Qi (fun r M9 => M9 = M ∧ post r) (wB D (MW dT a) MI A) A) args s 0 0 A) (F0 m 4 ls []) := by
  intro x1 x2 n
  induction n generalizing x1 x2 with
  | zero => intro H locs ls  hS hl hw; exact hw.elim
  | succ n ih =>
    intro H locs ls  hS hl hw
    exact k_X4_ways_4b hC hA (fun x1 x2 hk {H} {locs} {ls}  hS hl => ih x1 x2  hS hl hk) x1 x2  hS hl hw
set_option maxHeartbeats 4000000 in
set_option maxRecDepth 100000 in
theorem k_X4_ways_0 {p : Program} {l : Launch} {e : Env} {s : State} {m : MethodId} {args : Array Value} {below : List Frame} {meth : Method} {c : Code} {D : va_G} {dT : Nat → ClassId} {a : Nat → Nat} {A : Nat → Prop}  {M : MS} {post : Int32 → Prop} (hC : wCx RX4 cX4_ways 3 (some .int) D dT p s m args meth c) (hA : wAz A s) {H : Heap} {locs : List Loc} {ls : Array Slot} (hS : StM D dT a A s M H locs) (hl : lv_has ls 3 [(0, .ref (a 0))])  (hw : w_X4_ways M post) : W p l e rmX4_ways s m args below meth c H locs 0 0 (MQ below (va_Qi (fun r M9 => M9 = M ∧ post r) (wB D (MW dT a) MI A) A) args s 0 0 A) (F0 m 0 ls []) := by
  have hx := hC.1
  have hb := hC.2.1
  have hown := hC.2.2.2.1
  have hts := hC.2.2.2.2.1
  unfold w_X4_ways at hw
  refine lv_iconst (v := 0) hx hb dX4_ways_0 (by decide) ?_
  refine lv_istore_n (lv' := [(1, .int 0), (0, .ref (a 0))]) hx hb dX4_ways_1 rfl hl (by decide) rfl (fun ls hl => ?_)
  refine lv_iconst (v := 0) hx hb dX4_ways_2 (by decide) ?_
  refine lv_istore_n (lv' := [(2, .int 0), (1, .int 0), (0, .ref (a 0))]) hx hb dX4_ways_3 rfl hl (by decide) rfl (fun ls hl => ?_)
  obtain ⟨n, hw⟩ := hw
  exact k_X4_ways_4 hC hA _ _ n hS (lv_sub hl [2, 1, 0] rfl) hw
abbrev v_X4_ways (M : MS) (post : Int32 → Prop) : Prop := w_X4_ways M post
set_option maxHeartbeats 4000000 in
set_option maxRecDepth 100000 in
theorem met_X4_ways (l : Launch) (D : va_G) (dT : Nat → ClassId) (a : Nat → Nat) (sz : Nat) (M : MS) (post : Int32 → Prop) (hw : v_X4_ways M post) : Met l yX4_ways (ws_ yX4_ways cX4_ways 3 (some .int)) rmX4_ways (wPc D dT (MW dT a) MI sz M [.ref (a 0)]) (va_Qi (fun r M9 => M9 = M ∧ post r) (wB D (MW dT a) MI (va_A ((MW dT a) M) sz)) (va_A ((MW dT a) M) sz)) 0 0 (va_A ((MW dT a) M) sz) :=
  wEnt (Q := fun A => (va_Qi (fun r M9 => M9 = M ∧ post r) (wB D (MW dT a) MI A) A)) (by decide) (Nat.le_of_ble_eq_true rfl) (fun p e s m below meth c A ls hC _ hA hS hl => k_X4_ways_0 hC hA  hS hl hw) sz
theorem hd_X4_ways : yX4_ways.cls ≠ "java/lang/invoke/MethodHandle" ∧ yX4_ways.cls ≠ "java/lang/invoke/VarHandle" ∧ (parseMethodDescriptor yX4_ways.desc).map (fun d => d.parameters.length) = some 0 := by decide +kernel
section
variable {p : Program} {l : Launch} {e : Env} {R : Room} {s : State} {m : MethodId} {args : Array Value} {below : List Frame} {meth : Method} {c : Code} {H : Heap} {locs : List Loc} {cells slots : Nat} {Q : State → Prop} {cc : ByteArray} {nL : Nat} {ret : Option FieldType} {pc : Nat} {ls : Array Slot} {rest : List Value}
set_option maxHeartbeats 4000000 in
set_option maxRecDepth 100000 in
theorem inv_q1306 {D : va_G} {dT : Nat → ClassId} {a : Nat → Nat} {A : Nat → Prop} {M : MS} {post : Int32 → Prop} (hC : wCx RX4 cc nL ret D dT p s m args meth c) (hA : wAz A s) (hS : StM D dT a A s M H locs) (hl : ls.size = nL) (hw : v_X4_ways M post) (hR : rmX4_ways.frames + 1 ≤ R.frames ∧ 8 + (3 + 11) + rmX4_ways.locals ≤ R.locals) (hrest : (rest.map fun v => v.category).sum ≤ 8) (hf : cells ≤ R.cells ∧ slots ≤ R.slots) (hdg : decode cc pc = .ok (.invokevirtual 233, 3)) (kk : ∀ (r : Int32) (H1 : Heap) (locs1 : List Loc), post r → StM D dT a A s M H1 locs1 → W p l e R s m args below meth c H1 locs1 cells slots Q (F0 m (pc + 3) ls (.int r :: rest))) : W p l e R s m args below meth c H locs cells slots Q (F0 m pc ls (.ref (a 0) :: rest)) := by
  exact wCallVi (As := []) (rest := rest) (mc := 0) (ms := 0) 0 hC (met_X4_ways l D dT a H.size M post hw) (lw_V q1306 q1308 qs81 q89 q1309) ⟨⟨rfl, rfl⟩, hd_X4_ways, hR, hf⟩ rfl rfl rfl hA hS hl rfl hrest hdg (fun r u H1 locs1 hp hS1 => kk r H1 locs1 hp.2 (hp.1 ▸ hS1))
end
