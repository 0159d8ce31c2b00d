/-! LeastFramesModel.crossings -/
def w_X4_crossings_32 (post : Int32 → MS → Prop) (M : MS) (x1 : Int32) (x2 : Int32) : Prop :=
  (x1 = ((-1) : Int32) → (post ((-1) : Int32) M)) ∧ (¬ x1 = ((-1) : Int32) → (post x2 M))
def w_X4_crossings_11b (K11 : MS → Int32 → Int32 → Prop) (post : Int32 → MS → Prop) (M : MS) (x1 : Int32) (x2 : Int32) : Prop :=
  (x1 = ((-1) : Int32) → (w_X4_crossings_32 post M x1 x2)) ∧ (¬ x1 = ((-1) : Int32) → (v_X4_crossing M x2 x1 (fun r2 M3 => (r2 = ((-1) : Int32) → (w_X4_crossings_32 post M3 x1 x2)) ∧ (¬ r2 = ((-1) : Int32) → (∀ v5 : Int32, v5 = x2 + 1 → (K11 M3 x1 v5))))))
def w_X4_crossings_11 (post : Int32 → MS → Prop) : Nat → MS → Int32 → Int32 → Prop
  | 0, _, _, _ => False
  | n + 1, M, x1, x2 => w_X4_crossings_11b  (w_X4_crossings_11 post n) post M x1 x2
def w_X4_crossings (post : Int32 → MS → Prop) (M : MS) : Prop :=
  v_X4_bestOf M (M_bars M) (fun r1 M2 => ∃ n, w_X4_crossings_11 post n M2 r1 0)
abbrev rmX4_crossings : Room := { frames := 8, cells := 0, slots := 0, locals := 181 }
set_option maxHeartbeats 4000000 in
set_option maxRecDepth 100000 in
theorem k_X4_crossings_32 {p : Program} {l : Launch} {e : Env} {s : State} {m : MethodId} {args : Array Value} {below : List Frame} {meth : Method} {c : Code} {D : va_G} {dT : Nat → ClassId} {a : Nat → Nat} {A : Nat → Prop}  {post : Int32 → MS → Prop} (hC : wCx RX4 cX4_crossings 3 (some .int) D dT p s m args meth c) (hA : wAz A s) (M : MS) (x1 : Int32) (x2 : Int32) {H : Heap} {locs : List Loc} {ls : Array Slot} (hS : StM D dT a A s M H locs) (hl : lv_has ls 3 [(1, .int x1), (2, .int x2)])  (hw : w_X4_crossings_32 post M x1 x2) : W p l e rmX4_crossings s m args below meth c H locs 0 0 (MQ below (va_Qi post (wB D (MW dT a) MI A) A) args s 0 0 A) (F0 m 32 ls []) := by
  have hx := hC.1
  have hb := hC.2.1
  have hown := hC.2.2.2.1
  have hts := hC.2.2.2.2.1
  unfold w_X4_crossings_32 at hw
  refine lv_iload_n hx hb dX4_crossings_32 rfl (lv_at hl 0 rfl) ?_
  refine lv_iconst (v := (-1)) hx hb dX4_crossings_33 (by decide) ?_
  refine lv_icmp_ne (tgt := 41) hx hb dX4_crossings_34 (by decide) (fun c1 => ?_) (fun c1 => ?_)
  · have hw := hw.2 c1
    refine lv_iload_n hx hb dX4_crossings_41 rfl (lv_at hl 1 rfl) ?_
    exact wReti hC hS hw (Nat.le_refl _) (Nat.le_refl _) dX4_crossings_42
  · have hw := hw.1 c1
    refine lv_iconst (v := (-1)) hx hb dX4_crossings_37 (by decide) ?_
    refine lv_goto (tgt := 42) hx hb dX4_crossings_38 (by decide) ?_
    exact wReti hC hS hw (Nat.le_refl _) (Nat.le_refl _) dX4_crossings_42
set_option maxHeartbeats 4000000 in
set_option maxRecDepth 100000 in
theorem k_X4_crossings_11b {p : Program} {l : Launch} {e : Env} {s : State} {m : MethodId} {args : Array Value} {below : List Frame} {meth : Method} {c : Code} {D : va_G} {dT : Nat → ClassId} {a : Nat → Nat} {A : Nat → Prop}  {K11 : MS → Int32 → Int32 → Prop} {post : Int32 → MS → Prop} (hC : wCx RX4 cX4_crossings 3 (some .int) D dT p s m args meth c) (hA : wAz A s) (hK11 : ∀ (M : MS) (x1 : Int32) (x2 : Int32), K11 M x1 x2 → ∀ {H : Heap} {locs : List Loc} {ls : Array Slot}, StM D dT a A s M H locs → lv_has ls 3 [(0, .ref (a 0)), (1, .int x1), (2, .int x2)] → W p l e rmX4_crossings s m args below meth c H locs 0 0 (MQ below (va_Qi post (wB D (MW dT a) MI A) A) args s 0 0 A) (F0 m 11 ls [])) (M : MS) (x1 : Int32) (x2 : Int32) {H : Heap} {locs : List Loc} {ls : Array Slot} (hS : StM D dT a A s M H locs) (hl : lv_has ls 3 [(0, .ref (a 0)), (1, .int x1), (2, .int x2)])  (hw : w_X4_crossings_11b K11 post M x1 x2) : W p l e rmX4_crossings s m args below meth c H locs 0 0 (MQ below (va_Qi post (wB D (MW dT a) MI A) A) args s 0 0 A) (F0 m 11 ls []) := by
  have hx := hC.1
  have hb := hC.2.1
  have hown := hC.2.2.2.1
  have hts := hC.2.2.2.2.1
  unfold w_X4_crossings_11b at hw
  refine lv_iload_n hx hb dX4_crossings_11 rfl (lv_at hl 1 rfl) ?_
  refine lv_iconst (v := (-1)) hx hb dX4_crossings_12 (by decide) ?_
  refine lv_icmp_eq (tgt := 32) hx hb dX4_crossings_13 (by decide) (fun c1 => ?_) (fun c1 => ?_)
  · have hw := hw.1 c1
    exact k_X4_crossings_32 hC hA _ _ _ hS (lv_sub hl [1, 2] rfl) hw
  · have hw := hw.2 c1
    refine lv_aload_n hx hb dX4_crossings_16 rfl (lv_at hl 0 rfl) ?_
    refine lv_iload_n hx hb dX4_crossings_17 rfl (lv_at hl 2 rfl) ?_
    refine lv_iload_n hx hb dX4_crossings_18 rfl (lv_at hl 1 rfl) ?_
    refine inv_q1268 hC hA hS hl.1 hw ⟨Nat.le_of_ble_eq_true rfl, Nat.le_of_ble_eq_true rfl⟩ (Nat.le_of_ble_eq_true rfl) ⟨Nat.zero_le _, Nat.zero_le _⟩ dX4_crossings_19 (fun r2 M3 H locs hw hS => ?_)
    refine lv_iconst (v := (-1)) hx hb dX4_crossings_22 (by decide) ?_
    refine lv_icmp_eq (tgt := 32) hx hb dX4_crossings_23 (by decide) (fun c4 => ?_) (fun c4 => ?_)
    · have hw := hw.1 c4
      exact k_X4_crossings_32 hC hA _ _ _ hS (lv_sub hl [1, 2] rfl) hw
    · have hw := hw.2 c4
      obtain ⟨v5, ev5⟩ : ∃ y : Int32, y = x2 + 1 := ⟨_, rfl⟩
      have hw := hw v5 ev5
      refine lv_iinc (v := v5) (lv' := [(2, .int v5), (0, .ref (a 0)), (1, .int x1)]) hx hb dX4_crossings_26 hl (k := 2) rfl (by rw [ev5]; rfl) (by decide) rfl (fun ls hl => ?_)
      refine lv_goto (tgt := 11) hx hb dX4_crossings_29 (by decide) ?_
      exact hK11 _ _ _ hw hS (lv_sub hl [1, 2, 0] rfl)
set_option maxHeartbeats 4000000 in
set_option maxRecDepth 100000 in
theorem k_X4_crossings_11 {p : Program} {l : Launch} {e : Env} {s : State} {m : MethodId} {args : Array Value} {below : List Frame} {meth : Method} {c : Code} {D : va_G} {dT : Nat → ClassId} {a : Nat → Nat} {A : Nat → Prop}  {post : Int32 → MS → Prop} (hC : wCx RX4 cX4_crossings 3 (some .int) D dT p s m args meth c) (hA : wAz A s) : ∀ (M : MS) (x1 : Int32) (x2 : Int32) (n : Nat), ∀ {H : Heap} {locs : List Loc} {ls : Array Slot}, StM D dT a A s M H locs → lv_has ls 3 [(0, .ref (a 0)), (1, .int x1), (2, .int x2)] → w_X4_crossings_11 post n M x1 x2 → W p l e rmX4_crossings s m args below meth c H locs 0 0 (MQ below (va_Qi post (wB D (MW dT a) MI A) A) args s 0 0 A) (F0 m 11 ls []) := by
  intro M x1 x2 n
  induction n generalizing M x1 x2 with
  | zero => intro H locs ls  hS hl hw; exact hw.elim
  | succ n ih =>
    intro H locs ls  hS hl hw
    exact k_X4_crossings_11b hC hA (fun M x1 x2 hk {H} {locs} {ls}  hS hl => ih M x1 x2  hS hl hk) M x1 x2  hS hl hw
set_option maxHeartbeats 4000000 in
set_option maxRecDepth 100000 in
theorem k_X4_crossings_0 {p : Program} {l : Launch} {e : Env} {s : State} {m : MethodId} {args : Array Value} {below : List Frame} {meth : Method} {c : Code} {D : va_G} {dT : Nat → ClassId} {a : Nat → Nat} {A : Nat → Prop}  {post : Int32 → MS → Prop} (hC : wCx RX4 cX4_crossings 3 (some .int) D dT p s m args meth c) (hA : wAz A s) (M : MS) {H : Heap} {locs : List Loc} {ls : Array Slot} (hS : StM D dT a A s M H locs) (hl : lv_has ls 3 [(0, .ref (a 0))])  (hw : w_X4_crossings post M) : W p l e rmX4_crossings s m args below meth c H locs 0 0 (MQ below (va_Qi post (wB D (MW dT a) MI A) A) args s 0 0 A) (F0 m 0 ls []) := by
  have hx := hC.1
  have hb := hC.2.1
  have hown := hC.2.2.2.1
  have hts := hC.2.2.2.2.1
  unfold w_X4_crossings at hw
  refine lv_aload_n hx hb dX4_crossings_0 rfl (lv_at hl 0 rfl) ?_
  refine lv_aload_n hx hb dX4_crossings_1 rfl (lv_at hl 0 rfl) ?_
  refine ld_q941 hC hS dX4_crossings_2 ?_
  refine inv_q1094 hC hA hS hl.1 hw ⟨Nat.le_of_ble_eq_true rfl, Nat.le_of_ble_eq_true rfl⟩ (Nat.le_of_ble_eq_true rfl) ⟨Nat.zero_le _, Nat.zero_le _⟩ dX4_crossings_5 (fun r1 M2 H locs hw hS => ?_)
  refine lv_istore_n (lv' := [(1, .int r1), (0, .ref (a 0))]) hx hb dX4_crossings_8 rfl hl (by decide) rfl (fun ls hl => ?_)
  refine lv_iconst (v := 0) hx hb dX4_crossings_9 (by decide) ?_
  refine lv_istore_n (lv' := [(2, .int 0), (1, .int r1), (0, .ref (a 0))]) hx hb dX4_crossings_10 rfl hl (by decide) rfl (fun ls hl => ?_)
  obtain ⟨n, hw⟩ := hw
  exact k_X4_crossings_11 hC hA _ _ _ n hS (lv_sub hl [2, 1, 0] rfl) hw
abbrev v_X4_crossings (M : MS) (post : Int32 → MS → Prop) : Prop := w_X4_crossings post M
set_option maxHeartbeats 4000000 in
set_option maxRecDepth 100000 in
theorem met_X4_crossings (l : Launch) (D : va_G) (dT : Nat → ClassId) (a : Nat → Nat) (sz : Nat) (M : MS) (post : Int32 → MS → Prop) (hw : v_X4_crossings M post) : Met l yX4_crossings (ws_ yX4_crossings cX4_crossings 3 (some .int)) rmX4_crossings (wPc D dT (MW dT a) MI sz M [.ref (a 0)]) (va_Qi post (wB D (MW dT a) MI (va_A ((MW dT a) M) sz)) (va_A ((MW dT a) M) sz)) 0 0 (va_A ((MW dT a) M) sz) :=
  wEnt (Q := fun A => (va_Qi post (wB D (MW dT a) MI A) A)) (by decide) (Nat.le_of_ble_eq_true rfl) (fun p e s m below meth c A ls hC _ hA hS hl => k_X4_crossings_0 hC hA _ hS hl hw) sz
theorem hd_X4_crossings : yX4_crossings.cls ≠ "java/lang/invoke/MethodHandle" ∧ yX4_crossings.cls ≠ "java/lang/invoke/VarHandle" ∧ (parseMethodDescriptor yX4_crossings.desc).map (fun d => d.parameters.length) = some 0 := by decide +kernel
section
variable {p : Program} {l : Launch} {e : Env} {R : Room} {s : State} {m : MethodId} {args : Array Value} {below : List Frame} {meth : Method} {c : Code} {H : Heap} {locs : List Loc} {cells slots : Nat} {Q : State → Prop} {cc : ByteArray} {nL : Nat} {ret : Option FieldType} {pc : Nat} {ls : Array Slot} {rest : List Value}
set_option maxHeartbeats 4000000 in
set_option maxRecDepth 100000 in
theorem inv_q1310 {D : va_G} {dT : Nat → ClassId} {a : Nat → Nat} {A : Nat → Prop} {M : MS} {post : Int32 → MS → Prop} (hC : wCx RX4 cc nL ret D dT p s m args meth c) (hA : wAz A s) (hS : StM D dT a A s M H locs) (hl : ls.size = nL) (hw : v_X4_crossings M post) (hR : rmX4_crossings.frames + 1 ≤ R.frames ∧ 8 + (3 + 11) + rmX4_crossings.locals ≤ R.locals) (hrest : (rest.map fun v => v.category).sum ≤ 8) (hf : cells ≤ R.cells ∧ slots ≤ R.slots) (hdg : decode cc pc = .ok (.invokevirtual 236, 3)) (kk : ∀ (r : Int32) (u : MS) (H1 : Heap) (locs1 : List Loc), post r u → StM D dT a A s u H1 locs1 → W p l e R s m args below meth c H1 locs1 cells slots Q (F0 m (pc + 3) ls (.int r :: rest))) : W p l e R s m args below meth c H locs cells slots Q (F0 m pc ls (.ref (a 0) :: rest)) := by
  exact wCallVi (As := []) (rest := rest) (mc := 0) (ms := 0) 0 hC (met_X4_crossings l D dT a H.size M post hw) (lw_V q1310 q1312 qs82 q89 q1313) ⟨⟨rfl, rfl⟩, hd_X4_crossings, hR, hf⟩ rfl rfl rfl hA hS hl rfl hrest hdg (fun r u H1 locs1 hp hS1 => kk r u H1 locs1 hp hS1)
end
/-! LeastFramesModel.count -/
def w_X4_count (p1 : Int32) (post : Int32 → MS → Prop) (M : MS) : Prop :=
  v_X4_bestOf M (M_bars M) (fun r1 M2 => ((p1 = 0 → (post (M_points M2) M2)) ∧ (¬ p1 = 0 → ((p1 = 1 → (v_X4_size (M_bars M2) (fun r4 => post r4 M2))) ∧ (¬ p1 = 1 → ((p1 = 2 → (v_X4_ways M2 (fun r5 => post r5 M2))) ∧ (¬ p1 = 2 → ((p1 = 3 → ((r1 = ((-1) : Int32) → (post ((-1) : Int32) M2)) ∧ (¬ r1 = ((-1) : Int32) → (v_X4_size r1 (fun r7 => post r7 M2))))) ∧ (¬ p1 = 3 → ((p1 = 4 → ((r1 = ((-1) : Int32) → (post ((-1) : Int32) M2)) ∧ (¬ r1 = ((-1) : Int32) → (v_X4_neededNow M2 (fun r9 M10 => v_X4_size r9 (fun r11 => post r11 M10)))))) ∧ (¬ p1 = 4 → ((p1 = 5 → ((r1 = ((-1) : Int32) → (post (0 : Int32) M2)) ∧ (¬ r1 = ((-1) : Int32) → (post (1 : Int32) M2)))) ∧ (¬ p1 = 5 → ((p1 = 6 → (v_X4_crossings M2 (fun r13 M14 => post r13 M14))) ∧ (¬ p1 = 6 → ((p1 = 7 → (v_X4_provesNow M2 (fun r15 M16 => post r15 M16))) ∧ (¬ p1 = 7 → ((p1 = 8 → (post (M_finding M2) M2)) ∧ (¬ p1 = 8 → (post ((-2) : Int32) M2))))))))))))))))))))
abbrev rmX4_count : Room := { frames := 10, cells := 0, slots := 0, locals := 227 }
set_option maxHeartbeats 4000000 in
set_option maxRecDepth 100000 in
theorem k_X4_count_0 {p : Program} {l : Launch} {e : Env} {s : State} {m : MethodId} {args : Array Value} {below : List Frame} {meth : Method} {c : Code} {D : va_G} {dT : Nat → ClassId} {a : Nat → Nat} {A : Nat → Prop}  {p1 : Int32} {post : Int32 → MS → Prop} (hC : wCx RX4 cX4_count 3 (some .int) D dT p s m args meth c) (hA : wAz A s) (M : MS) {H : Heap} {locs : List Loc} {ls : Array Slot} (hS : StM D dT a A s M H locs) (hl : lv_has ls 3 [(0, .ref (a 0)), (1, .int p1)])  (hw : w_X4_count p1 post M) : W p l e rmX4_count s m args below meth c H locs 0 0 (MQ below (va_Qi post (wB D (MW dT a) MI A) A) args s 0 0 A) (F0 m 0 ls []) := by
  have hx := hC.1
  have hb := hC.2.1
  have hown := hC.2.2.2.1
  have hts := hC.2.2.2.2.1
  unfold w_X4_count at hw
  refine lv_aload_n hx hb dX4_count_0 rfl (lv_at hl 0 rfl) ?_
  refine lv_aload_n hx hb dX4_count_1 rfl (lv_at hl 0 rfl) ?_
  refine ld_q941 hC hS dX4_count_2 ?_
  refine inv_q1094 hC hA hS hl.1 hw ⟨Nat.le_of_ble_eq_true rfl, Nat.le_of_ble_eq_true rfl⟩ (Nat.le_of_ble_eq_true rfl) ⟨Nat.zero_le _, Nat.zero_le _⟩ dX4_count_5 (fun r1 M2 H locs hw hS => ?_)
  refine lv_istore_n (lv' := [(2, .int r1), (0, .ref (a 0)), (1, .int p1)]) hx hb dX4_count_8 rfl hl (by decide) rfl (fun ls hl => ?_)
  refine lv_iload_n hx hb dX4_count_9 rfl (lv_at hl 2 rfl) ?_
  rcases Decidable.em (p1 = (0 : Int32)) with c3_0 | c3_0
  · have hw := hw.1 c3_0
    refine lv_tableIn (off := 50) (tgt := 60) hx hb dX4_count_10 (by rw [c3_0]; decide) (by rw [c3_0]; decide) (by rw [c3_0]; decide) (by decide) ?_
    refine lv_aload_n hx hb dX4_count_60 rfl (lv_at hl 1 rfl) ?_
    refine ld_q940 hC hS dX4_count_61 ?_
    exact wReti hC hS hw (Nat.le_refl _) (Nat.le_refl _) dX4_count_64
  have hw := hw.2 c3_0
  rcases Decidable.em (p1 = (1 : Int32)) with c3_1 | c3_1
  · have hw := hw.1 c3_1
    refine lv_tableIn (off := 55) (tgt := 65) hx hb dX4_count_10 (by rw [c3_1]; decide) (by rw [c3_1]; decide) (by rw [c3_1]; decide) (by decide) ?_
    refine lv_aload_n hx hb dX4_count_65 rfl (lv_at hl 1 rfl) ?_
    refine ld_q941 hC hS dX4_count_66 ?_
    refine inv_q1129 hC hS hl.1 hw ⟨Nat.le_of_ble_eq_true rfl, Nat.le_of_ble_eq_true rfl⟩ (Nat.le_of_ble_eq_true rfl) ⟨Nat.zero_le _, Nat.zero_le _⟩ dX4_count_69 (fun r4 H locs hw hS => ?_)
    exact wReti hC hS hw (Nat.le_refl _) (Nat.le_refl _) dX4_count_72
  have hw := hw.2 c3_1
  rcases Decidable.em (p1 = (2 : Int32)) with c3_2 | c3_2
  · have hw := hw.1 c3_2
    refine lv_tableIn (off := 63) (tgt := 73) hx hb dX4_count_10 (by rw [c3_2]; decide) (by rw [c3_2]; decide) (by rw [c3_2]; decide) (by decide) ?_
    refine lv_aload_n hx hb dX4_count_73 rfl (lv_at hl 1 rfl) ?_
    refine inv_q1306 hC hA hS hl.1 hw ⟨Nat.le_of_ble_eq_true rfl, Nat.le_of_ble_eq_true rfl⟩ (Nat.le_of_ble_eq_true rfl) ⟨Nat.zero_le _, Nat.zero_le _⟩ dX4_count_74 (fun r5 H locs hw hS => ?_)
    exact wReti hC hS hw (Nat.le_refl _) (Nat.le_refl _) dX4_count_77
  have hw := hw.2 c3_2
  rcases Decidable.em (p1 = (3 : Int32)) with c3_3 | c3_3
  · have hw := hw.1 c3_3
    refine lv_tableIn (off := 68) (tgt := 78) hx hb dX4_count_10 (by rw [c3_3]; decide) (by rw [c3_3]; decide) (by rw [c3_3]; decide) (by decide) ?_
    refine lv_iload_n hx hb dX4_count_78 rfl (lv_at hl 0 rfl) ?_
    refine lv_iconst (v := (-1)) hx hb dX4_count_79 (by decide) ?_
    refine lv_icmp_ne (tgt := 87) hx hb dX4_count_80 (by decide) (fun c6 => ?_) (fun c6 => ?_)
    · have hw := hw.2 c6
      refine lv_iload_n hx hb dX4_count_87 rfl (lv_at hl 0 rfl) ?_
      refine inv_q1129 hC hS hl.1 hw ⟨Nat.le_of_ble_eq_true rfl, Nat.le_of_ble_eq_true rfl⟩ (Nat.le_of_ble_eq_true rfl) ⟨Nat.zero_le _, Nat.zero_le _⟩ dX4_count_88 (fun r7 H locs hw hS => ?_)
      exact wReti hC hS hw (Nat.le_refl _) (Nat.le_refl _) dX4_count_91
    · have hw := hw.1 c6
      refine lv_iconst (v := (-1)) hx hb dX4_count_83 (by decide) ?_
      refine lv_goto (tgt := 91) hx hb dX4_count_84 (by decide) ?_
      exact wReti hC hS hw (Nat.le_refl _) (Nat.le_refl _) dX4_count_91
  have hw := hw.2 c3_3
  rcases Decidable.em (p1 = (4 : Int32)) with c3_4 | c3_4
  · have hw := hw.1 c3_4
    refine lv_tableIn (off := 82) (tgt := 92) hx hb dX4_count_10 (by rw [c3_4]; decide) (by rw [c3_4]; decide) (by rw [c3_4]; decide) (by decide) ?_
    refine lv_iload_n hx hb dX4_count_92 rfl (lv_at hl 0 rfl) ?_
    refine lv_iconst (v := (-1)) hx hb dX4_count_93 (by decide) ?_
    refine lv_icmp_ne (tgt := 101) hx hb dX4_count_94 (by decide) (fun c8 => ?_) (fun c8 => ?_)
    · have hw := hw.2 c8
      refine lv_aload_n hx hb dX4_count_101 rfl (lv_at hl 1 rfl) ?_
      refine inv_q1183 hC hA hS hl.1 hw ⟨Nat.le_of_ble_eq_true rfl, Nat.le_of_ble_eq_true rfl⟩ (Nat.le_of_ble_eq_true rfl) ⟨Nat.zero_le _, Nat.zero_le _⟩ dX4_count_102 (fun r9 M10 H locs hw hS => ?_)
      refine inv_q1129 hC hS hl.1 hw ⟨Nat.le_of_ble_eq_true rfl, Nat.le_of_ble_eq_true rfl⟩ (Nat.le_of_ble_eq_true rfl) ⟨Nat.zero_le _, Nat.zero_le _⟩ dX4_count_105 (fun r11 H locs hw hS => ?_)
      exact wReti hC hS hw (Nat.le_refl _) (Nat.le_refl _) dX4_count_108
    · have hw := hw.1 c8
      refine lv_iconst (v := (-1)) hx hb dX4_count_97 (by decide) ?_
      refine lv_goto (tgt := 108) hx hb dX4_count_98 (by decide) ?_
      exact wReti hC hS hw (Nat.le_refl _) (Nat.le_refl _) dX4_count_108
  have hw := hw.2 c3_4
  rcases Decidable.em (p1 = (5 : Int32)) with c3_5 | c3_5
  · have hw := hw.1 c3_5
    refine lv_tableIn (off := 99) (tgt := 109) hx hb dX4_count_10 (by rw [c3_5]; decide) (by rw [c3_5]; decide) (by rw [c3_5]; decide) (by decide) ?_
    refine lv_iload_n hx hb dX4_count_109 rfl (lv_at hl 0 rfl) ?_
    refine lv_iconst (v := (-1)) hx hb dX4_count_110 (by decide) ?_
    refine lv_icmp_ne (tgt := 118) hx hb dX4_count_111 (by decide) (fun c12 => ?_) (fun c12 => ?_)
    · have hw := hw.2 c12
      refine lv_iconst (v := 1) hx hb dX4_count_118 (by decide) ?_
      exact wReti hC hS hw (Nat.le_refl _) (Nat.le_refl _) dX4_count_119
    · have hw := hw.1 c12
      refine lv_iconst (v := 0) hx hb dX4_count_114 (by decide) ?_
      refine lv_goto (tgt := 119) hx hb dX4_count_115 (by decide) ?_
      exact wReti hC hS hw (Nat.le_refl _) (Nat.le_refl _) dX4_count_119
  have hw := hw.2 c3_5
  rcases Decidable.em (p1 = (6 : Int32)) with c3_6 | c3_6
  · have hw := hw.1 c3_6
    refine lv_tableIn (off := 110) (tgt := 120) hx hb dX4_count_10 (by rw [c3_6]; decide) (by rw [c3_6]; decide) (by rw [c3_6]; decide) (by decide) ?_
    refine lv_aload_n hx hb dX4_count_120 rfl (lv_at hl 1 rfl) ?_
    refine inv_q1310 hC hA hS hl.1 hw ⟨Nat.le_of_ble_eq_true rfl, Nat.le_of_ble_eq_true rfl⟩ (Nat.le_of_ble_eq_true rfl) ⟨Nat.zero_le _, Nat.zero_le _⟩ dX4_count_121 (fun r13 M14 H locs hw hS => ?_)
    exact wReti hC hS hw (Nat.le_refl _) (Nat.le_refl _) dX4_count_124
  have hw := hw.2 c3_6
  rcases Decidable.em (p1 = (7 : Int32)) with c3_7 | c3_7
  · have hw := hw.1 c3_7
    refine lv_tableIn (off := 115) (tgt := 125) hx hb dX4_count_10 (by rw [c3_7]; decide) (by rw [c3_7]; decide) (by rw [c3_7]; decide) (by decide) ?_
    refine lv_aload_n hx hb dX4_count_125 rfl (lv_at hl 1 rfl) ?_
    refine inv_q1256 hC hA hS hl.1 hw ⟨Nat.le_of_ble_eq_true rfl, Nat.le_of_ble_eq_true rfl⟩ (Nat.le_of_ble_eq_true rfl) ⟨Nat.zero_le _, Nat.zero_le _⟩ dX4_count_126 (fun r15 M16 H locs hw hS => ?_)
    exact wReti hC hS hw (Nat.le_refl _) (Nat.le_refl _) dX4_count_129
  have hw := hw.2 c3_7
  rcases Decidable.em (p1 = (8 : Int32)) with c3_8 | c3_8
  · have hw := hw.1 c3_8
    refine lv_tableIn (off := 120) (tgt := 130) hx hb dX4_count_10 (by rw [c3_8]; decide) (by rw [c3_8]; decide) (by rw [c3_8]; decide) (by decide) ?_
    refine lv_aload_n hx hb dX4_count_130 rfl (lv_at hl 1 rfl) ?_
    refine ld_q956 hC hS dX4_count_131 ?_
    exact wReti hC hS hw (Nat.le_refl _) (Nat.le_refl _) dX4_count_134
  have hw := hw.2 c3_8
  refine lv_tableOut (tgt := 135) hx hb dX4_count_10 (sw_out (n := 9) (lt_s (lt_s (lt_s (lt_s (lt_s (lt_s (lt_s (lt_s (lt_s lt_0 c3_0) c3_1) c3_2) c3_3) c3_4) c3_5) c3_6) c3_7) c3_8) (by decide) (by decide)) (by decide) ?_
  refine lv_bipush (v := (-2)) hx hb dX4_count_135 (by decide) ?_
  exact wReti hC hS hw (Nat.le_refl _) (Nat.le_refl _) dX4_count_137
abbrev v_X4_count (M : MS) (p1 : Int32) (post : Int32 → MS → Prop) : Prop := w_X4_count p1 post M
set_option maxHeartbeats 4000000 in
set_option maxRecDepth 100000 in
theorem met_X4_count (l : Launch) (D : va_G) (dT : Nat → ClassId) (a : Nat → Nat) (sz : Nat) (M : MS) (p1 : Int32) (post : Int32 → MS → Prop) (hw : v_X4_count M p1 post) : Met l yX4_count (ws_ yX4_count cX4_count 3 (some .int)) rmX4_count (wPc D dT (MW dT a) MI sz M [.ref (a 0), .int p1]) (va_Qi post (wB D (MW dT a) MI (va_A ((MW dT a) M) sz)) (va_A ((MW dT a) M) sz)) 0 0 (va_A ((MW dT a) M) sz) :=
  wEnt (Q := fun A => (va_Qi post (wB D (MW dT a) MI A) A)) (by decide) (Nat.le_of_ble_eq_true rfl) (fun p e s m below meth c A ls hC _ hA hS hl => k_X4_count_0 hC hA _ hS hl hw) sz
theorem hd_X4_count : yX4_count.cls ≠ "java/lang/invoke/MethodHandle" ∧ yX4_count.cls ≠ "java/lang/invoke/VarHandle" ∧ (parseMethodDescriptor yX4_count.desc).map (fun d => d.parameters.length) = some 1 := by decide +kernel
section
variable {p : Program} {l : Launch} {e : Env} {R : Room} {s : State} {m : MethodId} {args : Array Value} {below : List Frame} {meth : Method} {c : Code} {H : Heap} {locs : List Loc} {cells slots : Nat} {Q : State → Prop} {cc : ByteArray} {nL : Nat} {ret : Option FieldType} {pc : Nat} {ls : Array Slot} {rest : List Value}
set_option maxHeartbeats 4000000 in
set_option maxRecDepth 100000 in
theorem inv_q1320 {D : va_G} {dT : Nat → ClassId} {a : Nat → Nat} {A : Nat → Prop} {M : MS} {p1 : Int32} {post : Int32 → MS → Prop} (hC : wCx RX4 cc nL ret D dT p s m args meth c) (hA : wAz A s) (hS : StM D dT a A s M H locs) (hl : ls.size = nL) (hw : v_X4_count M p1 post) (hR : rmX4_count.frames + 1 ≤ R.frames ∧ 8 + (3 + 11) + rmX4_count.locals ≤ R.locals) (hrest : (rest.map fun v => v.category).sum ≤ 8) (hf : cells ≤ R.cells ∧ slots ≤ R.slots) (hdg : decode cc pc = .ok (.invokevirtual 252, 3)) (kk : ∀ (r : Int32) (u : MS) (H1 : Heap) (locs1 : List Loc), post r u → StM D dT a A s u H1 locs1 → W p l e R s m args below meth c H1 locs1 cells slots Q (F0 m (pc + 3) ls (.int r :: rest))) : W p l e R s m args below meth c H locs cells slots Q (F0 m pc ls (.int p1 :: .ref (a 0) :: rest)) := by
  exact wCallVi (As := [.int p1]) (rest := rest) (mc := 0) (ms := 0) 0 hC (met_X4_count l D dT a H.size M p1 post hw) (lw_V q1320 q1303 q1304 q89 q1305) ⟨⟨rfl, rfl⟩, hd_X4_count, hR, hf⟩ rfl rfl rfl hA hS hl rfl hrest hdg (fun r u H1 locs1 hp hS1 => kk r u H1 locs1 hp hS1)
end
/-! LeastFramesModel.pairDigest -/
def w_X4_pairDigest_6b (p1 : Int64) (p3 : Int32) (K6 : MS → Int64 → Int32 → Prop) (post : Int64 → MS → Prop) (M : MS) (x4 : Int64) (x6 : Int32) : Prop :=
  ((4 : Int32) ≤ x6 → (v_X4_pullOf M p3 (0 : Int32) (fun r2 M3 => ∀ v4 : Int64, v4 = (31 * x4) + r2 → (v_X4_pullOf M3 p3 (1 : Int32) (fun r5 M6 => ∀ v7 : Int64, v7 = (31 * v4) + r5 → (v_X4_stretch M6 p3 (0 : Int32) (fun r8 => ∀ v9 : Int64, v9 = (31 * v7) + r8 → (v_X4_stretch M6 p3 (1 : Int32) (fun r10 => ∀ v11 : Int64, v11 = (31 * v9) + r10 → (v_X4_isBar M6 p3 (fun r12 => (r12 = (0 : Int32) → (v_X4_gainOf M6 p3 (0 : Int32) (fun r14 M15 => ∀ v16 : Int64, v16 = (31 * v11) + r14 → (v_X4_gainOf M15 p3 (1 : Int32) (fun r17 M18 => post ((31 * v16) + r17) M18))))) ∧ (¬ r12 = (0 : Int32) → (v_X4_without M6 p3 (0 : Int32) (fun r19 M20 => ∀ v21 : Int64, v21 = (31 * v11) + r19 → (v_X4_without M20 p3 (1 : Int32) (fun r22 M23 => ∀ v24 : Int64, v24 = (31 * v21) + r22 → (v_X4_why M23 p3 (fun r25 M26 => post ((31 * v24) + r25.toInt64) M26)))))))))))))))))) ∧ (¬ (4 : Int32) ≤ x6 → (v_X4_pairOf M p3 x6 (fun r27 => ∀ v28 : Int64, v28 = (31 * x4) + r27.toInt64 → (∀ v29 : Int32, v29 = x6 + 1 → (K6 M v28 v29)))))
def w_X4_pairDigest_6 (p1 : Int64) (p3 : Int32) (post : Int64 → MS → Prop) : Nat → MS → Int64 → Int32 → Prop
  | 0, _, _, _ => False
  | n + 1, M, x4, x6 => w_X4_pairDigest_6b p1 p3 (w_X4_pairDigest_6 p1 p3 post n) post M x4 x6
def w_X4_pairDigest (p1 : Int64) (p3 : Int32) (post : Int64 → MS → Prop) (M : MS) : Prop :=
  ∃ n, w_X4_pairDigest_6 p1 p3 post n M p1 0
abbrev rmX4_pairDigest : Room := { frames := 10, cells := 0, slots := 0, locals := 226 }
set_option maxHeartbeats 4000000 in
set_option maxRecDepth 100000 in
theorem k_X4_pairDigest_6b {p : Program} {l : Launch} {e : Env} {s : State} {m : MethodId} {args : Array Value} {below : List Frame} {meth : Method} {c : Code} {D : va_G} {dT : Nat → ClassId} {a : Nat → Nat} {A : Nat → Prop}  {p1 : Int64} {p3 : Int32} {K6 : MS → Int64 → Int32 → Prop} {post : Int64 → MS → Prop} (hC : wCx RX4 cX4_pairDigest 7 (some .long) D dT p s m args meth c) (hA : wAz A s) (hK6 : ∀ (M : MS) (x4 : Int64) (x6 : Int32), K6 M x4 x6 → ∀ {H : Heap} {locs : List Loc} {ls : Array Slot}, StM D dT a A s M H locs → lv_has ls 7 [(0, .ref (a 0)), (3, .int p3), (4, .long x4), (6, .int x6)] → W p l e rmX4_pairDigest s m args below meth c H locs 0 0 (MQ below (va_Ql post (wB D (MW dT a) MI A) A) args s 0 0 A) (F0 m 6 ls [])) (M : MS) (x4 : Int64) (x6 : Int32) {H : Heap} {locs : List Loc} {ls : Array Slot} (hS : StM D dT a A s M H locs) (hl : lv_has ls 7 [(0, .ref (a 0)), (3, .int p3), (4, .long x4), (6, .int x6)])  (hw : w_X4_pairDigest_6b p1 p3 K6 post M x4 x6) : W p l e rmX4_pairDigest s m args below meth c H locs 0 0 (MQ below (va_Ql post (wB D (MW dT a) MI A) A) args s 0 0 A) (F0 m 6 ls []) := by
  have hx := hC.1
  have hb := hC.2.1
  have hown := hC.2.2.2.1
  have hts := hC.2.2.2.2.1
  unfold w_X4_pairDigest_6b at hw
  refine lv_iload hx hb dX4_pairDigest_6 (lv_at hl 3 rfl) ?_
  refine lv_iconst (v := 4) hx hb dX4_pairDigest_8 (by decide) ?_
  refine lv_icmp_ge (tgt := 35) hx hb dX4_pairDigest_9 (by decide) (fun c1 => ?_) (fun c1 => ?_)
  · have hw := hw.1 c1
    refine lv_ldc2 (v := 31) hx hb hown (hts _ q1319) dX4_pairDigest_35 ?_
    refine lv_lload hx hb dX4_pairDigest_38 (lv_at hl 2 rfl) ?_
    refine lv_lmul hx hb dX4_pairDigest_40 ?_
    refine lv_aload_n hx hb dX4_pairDigest_41 rfl (lv_at hl 0 rfl) ?_
    refine lv_iload_n hx hb dX4_pairDigest_42 rfl (lv_at hl 1 rfl) ?_
    refine lv_iconst (v := 0) hx hb dX4_pairDigest_43 (by decide) ?_
    refine inv_q1163 hC hA hS hl.1 hw ⟨Nat.le_of_ble_eq_true rfl, Nat.le_of_ble_eq_true rfl⟩ (Nat.le_of_ble_eq_true rfl) ⟨Nat.zero_le _, Nat.zero_le _⟩ dX4_pairDigest_44 (fun r2 M3 H locs hw hS => ?_)
    refine lv_ladd hx hb dX4_pairDigest_47 ?_
    refine lv_topl (fun v4 ev4 => ?_)
    have hw := hw v4 ev4
    refine lv_lstore (lv' := [(4, .long v4), (0, .ref (a 0)), (3, .int p3), (6, .int x6)]) hx hb dX4_pairDigest_48 hl (by decide) rfl (fun ls hl => ?_)
    refine lv_ldc2 (v := 31) hx hb hown (hts _ q1319) dX4_pairDigest_50 ?_
    refine lv_lload hx hb dX4_pairDigest_53 (lv_at hl 0 rfl) ?_
    refine lv_lmul hx hb dX4_pairDigest_55 ?_
    refine lv_aload_n hx hb dX4_pairDigest_56 rfl (lv_at hl 1 rfl) ?_
    refine lv_iload_n hx hb dX4_pairDigest_57 rfl (lv_at hl 2 rfl) ?_
    refine lv_iconst (v := 1) hx hb dX4_pairDigest_58 (by decide) ?_
    refine inv_q1163 hC hA hS hl.1 hw ⟨Nat.le_of_ble_eq_true rfl, Nat.le_of_ble_eq_true rfl⟩ (Nat.le_of_ble_eq_true rfl) ⟨Nat.zero_le _, Nat.zero_le _⟩ dX4_pairDigest_59 (fun r5 M6 H locs hw hS => ?_)
    refine lv_ladd hx hb dX4_pairDigest_62 ?_
    refine lv_topl (fun v7 ev7 => ?_)
    have hw := hw v7 ev7
    refine lv_lstore (lv' := [(4, .long v7), (0, .ref (a 0)), (3, .int p3), (6, .int x6)]) hx hb dX4_pairDigest_63 hl (by decide) rfl (fun ls hl => ?_)
    refine lv_ldc2 (v := 31) hx hb hown (hts _ q1319) dX4_pairDigest_65 ?_
    refine lv_lload hx hb dX4_pairDigest_68 (lv_at hl 0 rfl) ?_
    refine lv_lmul hx hb dX4_pairDigest_70 ?_
    refine lv_aload_n hx hb dX4_pairDigest_71 rfl (lv_at hl 1 rfl) ?_
    refine lv_iload_n hx hb dX4_pairDigest_72 rfl (lv_at hl 2 rfl) ?_
    refine lv_iconst (v := 0) hx hb dX4_pairDigest_73 (by decide) ?_
    refine inv_q1326 hC hA hS hl.1 hw ⟨Nat.le_of_ble_eq_true rfl, Nat.le_of_ble_eq_true rfl⟩ (Nat.le_of_ble_eq_true rfl) ⟨Nat.zero_le _, Nat.zero_le _⟩ dX4_pairDigest_74 (fun r8 H locs hw hS => ?_)
    refine lv_ladd hx hb dX4_pairDigest_77 ?_
    refine lv_topl (fun v9 ev9 => ?_)
    have hw := hw v9 ev9
    refine lv_lstore (lv' := [(4, .long v9), (0, .ref (a 0)), (3, .int p3), (6, .int x6)]) hx hb dX4_pairDigest_78 hl (by decide) rfl (fun ls hl => ?_)
    refine lv_ldc2 (v := 31) hx hb hown (hts _ q1319) dX4_pairDigest_80 ?_
    refine lv_lload hx hb dX4_pairDigest_83 (lv_at hl 0 rfl) ?_
    refine lv_lmul hx hb dX4_pairDigest_85 ?_
    refine lv_aload_n hx hb dX4_pairDigest_86 rfl (lv_at hl 1 rfl) ?_
    refine lv_iload_n hx hb dX4_pairDigest_87 rfl (lv_at hl 2 rfl) ?_
    refine lv_iconst (v := 1) hx hb dX4_pairDigest_88 (by decide) ?_
    refine inv_q1326 hC hA hS hl.1 hw ⟨Nat.le_of_ble_eq_true rfl, Nat.le_of_ble_eq_true rfl⟩ (Nat.le_of_ble_eq_true rfl) ⟨Nat.zero_le _, Nat.zero_le _⟩ dX4_pairDigest_89 (fun r10 H locs hw hS => ?_)
    refine lv_ladd hx hb dX4_pairDigest_92 ?_
    refine lv_topl (fun v11 ev11 => ?_)
    have hw := hw v11 ev11
    refine lv_lstore (lv' := [(4, .long v11), (0, .ref (a 0)), (3, .int p3), (6, .int x6)]) hx hb dX4_pairDigest_93 hl (by decide) rfl (fun ls hl => ?_)
    refine lv_aload_n hx hb dX4_pairDigest_95 rfl (lv_at hl 1 rfl) ?_
    refine lv_iload_n hx hb dX4_pairDigest_96 rfl (lv_at hl 2 rfl) ?_
    refine inv_q1171 hC hA hS hl.1 hw ⟨Nat.le_of_ble_eq_true rfl, Nat.le_of_ble_eq_true rfl⟩ (Nat.le_of_ble_eq_true rfl) ⟨Nat.zero_le _, Nat.zero_le _⟩ dX4_pairDigest_97 (fun r12 H locs hw hS => ?_)
    refine lv_if_eq (tgt := 147) hx hb dX4_pairDigest_100 (by decide) (fun c13 => ?_) (fun c13 => ?_)
    · have hw := hw.1 c13
      refine lv_ldc2 (v := 31) hx hb hown (hts _ q1319) dX4_pairDigest_147 ?_
      refine lv_lload hx hb dX4_pairDigest_150 (lv_at hl 0 rfl) ?_
      refine lv_lmul hx hb dX4_pairDigest_152 ?_
      refine lv_aload_n hx hb dX4_pairDigest_153 rfl (lv_at hl 1 rfl) ?_
      refine lv_iload_n hx hb dX4_pairDigest_154 rfl (lv_at hl 2 rfl) ?_
      refine lv_iconst (v := 0) hx hb dX4_pairDigest_155 (by decide) ?_
      refine inv_q1203 hC hA hS hl.1 hw ⟨Nat.le_of_ble_eq_true rfl, Nat.le_of_ble_eq_true rfl⟩ (Nat.le_of_ble_eq_true rfl) ⟨Nat.zero_le _, Nat.zero_le _⟩ dX4_pairDigest_156 (fun r14 M15 H locs hw hS => ?_)
      refine lv_ladd hx hb dX4_pairDigest_159 ?_
      refine lv_topl (fun v16 ev16 => ?_)
      have hw := hw v16 ev16
      refine lv_lstore (lv' := [(4, .long v16), (0, .ref (a 0)), (3, .int p3), (6, .int x6)]) hx hb dX4_pairDigest_160 hl (by decide) rfl (fun ls hl => ?_)
      refine lv_ldc2 (v := 31) hx hb hown (hts _ q1319) dX4_pairDigest_162 ?_
      refine lv_lload hx hb dX4_pairDigest_165 (lv_at hl 0 rfl) ?_
      refine lv_lmul hx hb dX4_pairDigest_167 ?_
      refine lv_aload_n hx hb dX4_pairDigest_168 rfl (lv_at hl 1 rfl) ?_
      refine lv_iload_n hx hb dX4_pairDigest_169 rfl (lv_at hl 2 rfl) ?_
      refine lv_iconst (v := 1) hx hb dX4_pairDigest_170 (by decide) ?_
      refine inv_q1203 hC hA hS hl.1 hw ⟨Nat.le_of_ble_eq_true rfl, Nat.le_of_ble_eq_true rfl⟩ (Nat.le_of_ble_eq_true rfl) ⟨Nat.zero_le _, Nat.zero_le _⟩ dX4_pairDigest_171 (fun r17 M18 H locs hw hS => ?_)
      refine lv_ladd hx hb dX4_pairDigest_174 ?_
      exact wRetl hC hS hw (Nat.le_refl _) (Nat.le_refl _) dX4_pairDigest_175
    · have hw := hw.2 c13
      refine lv_ldc2 (v := 31) hx hb hown (hts _ q1319) dX4_pairDigest_103 ?_
      refine lv_lload hx hb dX4_pairDigest_106 (lv_at hl 0 rfl) ?_
      refine lv_lmul hx hb dX4_pairDigest_108 ?_
      refine lv_aload_n hx hb dX4_pairDigest_109 rfl (lv_at hl 1 rfl) ?_
      refine lv_iload_n hx hb dX4_pairDigest_110 rfl (lv_at hl 2 rfl) ?_
      refine lv_iconst (v := 0) hx hb dX4_pairDigest_111 (by decide) ?_
      refine inv_q1327 hC hA hS hl.1 hw ⟨Nat.le_of_ble_eq_true rfl, Nat.le_of_ble_eq_true rfl⟩ (Nat.le_of_ble_eq_true rfl) ⟨Nat.zero_le _, Nat.zero_le _⟩ dX4_pairDigest_112 (fun r19 M20 H locs hw hS => ?_)
      refine lv_ladd hx hb dX4_pairDigest_115 ?_
      refine lv_topl (fun v21 ev21 => ?_)
      have hw := hw v21 ev21
      refine lv_lstore (lv' := [(4, .long v21), (0, .ref (a 0)), (3, .int p3), (6, .int x6)]) hx hb dX4_pairDigest_116 hl (by decide) rfl (fun ls hl => ?_)
      refine lv_ldc2 (v := 31) hx hb hown (hts _ q1319) dX4_pairDigest_118 ?_
      refine lv_lload hx hb dX4_pairDigest_121 (lv_at hl 0 rfl) ?_
      refine lv_lmul hx hb dX4_pairDigest_123 ?_
      refine lv_aload_n hx hb dX4_pairDigest_124 rfl (lv_at hl 1 rfl) ?_
      refine lv_iload_n hx hb dX4_pairDigest_125 rfl (lv_at hl 2 rfl) ?_
      refine lv_iconst (v := 1) hx hb dX4_pairDigest_126 (by decide) ?_
      refine inv_q1327 hC hA hS hl.1 hw ⟨Nat.le_of_ble_eq_true rfl, Nat.le_of_ble_eq_true rfl⟩ (Nat.le_of_ble_eq_true rfl) ⟨Nat.zero_le _, Nat.zero_le _⟩ dX4_pairDigest_127 (fun r22 M23 H locs hw hS => ?_)
      refine lv_ladd hx hb dX4_pairDigest_130 ?_
      refine lv_topl (fun v24 ev24 => ?_)
      have hw := hw v24 ev24
      refine lv_lstore (lv' := [(4, .long v24), (0, .ref (a 0)), (3, .int p3), (6, .int x6)]) hx hb dX4_pairDigest_131 hl (by decide) rfl (fun ls hl => ?_)
      refine lv_ldc2 (v := 31) hx hb hown (hts _ q1319) dX4_pairDigest_133 ?_
      refine lv_lload hx hb dX4_pairDigest_136 (lv_at hl 0 rfl) ?_
      refine lv_lmul hx hb dX4_pairDigest_138 ?_
      refine lv_aload_n hx hb dX4_pairDigest_139 rfl (lv_at hl 1 rfl) ?_
      refine lv_iload_n hx hb dX4_pairDigest_140 rfl (lv_at hl 2 rfl) ?_
      refine inv_q1328 hC hA hS hl.1 hw ⟨Nat.le_of_ble_eq_true rfl, Nat.le_of_ble_eq_true rfl⟩ (Nat.le_of_ble_eq_true rfl) ⟨Nat.zero_le _, Nat.zero_le _⟩ dX4_pairDigest_141 (fun r25 M26 H locs hw hS => ?_)
      refine lv_i2l hx hb dX4_pairDigest_144 rfl ?_
      refine lv_ladd hx hb dX4_pairDigest_145 ?_
      exact wRetl hC hS hw (Nat.le_refl _) (Nat.le_refl _) dX4_pairDigest_146
  · have hw := hw.2 c1
    refine lv_ldc2 (v := 31) hx hb hown (hts _ q1319) dX4_pairDigest_12 ?_
    refine lv_lload hx hb dX4_pairDigest_15 (lv_at hl 2 rfl) ?_
    refine lv_lmul hx hb dX4_pairDigest_17 ?_
    refine lv_aload_n hx hb dX4_pairDigest_18 rfl (lv_at hl 0 rfl) ?_
    refine lv_iload_n hx hb dX4_pairDigest_19 rfl (lv_at hl 1 rfl) ?_
    refine lv_iload hx hb dX4_pairDigest_20 (lv_at hl 3 rfl) ?_
    refine inv_q1068 hC hA hS hl.1 hw ⟨Nat.le_of_ble_eq_true rfl, Nat.le_of_ble_eq_true rfl⟩ (Nat.le_of_ble_eq_true rfl) ⟨Nat.zero_le _, Nat.zero_le _⟩ dX4_pairDigest_22 (fun r27 H locs hw hS => ?_)
    refine lv_i2l hx hb dX4_pairDigest_25 rfl ?_
    refine lv_ladd hx hb dX4_pairDigest_26 ?_
    refine lv_topl (fun v28 ev28 => ?_)
    have hw := hw v28 ev28
    refine lv_lstore (lv' := [(4, .long v28), (0, .ref (a 0)), (3, .int p3), (6, .int x6)]) hx hb dX4_pairDigest_27 hl (by decide) rfl (fun ls hl => ?_)
    obtain ⟨v29, ev29⟩ : ∃ y : Int32, y = x6 + 1 := ⟨_, rfl⟩
    have hw := hw v29 ev29
    refine lv_iinc (v := v29) (lv' := [(6, .int v29), (4, .long v28), (0, .ref (a 0)), (3, .int p3)]) hx hb dX4_pairDigest_29 hl (k := 3) rfl (by rw [ev29]; rfl) (by decide) rfl (fun ls hl => ?_)
    refine lv_goto (tgt := 6) hx hb dX4_pairDigest_32 (by decide) ?_
    exact hK6 _ _ _ hw hS (lv_sub hl [2, 3, 1, 0] rfl)
set_option maxHeartbeats 4000000 in
set_option maxRecDepth 100000 in
theorem k_X4_pairDigest_6 {p : Program} {l : Launch} {e : Env} {s : State} {m : MethodId} {args : Array Value} {below : List Frame} {meth : Method} {c : Code} {D : va_G} {dT : Nat → ClassId} {a : Nat → Nat} {A : Nat → Prop}  {p1 : Int64} {p3 : Int32} {post : Int64 → MS → Prop} (hC : wCx RX4 cX4_pairDigest 7 (some .long) D dT p s m args meth c) (hA : wAz A s) : ∀ (M : MS) (x4 : Int64) (x6 : Int32) (n : Nat), ∀ {H : Heap} {locs : List Loc} {ls : Array Slot}, StM D dT a A s M H locs → lv_has ls 7 [(0, .ref (a 0)), (3, .int p3), (4, .long x4), (6, .int x6)] → w_X4_pairDigest_6 p1 p3 post n M x4 x6 → W p l e rmX4_pairDigest s m args below meth c H locs 0 0 (MQ below (va_Ql post (wB D (MW dT a) MI A) A) args s 0 0 A) (F0 m 6 ls []) := by
  intro M x4 x6 n
  induction n generalizing M x4 x6 with
  | zero => intro H locs ls  hS hl hw; exact hw.elim
  | succ n ih =>
    intro H locs ls  hS hl hw
    exact k_X4_pairDigest_6b hC hA (fun M x4 x6 hk {H} {locs} {ls}  hS hl => ih M x4 x6  hS hl hk) M x4 x6  hS hl hw
set_option maxHeartbeats 4000000 in
set_option maxRecDepth 100000 in
theorem k_X4_pairDigest_0 {p : Program} {l : Launch} {e : Env} {s : State} {m : MethodId} {args : Array Value} {below : List Frame} {meth : Method} {c : Code} {D : va_G} {dT : Nat → ClassId} {a : Nat → Nat} {A : Nat → Prop}  {p1 : Int64} {p3 : Int32} {post : Int64 → MS → Prop} (hC : wCx RX4 cX4_pairDigest 7 (some .long) D dT p s m args meth c) (hA : wAz A s) (M : MS) {H : Heap} {locs : List Loc} {ls : Array Slot} (hS : StM D dT a A s M H locs) (hl : lv_has ls 7 [(0, .ref (a 0)), (1, .long p1), (3, .int p3)])  (hw : w_X4_pairDigest p1 p3 post M) : W p l e rmX4_pairDigest s m args below meth c H locs 0 0 (MQ below (va_Ql post (wB D (MW dT a) MI A) A) args s 0 0 A) (F0 m 0 ls []) := by
  have hx := hC.1
  have hb := hC.2.1
  have hown := hC.2.2.2.1
  have hts := hC.2.2.2.2.1
  unfold w_X4_pairDigest at hw
  refine lv_lload_n hx hb dX4_pairDigest_0 rfl (lv_at hl 1 rfl) ?_
  refine lv_lstore (lv' := [(4, .long p1), (0, .ref (a 0)), (1, .long p1), (3, .int p3)]) hx hb dX4_pairDigest_1 hl (by decide) rfl (fun ls hl => ?_)
  refine lv_iconst (v := 0) hx hb dX4_pairDigest_3 (by decide) ?_
  refine lv_istore (lv' := [(6, .int 0), (4, .long p1), (0, .ref (a 0)), (1, .long p1), (3, .int p3)]) hx hb dX4_pairDigest_4 hl (by decide) rfl (fun ls hl => ?_)
  obtain ⟨n, hw⟩ := hw
  exact k_X4_pairDigest_6 hC hA _ _ _ n hS (lv_sub hl [2, 4, 1, 0] rfl) hw
abbrev v_X4_pairDigest (M : MS) (p1 : Int64) (p3 : Int32) (post : Int64 → MS → Prop) : Prop := w_X4_pairDigest p1 p3 post M
set_option maxHeartbeats 4000000 in
set_option maxRecDepth 100000 in
theorem met_X4_pairDigest (l : Launch) (D : va_G) (dT : Nat → ClassId) (a : Nat → Nat) (sz : Nat) (M : MS) (p1 : Int64) (p3 : Int32) (post : Int64 → MS → Prop) (hw : v_X4_pairDigest M p1 p3 post) : Met l yX4_pairDigest (ws_ yX4_pairDigest cX4_pairDigest 7 (some .long)) rmX4_pairDigest (wPc D dT (MW dT a) MI sz M [.ref (a 0), .long p1, .int p3]) (va_Ql post (wB D (MW dT a) MI (va_A ((MW dT a) M) sz)) (va_A ((MW dT a) M) sz)) 0 0 (va_A ((MW dT a) M) sz) :=
  wEnt (Q := fun A => (va_Ql post (wB D (MW dT a) MI A) A)) (by decide) (Nat.le_of_ble_eq_true rfl) (fun p e s m below meth c A ls hC _ hA hS hl => k_X4_pairDigest_0 hC hA _ hS hl hw) sz
theorem hd_X4_pairDigest : yX4_pairDigest.cls ≠ "java/lang/invoke/MethodHandle" ∧ yX4_pairDigest.cls ≠ "java/lang/invoke/VarHandle" ∧ (parseMethodDescriptor yX4_pairDigest.desc).map (fun d => d.parameters.length) = some 2 := by decide +kernel
section
variable {p : Program} {l : Launch} {e : Env} {R : Room} {s : State} {m : MethodId} {args : Array Value} {below : List Frame} {meth : Method} {c : Code} {H : Heap} {locs : List Loc} {cells slots : Nat} {Q : State → Prop} {cc : ByteArray} {nL : Nat} {ret : Option FieldType} {pc : Nat} {ls : Array Slot} {rest : List Value}
set_option maxHeartbeats 4000000 in
set_option maxRecDepth 100000 in
theorem inv_q1322 {D : va_G} {dT : Nat → ClassId} {a : Nat → Nat} {A : Nat → Prop} {M : MS} {p1 : Int64} {p3 : Int32} {post : Int64 → MS → Prop} (hC : wCx RX4 cc nL ret D dT p s m args meth c) (hA : wAz A s) (hS : StM D dT a A s M H locs) (hl : ls.size = nL) (hw : v_X4_pairDigest M p1 p3 post) (hR : rmX4_pairDigest.frames + 1 ≤ R.frames ∧ 8 + (7 + 11) + rmX4_pairDigest.locals ≤ R.locals) (hrest : (rest.map fun v => v.category).sum ≤ 8) (hf : cells ≤ R.cells ∧ slots ≤ R.slots) (hdg : decode cc pc = .ok (.invokevirtual 258, 3)) (kk : ∀ (r : Int64) (u : MS) (H1 : Heap) (locs1 : List Loc), post r u → StM D dT a A s u H1 locs1 → W p l e R s m args below meth c H1 locs1 cells slots Q (F0 m (pc + 3) ls (.long r :: rest))) : W p l e R s m args below meth c H locs cells slots Q (F0 m pc ls (.int p3 :: .long p1 :: .ref (a 0) :: rest)) := by
  exact wCallVl (As := [.long p1, .int p3]) (rest := rest) (mc := 0) (ms := 0) 0 hC (met_X4_pairDigest l D dT a H.size M p1 p3 post hw) (lw_V q1322 q1324 qs83 q89 q1325) ⟨⟨rfl, rfl⟩, hd_X4_pairDigest, hR, hf⟩ rfl rfl rfl hA hS hl rfl hrest hdg (fun r u H1 locs1 hp hS1 => kk r u H1 locs1 hp hS1)
end
/-! LeastFramesModel.digest -/
def w_X4_digest_124b (K113 : MS → Int64 → Int32 → Prop) (K124 : MS → Int64 → Int32 → Int32 → Prop) (post : Int64 → MS → Prop) (M : MS) (x1 : Int64) (x3 : Int32) (x4 : Int32) : Prop :=
  ((7 : Int32) ≤ x4 → (∀ v2 : Int32, v2 = x3 + 1 → (K113 M x1 v2))) ∧ (¬ (7 : Int32) ≤ x4 → (v_X4_infoOf M x3 x4 (fun r3 => ∀ v4 : Int64, v4 = (31 * x1) + r3.toInt64 → (∀ v5 : Int32, v5 = x4 + 1 → (K124 M v4 x3 v5)))))
def w_X4_digest_124 (K113 : MS → Int64 → Int32 → Prop) (post : Int64 → MS → Prop) : Nat → MS → Int64 → Int32 → Int32 → Prop
  | 0, _, _, _, _ => False
  | n + 1, M, x1, x3, x4 => w_X4_digest_124b K113 (w_X4_digest_124 K113 post n) post M x1 x3 x4
def w_X4_digest_222b (K213 : MS → Int64 → Int32 → Int32 → Prop) (K222 : MS → Int64 → Int32 → Int32 → Int32 → Prop) (post : Int64 → MS → Prop) (M : MS) (x1 : Int64) (x3 : Int32) (x4 : Int32) (x5 : Int32) : Prop :=
  ((6 : Int32) ≤ x5 → (∀ v2 : Int32, v2 = x4 + 1 → (K213 M x1 x3 v2))) ∧ (¬ (6 : Int32) ≤ x5 → (v_X4_crossOf M x4 x5 (fun r3 M4 => ∀ v5 : Int64, v5 = (31 * x1) + r3.toInt64 → (∀ v6 : Int32, v6 = x5 + 1 → (K222 M4 v5 x3 x4 v6)))))
def w_X4_digest_222 (K213 : MS → Int64 → Int32 → Int32 → Prop) (post : Int64 → MS → Prop) : Nat → MS → Int64 → Int32 → Int32 → Int32 → Prop
  | 0, _, _, _, _, _ => False
  | n + 1, M, x1, x3, x4, x5 => w_X4_digest_222b K213 (w_X4_digest_222 K213 post n) post M x1 x3 x4 x5
def w_X4_digest_213b (K213 : MS → Int64 → Int32 → Int32 → Prop) (post : Int64 → MS → Prop) (M : MS) (x1 : Int64) (x3 : Int32) (x4 : Int32) : Prop :=
  (x3 ≤ x4 → (post x1 M)) ∧ (¬ x3 ≤ x4 → (∃ n, w_X4_digest_222 K213 post n M x1 x3 x4 0))
def w_X4_digest_213 (post : Int64 → MS → Prop) : Nat → MS → Int64 → Int32 → Int32 → Prop
  | 0, _, _, _, _ => False
  | n + 1, M, x1, x3, x4 => w_X4_digest_213b  (w_X4_digest_213 post n) post M x1 x3 x4
def w_X4_digest_160b (K160 : MS → Int64 → Int32 → Prop) (post : Int64 → MS → Prop) (M : MS) (x1 : Int64) (x3 : Int32) : Prop :=
  v_X4_pairs M (fun r1 => (r1 ≤ x3 → (v_X4_work M (0 : Int32) (fun r3 => ∀ v4 : Int64, v4 = (31 * x1) + r3 → (v_X4_work M (1 : Int32) (fun r5 => ∀ v6 : Int64, v6 = (31 * v4) + r5 → (v_X4_crossings M (fun r7 M8 => ∃ n, w_X4_digest_213 post n M8 v6 r7 0))))))) ∧ (¬ r1 ≤ x3 → (v_X4_pairDigest M x1 x3 (fun r9 M10 => ∀ v11 : Int32, v11 = x3 + 1 → (K160 M10 r9 v11)))))
def w_X4_digest_160 (post : Int64 → MS → Prop) : Nat → MS → Int64 → Int32 → Prop
  | 0, _, _, _ => False
  | n + 1, M, x1, x3 => w_X4_digest_160b  (w_X4_digest_160 post n) post M x1 x3
def w_X4_digest_113b (K113 : MS → Int64 → Int32 → Prop) (post : Int64 → MS → Prop) (M : MS) (x1 : Int64) (x3 : Int32) : Prop :=
  ((M_points M) ≤ x3 → (∃ n, w_X4_digest_160 post n M x1 0)) ∧ (¬ (M_points M) ≤ x3 → (∃ n, w_X4_digest_124 K113 post n M x1 x3 0))
def w_X4_digest_113 (post : Int64 → MS → Prop) : Nat → MS → Int64 → Int32 → Prop
  | 0, _, _, _ => False
  | n + 1, M, x1, x3 => w_X4_digest_113b  (w_X4_digest_113 post n) post M x1 x3
def w_X4_digest_6b (K6 : MS → Int64 → Int32 → Prop) (post : Int64 → MS → Prop) (M : MS) (x1 : Int64) (x3 : Int32) : Prop :=
  ((8 : Int32) ≤ x3 → (v_X4_volumeOf M (M_bars M) (0 : Int32) (fun r2 M3 => ∀ v4 : Int64, v4 = (31 * x1) + r2 → (v_X4_volumeOf M3 (M_bars M3) (1 : Int32) (fun r5 M6 => ∀ v7 : Int64, v7 = (31 * v4) + r5 → (v_X4_fault M6 (fun r8 M9 => ∀ v10 : Int64, v10 = (31 * v7) + r8.toInt64 → (v_X4_frameNow M9 (fun r11 M12 => ∀ v13 : Int64, v13 = (31 * v10) + r11.toInt64 → (v_X4_neededNow M12 (fun r14 M15 => ∀ v16 : Int64, v16 = (31 * v13) + r14.toInt64 → (v_X4_dearestNow M15 (fun r17 M18 => ∀ v19 : Int64, v19 = (31 * v16) + r17.toInt64 → (∃ n, w_X4_digest_113 post n M18 v19 0)))))))))))))) ∧ (¬ (8 : Int32) ≤ x3 → (v_X4_count M x3 (fun r20 M21 => ∀ v22 : Int64, v22 = (31 * x1) + r20.toInt64 → (∀ v23 : Int32, v23 = x3 + 1 → (K6 M21 v22 v23)))))
def w_X4_digest_6 (post : Int64 → MS → Prop) : Nat → MS → Int64 → Int32 → Prop
  | 0, _, _, _ => False
  | n + 1, M, x1, x3 => w_X4_digest_6b  (w_X4_digest_6 post n) post M x1 x3
def w_X4_digest (post : Int64 → MS → Prop) (M : MS) : Prop :=
  ∃ n, w_X4_digest_6 post n M 17 0
abbrev rmX4_digest : Room := { frames := 11, cells := 0, slots := 0, locals := 253 }
set_option maxHeartbeats 4000000 in
set_option maxRecDepth 100000 in
theorem k_X4_digest_124b {p : Program} {l : Launch} {e : Env} {s : State} {m : MethodId} {args : Array Value} {below : List Frame} {meth : Method} {c : Code} {D : va_G} {dT : Nat → ClassId} {a : Nat → Nat} {A : Nat → Prop}  {K113 : MS → Int64 → Int32 → Prop} {K124 : MS → Int64 → Int32 → Int32 → Prop} {post : Int64 → MS → Prop} (hC : wCx RX4 cX4_digest 6 (some .long) D dT p s m args meth c) (hA : wAz A s) (hK113 : ∀ (M : MS) (x1 : Int64) (x3 : Int32), K113 M x1 x3 → ∀ {H : Heap} {locs : List Loc} {ls : Array Slot}, StM D dT a A s M H locs → lv_has ls 6 [(0, .ref (a 0)), (1, .long x1), (3, .int x3)] → W p l e rmX4_digest s m args below meth c H locs 0 0 (MQ below (va_Ql post (wB D (MW dT a) MI A) A) args s 0 0 A) (F0 m 113 ls [])) (hK124 : ∀ (M : MS) (x1 : Int64) (x3 : Int32) (x4 : Int32), K124 M x1 x3 x4 → ∀ {H : Heap} {locs : List Loc} {ls : Array Slot}, StM D dT a A s M H locs → lv_has ls 6 [(0, .ref (a 0)), (1, .long x1), (3, .int x3), (4, .int x4)] → W p l e rmX4_digest s m args below meth c H locs 0 0 (MQ below (va_Ql post (wB D (MW dT a) MI A) A) args s 0 0 A) (F0 m 124 ls [])) (M : MS) (x1 : Int64) (x3 : Int32) (x4 : Int32) {H : Heap} {locs : List Loc} {ls : Array Slot} (hS : StM D dT a A s M H locs) (hl : lv_has ls 6 [(0, .ref (a 0)), (1, .long x1), (3, .int x3), (4, .int x4)])  (hw : w_X4_digest_124b K113 K124 post M x1 x3 x4) : W p l e rmX4_digest s m args below meth c H locs 0 0 (MQ below (va_Ql post (wB D (MW dT a) MI A) A) args s 0 0 A) (F0 m 124 ls []) := by
  have hx := hC.1
  have hb := hC.2.1
  have hown := hC.2.2.2.1
  have hts := hC.2.2.2.2.1
  unfold w_X4_digest_124b at hw
  refine lv_iload hx hb dX4_digest_124 (lv_at hl 3 rfl) ?_
  refine lv_bipush (v := 7) hx hb dX4_digest_126 (by decide) ?_
  refine lv_icmp_ge (tgt := 152) hx hb dX4_digest_128 (by decide) (fun c1 => ?_) (fun c1 => ?_)
  · have hw := hw.1 c1
    obtain ⟨v2, ev2⟩ : ∃ y : Int32, y = x3 + 1 := ⟨_, rfl⟩
    have hw := hw v2 ev2
    refine lv_iinc (v := v2) (lv' := [(3, .int v2), (0, .ref (a 0)), (1, .long x1), (4, .int x4)]) hx hb dX4_digest_152 hl (k := 2) rfl (by rw [ev2]; rfl) (by decide) rfl (fun ls hl => ?_)
    refine lv_goto (tgt := 113) hx hb dX4_digest_155 (by decide) ?_
    exact hK113 _ _ _ hw hS (lv_sub hl [1, 2, 0] rfl)
  · have hw := hw.2 c1
    refine lv_ldc2 (v := 31) hx hb hown (hts _ q1319) dX4_digest_131 ?_
    refine lv_lload_n hx hb dX4_digest_134 rfl (lv_at hl 1 rfl) ?_
    refine lv_lmul hx hb dX4_digest_135 ?_
    refine lv_aload_n hx hb dX4_digest_136 rfl (lv_at hl 0 rfl) ?_
    refine lv_iload_n hx hb dX4_digest_137 rfl (lv_at hl 2 rfl) ?_
    refine lv_iload hx hb dX4_digest_138 (lv_at hl 3 rfl) ?_
    refine inv_q1060 hC hA hS hl.1 hw ⟨Nat.le_of_ble_eq_true rfl, Nat.le_of_ble_eq_true rfl⟩ (Nat.le_of_ble_eq_true rfl) ⟨Nat.zero_le _, Nat.zero_le _⟩ dX4_digest_140 (fun r3 H locs hw hS => ?_)
    refine lv_i2l hx hb dX4_digest_143 rfl ?_
    refine lv_ladd hx hb dX4_digest_144 ?_
    refine lv_topl (fun v4 ev4 => ?_)
    have hw := hw v4 ev4
    refine lv_lstore_n (lv' := [(1, .long v4), (0, .ref (a 0)), (3, .int x3), (4, .int x4)]) hx hb dX4_digest_145 rfl hl (by decide) rfl (fun ls hl => ?_)
    obtain ⟨v5, ev5⟩ : ∃ y : Int32, y = x4 + 1 := ⟨_, rfl⟩
    have hw := hw v5 ev5
    refine lv_iinc (v := v5) (lv' := [(4, .int v5), (1, .long v4), (0, .ref (a 0)), (3, .int x3)]) hx hb dX4_digest_146 hl (k := 3) rfl (by rw [ev5]; rfl) (by decide) rfl (fun ls hl => ?_)
    refine lv_goto (tgt := 124) hx hb dX4_digest_149 (by decide) ?_
    exact hK124 _ _ _ _ hw hS (lv_sub hl [2, 1, 3, 0] rfl)
set_option maxHeartbeats 4000000 in
set_option maxRecDepth 100000 in
theorem k_X4_digest_124 {p : Program} {l : Launch} {e : Env} {s : State} {m : MethodId} {args : Array Value} {below : List Frame} {meth : Method} {c : Code} {D : va_G} {dT : Nat → ClassId} {a : Nat → Nat} {A : Nat → Prop}  {K113 : MS → Int64 → Int32 → Prop} {post : Int64 → MS → Prop} (hC : wCx RX4 cX4_digest 6 (some .long) D dT p s m args meth c) (hA : wAz A s) (hK113 : ∀ (M : MS) (x1 : Int64) (x3 : Int32), K113 M x1 x3 → ∀ {H : Heap} {locs : List Loc} {ls : Array Slot}, StM D dT a A s M H locs → lv_has ls 6 [(0, .ref (a 0)), (1, .long x1), (3, .int x3)] → W p l e rmX4_digest s m args below meth c H locs 0 0 (MQ below (va_Ql post (wB D (MW dT a) MI A) A) args s 0 0 A) (F0 m 113 ls [])) : ∀ (M : MS) (x1 : Int64) (x3 : Int32) (x4 : Int32) (n : Nat), ∀ {H : Heap} {locs : List Loc} {ls : Array Slot}, StM D dT a A s M H locs → lv_has ls 6 [(0, .ref (a 0)), (1, .long x1), (3, .int x3), (4, .int x4)] → w_X4_digest_124 K113 post n M x1 x3 x4 → W p l e rmX4_digest s m args below meth c H locs 0 0 (MQ below (va_Ql post (wB D (MW dT a) MI A) A) args s 0 0 A) (F0 m 124 ls []) := by
  intro M x1 x3 x4 n
  induction n generalizing M x1 x3 x4 with
  | zero => intro H locs ls  hS hl hw; exact hw.elim
  | succ n ih =>
    intro H locs ls  hS hl hw
    exact k_X4_digest_124b hC hA hK113 (fun M x1 x3 x4 hk {H} {locs} {ls}  hS hl => ih M x1 x3 x4  hS hl hk) M x1 x3 x4  hS hl hw
set_option maxHeartbeats 4000000 in
set_option maxRecDepth 100000 in
theorem k_X4_digest_222b {p : Program} {l : Launch} {e : Env} {s : State} {m : MethodId} {args : Array Value} {below : List Frame} {meth : Method} {c : Code} {D : va_G} {dT : Nat → ClassId} {a : Nat → Nat} {A : Nat → Prop}  {K213 : MS → Int64 → Int32 → Int32 → Prop} {K222 : MS → Int64 → Int32 → Int32 → Int32 → Prop} {post : Int64 → MS → Prop} (hC : wCx RX4 cX4_digest 6 (some .long) D dT p s m args meth c) (hA : wAz A s) (hK213 : ∀ (M : MS) (x1 : Int64) (x3 : Int32) (x4 : Int32), K213 M x1 x3 x4 → ∀ {H : Heap} {locs : List Loc} {ls : Array Slot}, StM D dT a A s M H locs → lv_has ls 6 [(0, .ref (a 0)), (1, .long x1), (3, .int x3), (4, .int x4)] → W p l e rmX4_digest s m args below meth c H locs 0 0 (MQ below (va_Ql post (wB D (MW dT a) MI A) A) args s 0 0 A) (F0 m 213 ls [])) (hK222 : ∀ (M : MS) (x1 : Int64) (x3 : Int32) (x4 : Int32) (x5 : Int32), K222 M x1 x3 x4 x5 → ∀ {H : Heap} {locs : List Loc} {ls : Array Slot}, StM D dT a A s M H locs → lv_has ls 6 [(0, .ref (a 0)), (1, .long x1), (3, .int x3), (4, .int x4), (5, .int x5)] → W p l e rmX4_digest s m args below meth c H locs 0 0 (MQ below (va_Ql post (wB D (MW dT a) MI A) A) args s 0 0 A) (F0 m 222 ls [])) (M : MS) (x1 : Int64) (x3 : Int32) (x4 : Int32) (x5 : Int32) {H : Heap} {locs : List Loc} {ls : Array Slot} (hS : StM D dT a A s M H locs) (hl : lv_has ls 6 [(0, .ref (a 0)), (1, .long x1), (3, .int x3), (4, .int x4), (5, .int x5)])  (hw : w_X4_digest_222b K213 K222 post M x1 x3 x4 x5) : W p l e rmX4_digest s m args below meth c H locs 0 0 (MQ below (va_Ql post (wB D (MW dT a) MI A) A) args s 0 0 A) (F0 m 222 ls []) := by
  have hx := hC.1
  have hb := hC.2.1
  have hown := hC.2.2.2.1
  have hts := hC.2.2.2.2.1
  unfold w_X4_digest_222b at hw
  refine lv_iload hx hb dX4_digest_222 (lv_at hl 4 rfl) ?_
  refine lv_bipush (v := 6) hx hb dX4_digest_224 (by decide) ?_
  refine lv_icmp_ge (tgt := 251) hx hb dX4_digest_226 (by decide) (fun c1 => ?_) (fun c1 => ?_)
  · have hw := hw.1 c1
    obtain ⟨v2, ev2⟩ : ∃ y : Int32, y = x4 + 1 := ⟨_, rfl⟩
    have hw := hw v2 ev2
    refine lv_iinc (v := v2) (lv' := [(4, .int v2), (0, .ref (a 0)), (1, .long x1), (3, .int x3), (5, .int x5)]) hx hb dX4_digest_251 hl (k := 3) rfl (by rw [ev2]; rfl) (by decide) rfl (fun ls hl => ?_)
    refine lv_goto (tgt := 213) hx hb dX4_digest_254 (by decide) ?_
    exact hK213 _ _ _ _ hw hS (lv_sub hl [1, 2, 3, 0] rfl)
  · have hw := hw.2 c1
    refine lv_ldc2 (v := 31) hx hb hown (hts _ q1319) dX4_digest_229 ?_
    refine lv_lload_n hx hb dX4_digest_232 rfl (lv_at hl 1 rfl) ?_
    refine lv_lmul hx hb dX4_digest_233 ?_
    refine lv_aload_n hx hb dX4_digest_234 rfl (lv_at hl 0 rfl) ?_
    refine lv_iload hx hb dX4_digest_235 (lv_at hl 3 rfl) ?_
    refine lv_iload hx hb dX4_digest_237 (lv_at hl 4 rfl) ?_
    refine inv_q1264 hC hA hS hl.1 hw ⟨Nat.le_of_ble_eq_true rfl, Nat.le_of_ble_eq_true rfl⟩ (Nat.le_of_ble_eq_true rfl) ⟨Nat.zero_le _, Nat.zero_le _⟩ dX4_digest_239 (fun r3 M4 H locs hw hS => ?_)
    refine lv_i2l hx hb dX4_digest_242 rfl ?_
    refine lv_ladd hx hb dX4_digest_243 ?_
    refine lv_topl (fun v5 ev5 => ?_)
    have hw := hw v5 ev5
    refine lv_lstore_n (lv' := [(1, .long v5), (0, .ref (a 0)), (3, .int x3), (4, .int x4), (5, .int x5)]) hx hb dX4_digest_244 rfl hl (by decide) rfl (fun ls hl => ?_)
    obtain ⟨v6, ev6⟩ : ∃ y : Int32, y = x5 + 1 := ⟨_, rfl⟩
    have hw := hw v6 ev6
    refine lv_iinc (v := v6) (lv' := [(5, .int v6), (1, .long v5), (0, .ref (a 0)), (3, .int x3), (4, .int x4)]) hx hb dX4_digest_245 hl (k := 4) rfl (by rw [ev6]; rfl) (by decide) rfl (fun ls hl => ?_)
    refine lv_goto (tgt := 222) hx hb dX4_digest_248 (by decide) ?_
    exact hK222 _ _ _ _ _ hw hS (lv_sub hl [2, 1, 3, 4, 0] rfl)
set_option maxHeartbeats 4000000 in
set_option maxRecDepth 100000 in
theorem k_X4_digest_222 {p : Program} {l : Launch} {e : Env} {s : State} {m : MethodId} {args : Array Value} {below : List Frame} {meth : Method} {c : Code} {D : va_G} {dT : Nat → ClassId} {a : Nat → Nat} {A : Nat → Prop}  {K213 : MS → Int64 → Int32 → Int32 → Prop} {post : Int64 → MS → Prop} (hC : wCx RX4 cX4_digest 6 (some .long) D dT p s m args meth c) (hA : wAz A s) (hK213 : ∀ (M : MS) (x1 : Int64) (x3 : Int32) (x4 : Int32), K213 M x1 x3 x4 → ∀ {H : Heap} {locs : List Loc} {ls : Array Slot}, StM D dT a A s M H locs → lv_has ls 6 [(0, .ref (a 0)), (1, .long x1), (3, .int x3), (4, .int x4)] → W p l e rmX4_digest s m args below meth c H locs 0 0 (MQ below (va_Ql post (wB D (MW dT a) MI A) A) args s 0 0 A) (F0 m 213 ls [])) : ∀ (M : MS) (x1 : Int64) (x3 : Int32) (x4 : Int32) (x5 : Int32) (n : Nat), ∀ {H : Heap} {locs : List Loc} {ls : Array Slot}, StM D dT a A s M H locs → lv_has ls 6 [(0, .ref (a 0)), (1, .long x1), (3, .int x3), (4, .int x4), (5, .int x5)] → w_X4_digest_222 K213 post n M x1 x3 x4 x5 → W p l e rmX4_digest s m args below meth c H locs 0 0 (MQ below (va_Ql post (wB D (MW dT a) MI A) A) args s 0 0 A) (F0 m 222 ls []) := by
  intro M x1 x3 x4 x5 n
  induction n generalizing M x1 x3 x4 x5 with
  | zero => intro H locs ls  hS hl hw; exact hw.elim
  | succ n ih =>
    intro H locs ls  hS hl hw
    exact k_X4_digest_222b hC hA hK213 (fun M x1 x3 x4 x5 hk {H} {locs} {ls}  hS hl => ih M x1 x3 x4 x5  hS hl hk) M x1 x3 x4 x5  hS hl hw
set_option maxHeartbeats 4000000 in
set_option maxRecDepth 100000 in
theorem k_X4_digest_213b {p : Program} {l : Launch} {e : Env} {s : State} {m : MethodId} {args : Array Value} {below : List Frame} {meth : Method} {c : Code} {D : va_G} {dT : Nat → ClassId} {a : Nat → Nat} {A : Nat → Prop}  {K213 : MS → Int64 → Int32 → Int32 → Prop} {post : Int64 → MS → Prop} (hC : wCx RX4 cX4_digest 6 (some .long) D dT p s m args meth c) (hA : wAz A s) (hK213 : ∀ (M : MS) (x1 : Int64) (x3 : Int32) (x4 : Int32), K213 M x1 x3 x4 → ∀ {H : Heap} {locs : List Loc} {ls : Array Slot}, StM D dT a A s M H locs → lv_has ls 6 [(0, .ref (a 0)), (1, .long x1), (3, .int x3), (4, .int x4)] → W p l e rmX4_digest s m args below meth c H locs 0 0 (MQ below (va_Ql post (wB D (MW dT a) MI A) A) args s 0 0 A) (F0 m 213 ls [])) (M : MS) (x1 : Int64) (x3 : Int32) (x4 : Int32) {H : Heap} {locs : List Loc} {ls : Array Slot} (hS : StM D dT a A s M H locs) (hl : lv_has ls 6 [(0, .ref (a 0)), (1, .long x1), (3, .int x3), (4, .int x4)])  (hw : w_X4_digest_213b K213 post M x1 x3 x4) : W p l e rmX4_digest s m args below meth c H locs 0 0 (MQ below (va_Ql post (wB D (MW dT a) MI A) A) args s 0 0 A) (F0 m 213 ls []) := by
  have hx := hC.1
  have hb := hC.2.1
  have hown := hC.2.2.2.1
  have hts := hC.2.2.2.2.1
  unfold w_X4_digest_213b at hw
  refine lv_iload hx hb dX4_digest_213 (lv_at hl 3 rfl) ?_
  refine lv_iload_n hx hb dX4_digest_215 rfl (lv_at hl 2 rfl) ?_
  refine lv_icmp_ge (tgt := 257) hx hb dX4_digest_216 (by decide) (fun c1 => ?_) (fun c1 => ?_)
  · have hw := hw.1 c1
    refine lv_lload_n hx hb dX4_digest_257 rfl (lv_at hl 1 rfl) ?_
    exact wRetl hC hS hw (Nat.le_refl _) (Nat.le_refl _) dX4_digest_258
  · have hw := hw.2 c1
    refine lv_iconst (v := 0) hx hb dX4_digest_219 (by decide) ?_
    refine lv_istore (lv' := [(5, .int 0), (0, .ref (a 0)), (1, .long x1), (3, .int x3), (4, .int x4)]) hx hb dX4_digest_220 hl (by decide) rfl (fun ls hl => ?_)
    obtain ⟨n, hw⟩ := hw
    exact k_X4_digest_222 hC hA hK213 _ _ _ _ _ n hS (lv_sub hl [1, 2, 3, 4, 0] rfl) hw
set_option maxHeartbeats 4000000 in
set_option maxRecDepth 100000 in
theorem k_X4_digest_213 {p : Program} {l : Launch} {e : Env} {s : State} {m : MethodId} {args : Array Value} {below : List Frame} {meth : Method} {c : Code} {D : va_G} {dT : Nat → ClassId} {a : Nat → Nat} {A : Nat → Prop}  {post : Int64 → MS → Prop} (hC : wCx RX4 cX4_digest 6 (some .long) D dT p s m args meth c) (hA : wAz A s) : ∀ (M : MS) (x1 : Int64) (x3 : Int32) (x4 : Int32) (n : Nat), ∀ {H : Heap} {locs : List Loc} {ls : Array Slot}, StM D dT a A s M H locs → lv_has ls 6 [(0, .ref (a 0)), (1, .long x1), (3, .int x3), (4, .int x4)] → w_X4_digest_213 post n M x1 x3 x4 → W p l e rmX4_digest s m args below meth c H locs 0 0 (MQ below (va_Ql post (wB D (MW dT a) MI A) A) args s 0 0 A) (F0 m 213 ls []) := by
  intro M x1 x3 x4 n
  induction n generalizing M x1 x3 x4 with
  | zero => intro H locs ls  hS hl hw; exact hw.elim
  | succ n ih =>
    intro H locs ls  hS hl hw
    exact k_X4_digest_213b hC hA (fun M x1 x3 x4 hk {H} {locs} {ls}  hS hl => ih M x1 x3 x4  hS hl hk) M x1 x3 x4  hS hl hw
set_option maxHeartbeats 4000000 in
set_option maxRecDepth 100000 in
theorem k_X4_digest_160b {p : Program} {l : Launch} {e : Env} {s : State} {m : MethodId} {args : Array Value} {below : List Frame} {meth : Method} {c : Code} {D : va_G} {dT : Nat → ClassId} {a : Nat → Nat} {A : Nat → Prop}  {K160 : MS → Int64 → Int32 → Prop} {post : Int64 → MS → Prop} (hC : wCx RX4 cX4_digest 6 (some .long) D dT p s m args meth c) (hA : wAz A s) (hK160 : ∀ (M : MS) (x1 : Int64) (x3 : Int32), K160 M x1 x3 → ∀ {H : Heap} {locs : List Loc} {ls : Array Slot}, StM D dT a A s M H locs → lv_has ls 6 [(0, .ref (a 0)), (1, .long x1), (3, .int x3)] → W p l e rmX4_digest s m args below meth c H locs 0 0 (MQ below (va_Ql post (wB D (MW dT a) MI A) A) args s 0 0 A) (F0 m 160 ls [])) (M : MS) (x1 : Int64) (x3 : Int32) {H : Heap} {locs : List Loc} {ls : Array Slot} (hS : StM D dT a A s M H locs) (hl : lv_has ls 6 [(0, .ref (a 0)), (1, .long x1), (3, .int x3)])  (hw : w_X4_digest_160b K160 post M x1 x3) : W p l e rmX4_digest s m args below meth c H locs 0 0 (MQ below (va_Ql post (wB D (MW dT a) MI A) A) args s 0 0 A) (F0 m 160 ls []) := by
  have hx := hC.1
  have hb := hC.2.1
  have hown := hC.2.2.2.1
  have hts := hC.2.2.2.2.1
  unfold w_X4_digest_160b at hw
  refine lv_iload_n hx hb dX4_digest_160 rfl (lv_at hl 2 rfl) ?_
  refine lv_aload_n hx hb dX4_digest_161 rfl (lv_at hl 0 rfl) ?_
  refine inv_q1014 hC hA hS hl.1 hw ⟨Nat.le_of_ble_eq_true rfl, Nat.le_of_ble_eq_true rfl⟩ (Nat.le_of_ble_eq_true rfl) ⟨Nat.zero_le _, Nat.zero_le _⟩ dX4_digest_162 (fun r1 H locs hw hS => ?_)
  refine lv_icmp_ge (tgt := 181) hx hb dX4_digest_165 (by decide) (fun c2 => ?_) (fun c2 => ?_)
  · have hw := hw.1 c2
    refine lv_ldc2 (v := 31) hx hb hown (hts _ q1319) dX4_digest_181 ?_
    refine lv_lload_n hx hb dX4_digest_184 rfl (lv_at hl 1 rfl) ?_
    refine lv_lmul hx hb dX4_digest_185 ?_
    refine lv_aload_n hx hb dX4_digest_186 rfl (lv_at hl 0 rfl) ?_
    refine lv_iconst (v := 0) hx hb dX4_digest_187 (by decide) ?_
    refine inv_q1329 hC hA hS hl.1 hw ⟨Nat.le_of_ble_eq_true rfl, Nat.le_of_ble_eq_true rfl⟩ (Nat.le_of_ble_eq_true rfl) ⟨Nat.zero_le _, Nat.zero_le _⟩ dX4_digest_188 (fun r3 H locs hw hS => ?_)
    refine lv_ladd hx hb dX4_digest_191 ?_
    refine lv_topl (fun v4 ev4 => ?_)
    have hw := hw v4 ev4
    refine lv_lstore_n (lv' := [(1, .long v4), (0, .ref (a 0)), (3, .int x3)]) hx hb dX4_digest_192 rfl hl (by decide) rfl (fun ls hl => ?_)
    refine lv_ldc2 (v := 31) hx hb hown (hts _ q1319) dX4_digest_193 ?_
    refine lv_lload_n hx hb dX4_digest_196 rfl (lv_at hl 0 rfl) ?_
    refine lv_lmul hx hb dX4_digest_197 ?_
    refine lv_aload_n hx hb dX4_digest_198 rfl (lv_at hl 1 rfl) ?_
    refine lv_iconst (v := 1) hx hb dX4_digest_199 (by decide) ?_
    refine inv_q1329 hC hA hS hl.1 hw ⟨Nat.le_of_ble_eq_true rfl, Nat.le_of_ble_eq_true rfl⟩ (Nat.le_of_ble_eq_true rfl) ⟨Nat.zero_le _, Nat.zero_le _⟩ dX4_digest_200 (fun r5 H locs hw hS => ?_)
    refine lv_ladd hx hb dX4_digest_203 ?_
    refine lv_topl (fun v6 ev6 => ?_)
    have hw := hw v6 ev6
    refine lv_lstore_n (lv' := [(1, .long v6), (0, .ref (a 0)), (3, .int x3)]) hx hb dX4_digest_204 rfl hl (by decide) rfl (fun ls hl => ?_)
    refine lv_aload_n hx hb dX4_digest_205 rfl (lv_at hl 1 rfl) ?_
    refine inv_q1310 hC hA hS hl.1 hw ⟨Nat.le_of_ble_eq_true rfl, Nat.le_of_ble_eq_true rfl⟩ (Nat.le_of_ble_eq_true rfl) ⟨Nat.zero_le _, Nat.zero_le _⟩ dX4_digest_206 (fun r7 M8 H locs hw hS => ?_)
    refine lv_istore_n (lv' := [(3, .int r7), (1, .long v6), (0, .ref (a 0))]) hx hb dX4_digest_209 rfl hl (by decide) rfl (fun ls hl => ?_)
    refine lv_iconst (v := 0) hx hb dX4_digest_210 (by decide) ?_
    refine lv_istore (lv' := [(4, .int 0), (3, .int r7), (1, .long v6), (0, .ref (a 0))]) hx hb dX4_digest_211 hl (by decide) rfl (fun ls hl => ?_)
    obtain ⟨n, hw⟩ := hw
    exact k_X4_digest_213 hC hA _ _ _ _ n hS (lv_sub hl [3, 2, 1, 0] rfl) hw
  · have hw := hw.2 c2
    refine lv_aload_n hx hb dX4_digest_168 rfl (lv_at hl 0 rfl) ?_
    refine lv_lload_n hx hb dX4_digest_169 rfl (lv_at hl 1 rfl) ?_
    refine lv_iload_n hx hb dX4_digest_170 rfl (lv_at hl 2 rfl) ?_
    refine inv_q1322 hC hA hS hl.1 hw ⟨Nat.le_of_ble_eq_true rfl, Nat.le_of_ble_eq_true rfl⟩ (Nat.le_of_ble_eq_true rfl) ⟨Nat.zero_le _, Nat.zero_le _⟩ dX4_digest_171 (fun r9 M10 H locs hw hS => ?_)
    refine lv_lstore_n (lv' := [(1, .long r9), (0, .ref (a 0)), (3, .int x3)]) hx hb dX4_digest_174 rfl hl (by decide) rfl (fun ls hl => ?_)
    obtain ⟨v11, ev11⟩ : ∃ y : Int32, y = x3 + 1 := ⟨_, rfl⟩
    have hw := hw v11 ev11
    refine lv_iinc (v := v11) (lv' := [(3, .int v11), (1, .long r9), (0, .ref (a 0))]) hx hb dX4_digest_175 hl (k := 2) rfl (by rw [ev11]; rfl) (by decide) rfl (fun ls hl => ?_)
    refine lv_goto (tgt := 160) hx hb dX4_digest_178 (by decide) ?_
    exact hK160 _ _ _ hw hS (lv_sub hl [2, 1, 0] rfl)
set_option maxHeartbeats 4000000 in
set_option maxRecDepth 100000 in
theorem k_X4_digest_160 {p : Program} {l : Launch} {e : Env} {s : State} {m : MethodId} {args : Array Value} {below : List Frame} {meth : Method} {c : Code} {D : va_G} {dT : Nat → ClassId} {a : Nat → Nat} {A : Nat → Prop}  {post : Int64 → MS → Prop} (hC : wCx RX4 cX4_digest 6 (some .long) D dT p s m args meth c) (hA : wAz A s) : ∀ (M : MS) (x1 : Int64) (x3 : Int32) (n : Nat), ∀ {H : Heap} {locs : List Loc} {ls : Array Slot}, StM D dT a A s M H locs → lv_has ls 6 [(0, .ref (a 0)), (1, .long x1), (3, .int x3)] → w_X4_digest_160 post n M x1 x3 → W p l e rmX4_digest s m args below meth c H locs 0 0 (MQ below (va_Ql post (wB D (MW dT a) MI A) A) args s 0 0 A) (F0 m 160 ls []) := by
  intro M x1 x3 n
  induction n generalizing M x1 x3 with
  | zero => intro H locs ls  hS hl hw; exact hw.elim
  | succ n ih =>
    intro H locs ls  hS hl hw
    exact k_X4_digest_160b hC hA (fun M x1 x3 hk {H} {locs} {ls}  hS hl => ih M x1 x3  hS hl hk) M x1 x3  hS hl hw
set_option maxHeartbeats 4000000 in
set_option maxRecDepth 100000 in
theorem k_X4_digest_113b {p : Program} {l : Launch} {e : Env} {s : State} {m : MethodId} {args : Array Value} {below : List Frame} {meth : Method} {c : Code} {D : va_G} {dT : Nat → ClassId} {a : Nat → Nat} {A : Nat → Prop}  {K113 : MS → Int64 → Int32 → Prop} {post : Int64 → MS → Prop} (hC : wCx RX4 cX4_digest 6 (some .long) D dT p s m args meth c) (hA : wAz A s) (hK113 : ∀ (M : MS) (x1 : Int64) (x3 : Int32), K113 M x1 x3 → ∀ {H : Heap} {locs : List Loc} {ls : Array Slot}, StM D dT a A s M H locs → lv_has ls 6 [(0, .ref (a 0)), (1, .long x1), (3, .int x3)] → W p l e rmX4_digest s m args below meth c H locs 0 0 (MQ below (va_Ql post (wB D (MW dT a) MI A) A) args s 0 0 A) (F0 m 113 ls [])) (M : MS) (x1 : Int64) (x3 : Int32) {H : Heap} {locs : List Loc} {ls : Array Slot} (hS : StM D dT a A s M H locs) (hl : lv_has ls 6 [(0, .ref (a 0)), (1, .long x1), (3, .int x3)])  (hw : w_X4_digest_113b K113 post M x1 x3) : W p l e rmX4_digest s m args below meth c H locs 0 0 (MQ below (va_Ql post (wB D (MW dT a) MI A) A) args s 0 0 A) (F0 m 113 ls []) := by
  have hx := hC.1
  have hb := hC.2.1
  have hown := hC.2.2.2.1
  have hts := hC.2.2.2.2.1
  unfold w_X4_digest_113b at hw
  refine lv_iload_n hx hb dX4_digest_113 rfl (lv_at hl 2 rfl) ?_
  refine lv_aload_n hx hb dX4_digest_114 rfl (lv_at hl 0 rfl) ?_
  refine ld_q940 hC hS dX4_digest_115 ?_
  refine lv_icmp_ge (tgt := 158) hx hb dX4_digest_118 (by decide) (fun c1 => ?_) (fun c1 => ?_)
  · have hw := hw.1 c1
    refine lv_iconst (v := 0) hx hb dX4_digest_158 (by decide) ?_
    refine lv_istore_n (lv' := [(3, .int 0), (0, .ref (a 0)), (1, .long x1)]) hx hb dX4_digest_159 rfl hl (by decide) rfl (fun ls hl => ?_)
    obtain ⟨n, hw⟩ := hw
    exact k_X4_digest_160 hC hA _ _ _ n hS (lv_sub hl [1, 2, 0] rfl) hw
  · have hw := hw.2 c1
    refine lv_iconst (v := 0) hx hb dX4_digest_121 (by decide) ?_
    refine lv_istore (lv' := [(4, .int 0), (0, .ref (a 0)), (1, .long x1), (3, .int x3)]) hx hb dX4_digest_122 hl (by decide) rfl (fun ls hl => ?_)
    obtain ⟨n, hw⟩ := hw
    exact k_X4_digest_124 hC hA hK113 _ _ _ _ n hS (lv_sub hl [1, 2, 3, 0] rfl) hw
set_option maxHeartbeats 4000000 in
set_option maxRecDepth 100000 in
theorem k_X4_digest_113 {p : Program} {l : Launch} {e : Env} {s : State} {m : MethodId} {args : Array Value} {below : List Frame} {meth : Method} {c : Code} {D : va_G} {dT : Nat → ClassId} {a : Nat → Nat} {A : Nat → Prop}  {post : Int64 → MS → Prop} (hC : wCx RX4 cX4_digest 6 (some .long) D dT p s m args meth c) (hA : wAz A s) : ∀ (M : MS) (x1 : Int64) (x3 : Int32) (n : Nat), ∀ {H : Heap} {locs : List Loc} {ls : Array Slot}, StM D dT a A s M H locs → lv_has ls 6 [(0, .ref (a 0)), (1, .long x1), (3, .int x3)] → w_X4_digest_113 post n M x1 x3 → W p l e rmX4_digest s m args below meth c H locs 0 0 (MQ below (va_Ql post (wB D (MW dT a) MI A) A) args s 0 0 A) (F0 m 113 ls []) := by
  intro M x1 x3 n
  induction n generalizing M x1 x3 with
  | zero => intro H locs ls  hS hl hw; exact hw.elim
  | succ n ih =>
    intro H locs ls  hS hl hw
    exact k_X4_digest_113b hC hA (fun M x1 x3 hk {H} {locs} {ls}  hS hl => ih M x1 x3  hS hl hk) M x1 x3  hS hl hw
set_option maxHeartbeats 4000000 in
set_option maxRecDepth 100000 in
theorem k_X4_digest_6b {p : Program} {l : Launch} {e : Env} {s : State} {m : MethodId} {args : Array Value} {below : List Frame} {meth : Method} {c : Code} {D : va_G} {dT : Nat → ClassId} {a : Nat → Nat} {A : Nat → Prop}  {K6 : MS → Int64 → Int32 → Prop} {post : Int64 → MS → Prop} (hC : wCx RX4 cX4_digest 6 (some .long) D dT p s m args meth c) (hA : wAz A s) (hK6 : ∀ (M : MS) (x1 : Int64) (x3 : Int32), K6 M x1 x3 → ∀ {H : Heap} {locs : List Loc} {ls : Array Slot}, StM D dT a A s M H locs → lv_has ls 6 [(0, .ref (a 0)), (1, .long x1), (3, .int x3)] → W p l e rmX4_digest s m args below meth c H locs 0 0 (MQ below (va_Ql post (wB D (MW dT a) MI A) A) args s 0 0 A) (F0 m 6 ls [])) (M : MS) (x1 : Int64) (x3 : Int32) {H : Heap} {locs : List Loc} {ls : Array Slot} (hS : StM D dT a A s M H locs) (hl : lv_has ls 6 [(0, .ref (a 0)), (1, .long x1), (3, .int x3)])  (hw : w_X4_digest_6b K6 post M x1 x3) : W p l e rmX4_digest s m args below meth c H locs 0 0 (MQ below (va_Ql post (wB D (MW dT a) MI A) A) args s 0 0 A) (F0 m 6 ls []) := by
  have hx := hC.1
  have hb := hC.2.1
  have hown := hC.2.2.2.1
  have hts := hC.2.2.2.2.1
  unfold w_X4_digest_6b at hw
  refine lv_iload_n hx hb dX4_digest_6 rfl (lv_at hl 2 rfl) ?_
  refine lv_bipush (v := 8) hx hb dX4_digest_7 (by decide) ?_
  refine lv_icmp_ge (tgt := 31) hx hb dX4_digest_9 (by decide) (fun c1 => ?_) (fun c1 => ?_)
  · have hw := hw.1 c1
    refine lv_ldc2 (v := 31) hx hb hown (hts _ q1319) dX4_digest_31 ?_
    refine lv_lload_n hx hb dX4_digest_34 rfl (lv_at hl 1 rfl) ?_
    refine lv_lmul hx hb dX4_digest_35 ?_
    refine lv_aload_n hx hb dX4_digest_36 rfl (lv_at hl 0 rfl) ?_
    refine lv_aload_n hx hb dX4_digest_37 rfl (lv_at hl 0 rfl) ?_
    refine ld_q941 hC hS dX4_digest_38 ?_
    refine lv_iconst (v := 0) hx hb dX4_digest_41 (by decide) ?_
    refine inv_q1090 hC hA hS hl.1 hw ⟨Nat.le_of_ble_eq_true rfl, Nat.le_of_ble_eq_true rfl⟩ (Nat.le_of_ble_eq_true rfl) ⟨Nat.zero_le _, Nat.zero_le _⟩ dX4_digest_42 (fun r2 M3 H locs hw hS => ?_)
    refine lv_ladd hx hb dX4_digest_45 ?_
    refine lv_topl (fun v4 ev4 => ?_)
    have hw := hw v4 ev4
    refine lv_lstore_n (lv' := [(1, .long v4), (0, .ref (a 0)), (3, .int x3)]) hx hb dX4_digest_46 rfl hl (by decide) rfl (fun ls hl => ?_)
    refine lv_ldc2 (v := 31) hx hb hown (hts _ q1319) dX4_digest_47 ?_
    refine lv_lload_n hx hb dX4_digest_50 rfl (lv_at hl 0 rfl) ?_
    refine lv_lmul hx hb dX4_digest_51 ?_
    refine lv_aload_n hx hb dX4_digest_52 rfl (lv_at hl 1 rfl) ?_
    refine lv_aload_n hx hb dX4_digest_53 rfl (lv_at hl 1 rfl) ?_
    refine ld_q941 hC hS dX4_digest_54 ?_
    refine lv_iconst (v := 1) hx hb dX4_digest_57 (by decide) ?_
    refine inv_q1090 hC hA hS hl.1 hw ⟨Nat.le_of_ble_eq_true rfl, Nat.le_of_ble_eq_true rfl⟩ (Nat.le_of_ble_eq_true rfl) ⟨Nat.zero_le _, Nat.zero_le _⟩ dX4_digest_58 (fun r5 M6 H locs hw hS => ?_)
    refine lv_ladd hx hb dX4_digest_61 ?_
    refine lv_topl (fun v7 ev7 => ?_)
    have hw := hw v7 ev7
    refine lv_lstore_n (lv' := [(1, .long v7), (0, .ref (a 0)), (3, .int x3)]) hx hb dX4_digest_62 rfl hl (by decide) rfl (fun ls hl => ?_)
    refine lv_ldc2 (v := 31) hx hb hown (hts _ q1319) dX4_digest_63 ?_
    refine lv_lload_n hx hb dX4_digest_66 rfl (lv_at hl 0 rfl) ?_
    refine lv_lmul hx hb dX4_digest_67 ?_
    refine lv_aload_n hx hb dX4_digest_68 rfl (lv_at hl 1 rfl) ?_
    refine inv_q1321 hC hA hS hl.1 hw ⟨Nat.le_of_ble_eq_true rfl, Nat.le_of_ble_eq_true rfl⟩ (Nat.le_of_ble_eq_true rfl) ⟨Nat.zero_le _, Nat.zero_le _⟩ dX4_digest_69 (fun r8 M9 H locs hw hS => ?_)
    refine lv_i2l hx hb dX4_digest_72 rfl ?_
    refine lv_ladd hx hb dX4_digest_73 ?_
    refine lv_topl (fun v10 ev10 => ?_)
    have hw := hw v10 ev10
    refine lv_lstore_n (lv' := [(1, .long v10), (0, .ref (a 0)), (3, .int x3)]) hx hb dX4_digest_74 rfl hl (by decide) rfl (fun ls hl => ?_)
    refine lv_ldc2 (v := 31) hx hb hown (hts _ q1319) dX4_digest_75 ?_
    refine lv_lload_n hx hb dX4_digest_78 rfl (lv_at hl 0 rfl) ?_
    refine lv_lmul hx hb dX4_digest_79 ?_
    refine lv_aload_n hx hb dX4_digest_80 rfl (lv_at hl 1 rfl) ?_
    refine inv_q1155 hC hA hS hl.1 hw ⟨Nat.le_of_ble_eq_true rfl, Nat.le_of_ble_eq_true rfl⟩ (Nat.le_of_ble_eq_true rfl) ⟨Nat.zero_le _, Nat.zero_le _⟩ dX4_digest_81 (fun r11 M12 H locs hw hS => ?_)
    refine lv_i2l hx hb dX4_digest_84 rfl ?_
    refine lv_ladd hx hb dX4_digest_85 ?_
    refine lv_topl (fun v13 ev13 => ?_)
    have hw := hw v13 ev13
    refine lv_lstore_n (lv' := [(1, .long v13), (0, .ref (a 0)), (3, .int x3)]) hx hb dX4_digest_86 rfl hl (by decide) rfl (fun ls hl => ?_)
    refine lv_ldc2 (v := 31) hx hb hown (hts _ q1319) dX4_digest_87 ?_
    refine lv_lload_n hx hb dX4_digest_90 rfl (lv_at hl 0 rfl) ?_
    refine lv_lmul hx hb dX4_digest_91 ?_
    refine lv_aload_n hx hb dX4_digest_92 rfl (lv_at hl 1 rfl) ?_
    refine inv_q1183 hC hA hS hl.1 hw ⟨Nat.le_of_ble_eq_true rfl, Nat.le_of_ble_eq_true rfl⟩ (Nat.le_of_ble_eq_true rfl) ⟨Nat.zero_le _, Nat.zero_le _⟩ dX4_digest_93 (fun r14 M15 H locs hw hS => ?_)
    refine lv_i2l hx hb dX4_digest_96 rfl ?_
    refine lv_ladd hx hb dX4_digest_97 ?_
    refine lv_topl (fun v16 ev16 => ?_)
    have hw := hw v16 ev16
    refine lv_lstore_n (lv' := [(1, .long v16), (0, .ref (a 0)), (3, .int x3)]) hx hb dX4_digest_98 rfl hl (by decide) rfl (fun ls hl => ?_)
    refine lv_ldc2 (v := 31) hx hb hown (hts _ q1319) dX4_digest_99 ?_
    refine lv_lload_n hx hb dX4_digest_102 rfl (lv_at hl 0 rfl) ?_
    refine lv_lmul hx hb dX4_digest_103 ?_
    refine lv_aload_n hx hb dX4_digest_104 rfl (lv_at hl 1 rfl) ?_
    refine inv_q1195 hC hA hS hl.1 hw ⟨Nat.le_of_ble_eq_true rfl, Nat.le_of_ble_eq_true rfl⟩ (Nat.le_of_ble_eq_true rfl) ⟨Nat.zero_le _, Nat.zero_le _⟩ dX4_digest_105 (fun r17 M18 H locs hw hS => ?_)
    refine lv_i2l hx hb dX4_digest_108 rfl ?_
    refine lv_ladd hx hb dX4_digest_109 ?_
    refine lv_topl (fun v19 ev19 => ?_)
    have hw := hw v19 ev19
    refine lv_lstore_n (lv' := [(1, .long v19), (0, .ref (a 0)), (3, .int x3)]) hx hb dX4_digest_110 rfl hl (by decide) rfl (fun ls hl => ?_)
    refine lv_iconst (v := 0) hx hb dX4_digest_111 (by decide) ?_
    refine lv_istore_n (lv' := [(3, .int 0), (1, .long v19), (0, .ref (a 0))]) hx hb dX4_digest_112 rfl hl (by decide) rfl (fun ls hl => ?_)
    obtain ⟨n, hw⟩ := hw
    exact k_X4_digest_113 hC hA _ _ _ n hS (lv_sub hl [2, 1, 0] rfl) hw
  · have hw := hw.2 c1
    refine lv_ldc2 (v := 31) hx hb hown (hts _ q1319) dX4_digest_12 ?_
    refine lv_lload_n hx hb dX4_digest_15 rfl (lv_at hl 1 rfl) ?_
    refine lv_lmul hx hb dX4_digest_16 ?_
    refine lv_aload_n hx hb dX4_digest_17 rfl (lv_at hl 0 rfl) ?_
    refine lv_iload_n hx hb dX4_digest_18 rfl (lv_at hl 2 rfl) ?_
    refine inv_q1320 hC hA hS hl.1 hw ⟨Nat.le_of_ble_eq_true rfl, Nat.le_of_ble_eq_true rfl⟩ (Nat.le_of_ble_eq_true rfl) ⟨Nat.zero_le _, Nat.zero_le _⟩ dX4_digest_19 (fun r20 M21 H locs hw hS => ?_)
    refine lv_i2l hx hb dX4_digest_22 rfl ?_
    refine lv_ladd hx hb dX4_digest_23 ?_
    refine lv_topl (fun v22 ev22 => ?_)
    have hw := hw v22 ev22
    refine lv_lstore_n (lv' := [(1, .long v22), (0, .ref (a 0)), (3, .int x3)]) hx hb dX4_digest_24 rfl hl (by decide) rfl (fun ls hl => ?_)
    obtain ⟨v23, ev23⟩ : ∃ y : Int32, y = x3 + 1 := ⟨_, rfl⟩
    have hw := hw v23 ev23
    refine lv_iinc (v := v23) (lv' := [(3, .int v23), (1, .long v22), (0, .ref (a 0))]) hx hb dX4_digest_25 hl (k := 2) rfl (by rw [ev23]; rfl) (by decide) rfl (fun ls hl => ?_)
    refine lv_goto (tgt := 6) hx hb dX4_digest_28 (by decide) ?_
    exact hK6 _ _ _ hw hS (lv_sub hl [2, 1, 0] rfl)
set_option maxHeartbeats 4000000 in
set_option maxRecDepth 100000 in
theorem k_X4_digest_6 {p : Program} {l : Launch} {e : Env} {s : State} {m : MethodId} {args : Array Value} {below : List Frame} {meth : Method} {c : Code} {D : va_G} {dT : Nat → ClassId} {a : Nat → Nat} {A : Nat → Prop}  {post : Int64 → MS → Prop} (hC : wCx RX4 cX4_digest 6 (some .long) D dT p s m args meth c) (hA : wAz A s) : ∀ (M : MS) (x1 : Int64) (x3 : Int32) (n : Nat), ∀ {H : Heap} {locs : List Loc} {ls : Array Slot}, StM D dT a A s M H locs → lv_has ls 6 [(0, .ref (a 0)), (1, .long x1), (3, .int x3)] → w_X4_digest_6 post n M x1 x3 → W p l e rmX4_digest s m args below meth c H locs 0 0 (MQ below (va_Ql post (wB D (MW dT a) MI A) A) args s 0 0 A) (F0 m 6 ls []) := by
  intro M x1 x3 n
  induction n generalizing M x1 x3 with
  | zero => intro H locs ls  hS hl hw; exact hw.elim
  | succ n ih =>
    intro H locs ls  hS hl hw
    exact k_X4_digest_6b hC hA (fun M x1 x3 hk {H} {locs} {ls}  hS hl => ih M x1 x3  hS hl hk) M x1 x3  hS hl hw
set_option maxHeartbeats 4000000 in
set_option maxRecDepth 100000 in
theorem k_X4_digest_0 {p : Program} {l : Launch} {e : Env} {s : State} {m : MethodId} {args : Array Value} {below : List Frame} {meth : Method} {c : Code} {D : va_G} {dT : Nat → ClassId} {a : Nat → Nat} {A : Nat → Prop}  {post : Int64 → MS → Prop} (hC : wCx RX4 cX4_digest 6 (some .long) D dT p s m args meth c) (hA : wAz A s) (M : MS) {H : Heap} {locs : List Loc} {ls : Array Slot} (hS : StM D dT a A s M H locs) (hl : lv_has ls 6 [(0, .ref (a 0))])  (hw : w_X4_digest post M) : W p l e rmX4_digest s m args below meth c H locs 0 0 (MQ below (va_Ql post (wB D (MW dT a) MI A) A) args s 0 0 A) (F0 m 0 ls []) := by
  have hx := hC.1
  have hb := hC.2.1
  have hown := hC.2.2.2.1
  have hts := hC.2.2.2.2.1
  unfold w_X4_digest at hw
  refine lv_ldc2 (v := 17) hx hb hown (hts _ q1318) dX4_digest_0 ?_
  refine lv_lstore_n (lv' := [(1, .long 17), (0, .ref (a 0))]) hx hb dX4_digest_3 rfl hl (by decide) rfl (fun ls hl => ?_)
  refine lv_iconst (v := 0) hx hb dX4_digest_4 (by decide) ?_
  refine lv_istore_n (lv' := [(3, .int 0), (1, .long 17), (0, .ref (a 0))]) hx hb dX4_digest_5 rfl hl (by decide) rfl (fun ls hl => ?_)
  obtain ⟨n, hw⟩ := hw
  exact k_X4_digest_6 hC hA _ _ _ n hS (lv_sub hl [2, 1, 0] rfl) hw
abbrev v_X4_digest (M : MS) (post : Int64 → MS → Prop) : Prop := w_X4_digest post M
set_option maxHeartbeats 4000000 in
set_option maxRecDepth 100000 in
theorem met_X4_digest (l : Launch) (D : va_G) (dT : Nat → ClassId) (a : Nat → Nat) (sz : Nat) (M : MS) (post : Int64 → MS → Prop) (hw : v_X4_digest M post) : Met l yX4_digest (ws_ yX4_digest cX4_digest 6 (some .long)) rmX4_digest (wPc D dT (MW dT a) MI sz M [.ref (a 0)]) (va_Ql post (wB D (MW dT a) MI (va_A ((MW dT a) M) sz)) (va_A ((MW dT a) M) sz)) 0 0 (va_A ((MW dT a) M) sz) :=
  wEnt (Q := fun A => (va_Ql post (wB D (MW dT a) MI A) A)) (by decide) (Nat.le_of_ble_eq_true rfl) (fun p e s m below meth c A ls hC _ hA hS hl => k_X4_digest_0 hC hA _ hS hl hw) sz
theorem hd_X4_digest : yX4_digest.cls ≠ "java/lang/invoke/MethodHandle" ∧ yX4_digest.cls ≠ "java/lang/invoke/VarHandle" ∧ (parseMethodDescriptor yX4_digest.desc).map (fun d => d.parameters.length) = some 0 := by decide +kernel
