/-! LeastFramesModel.in -/
def w_X4_in (p0 : Int32) (p1 : Int32) (p2 : Int32) (post : Int32 → Prop) : Prop :=
  (p0 < p1 → (post (0 : Int32))) ∧ (¬ p0 < p1 → ((p2 < p0 → (post (0 : Int32))) ∧ (¬ p2 < p0 → (post (1 : Int32)))))
abbrev rmX4_in : Room := { frames := 0, cells := 0, slots := 0, locals := 0 }
set_option maxHeartbeats 4000000 in
set_option maxRecDepth 100000 in
theorem k_X4_in_0 {p : Program} {l : Launch} {e : Env} {s : State} {m : MethodId} {args : Array Value} {below : List Frame} {meth : Method} {c : Code}  {p0 : Int32} {p1 : Int32} {p2 : Int32} {post : Int32 → Prop} (hC : sCx RX4 cX4_in 3 (some .boolean) p s m args meth c) {H : Heap} {locs : List Loc} {ls : Array Slot} (hS : va_S (fun _ => False) s.heap H locs) (hl : lv_has ls 3 [(0, .int p0), (1, .int p1), (2, .int p2)])  (hw : w_X4_in p0 p1 p2 post) : W p l e rmX4_in s m args below meth c H locs 0 0 (MQ below (va_Qi (fun r (_ : Unit) => post r) (fun _ _ => True) (fun _ => False)) args s 0 0 (fun _ => False)) (F0 m 0 ls []) := by
  have hx := hC.1
  have hb := hC.2.1
  have hown := hC.2.2.2.1
  have hts := hC.2.2.2.2.1
  unfold w_X4_in at hw
  refine lv_iload_n hx hb dX4_in_0 rfl (lv_at hl 0 rfl) ?_
  refine lv_iload_n hx hb dX4_in_1 rfl (lv_at hl 1 rfl) ?_
  refine lv_icmp_lt (tgt := 14) hx hb dX4_in_2 (by decide) (fun c1 => ?_) (fun c1 => ?_)
  · have hw := hw.1 c1
    refine lv_iconst (v := 0) hx hb dX4_in_14 (by decide) ?_
    exact sRetz hC hS (by decide) hw dX4_in_15
  · have hw := hw.2 c1
    refine lv_iload_n hx hb dX4_in_5 rfl (lv_at hl 0 rfl) ?_
    refine lv_iload_n hx hb dX4_in_6 rfl (lv_at hl 2 rfl) ?_
    refine lv_icmp_gt (tgt := 14) hx hb dX4_in_7 (by decide) (fun c2 => ?_) (fun c2 => ?_)
    · have hw := hw.1 c2
      refine lv_iconst (v := 0) hx hb dX4_in_14 (by decide) ?_
      exact sRetz hC hS (by decide) hw dX4_in_15
    · have hw := hw.2 c2
      refine lv_iconst (v := 1) hx hb dX4_in_10 (by decide) ?_
      refine lv_goto (tgt := 15) hx hb dX4_in_11 (by decide) ?_
      exact sRetz hC hS (by decide) hw dX4_in_15
abbrev v_X4_in (p0 : Int32) (p1 : Int32) (p2 : Int32) (post : Int32 → Prop) : Prop := w_X4_in p0 p1 p2 post
set_option maxHeartbeats 4000000 in
set_option maxRecDepth 100000 in
theorem met_X4_in (l : Launch) (p0 : Int32) (p1 : Int32) (p2 : Int32) (post : Int32 → Prop) (hw : v_X4_in p0 p1 p2 post) : Met l yX4_in (ws_ yX4_in cX4_in 3 (some .boolean)) rmX4_in (va_Pc [.int p0, .int p1, .int p2] (fun _ => True)) (va_Qi (fun r (_ : Unit) => post r) (fun _ _ => True) (fun _ => False)) 0 0 (fun _ => False) :=
  sEnt (by decide) (Nat.le_of_ble_eq_true rfl) (fun p e s m below meth c ls hC hS hl => k_X4_in_0 hC  hS hl hw)
theorem hd_X4_in : yX4_in.cls ≠ "java/lang/invoke/MethodHandle" ∧ yX4_in.cls ≠ "java/lang/invoke/VarHandle" ∧ (parseMethodDescriptor yX4_in.desc).map (fun d => d.parameters.length) = some 3 := by decide +kernel
section
variable {p : Program} {l : Launch} {e : Env} {R : Room} {s : State} {m : MethodId} {args : Array Value} {below : List Frame} {meth : Method} {c : Code} {H : Heap} {locs : List Loc} {cells slots : Nat} {Q : State → Prop} {cc : ByteArray} {nL : Nat} {ret : Option FieldType} {pc : Nat} {ls : Array Slot} {rest : List Value}
set_option maxHeartbeats 4000000 in
set_option maxRecDepth 100000 in
theorem inv_q1007 {σ : Type} {D : va_G} {dT : Nat → ClassId} {Wd : σ → va_W} {I : σ → Prop} {A : Nat → Prop} {x : σ} {p0 : Int32} {p1 : Int32} {p2 : Int32} {post : Int32 → Prop} (hC : wCx RX4 cc nL ret D dT p s m args meth c) (hS : wSt D Wd I A s x H locs) (hl : ls.size = nL) (hw : v_X4_in p0 p1 p2 post) (hR : rmX4_in.frames + 1 ≤ R.frames ∧ 8 + (3 + 11) + rmX4_in.locals ≤ R.locals) (hrest : (rest.map fun v => v.category).sum ≤ 8) (hf : cells ≤ R.cells ∧ slots ≤ R.slots) (hdg : decode cc pc = .ok (.invokestatic 64, 3)) (kk : ∀ (r : Int32) (H1 : Heap) (locs1 : List Loc), post r → wSt D Wd I A s x H1 locs1 → W p l e R s m args below meth c H1 locs1 cells slots Q (F0 m (pc + 3) ls (.int r :: rest))) : W p l e R s m args below meth c H locs cells slots Q (F0 m pc ls (.int p2 :: .int p1 :: .int p0 :: rest)) :=
  wCallSi (As := [.int p0, .int p1, .int p2]) (rest := rest) hC (met_X4_in l p0 p1 p2 post hw) (lw_S q1007 q1008 q89 q1009) ⟨⟨rfl, rfl⟩, hd_X4_in, hR, hf⟩ hS hl rfl hrest hdg kk
set_option maxHeartbeats 4000000 in
set_option maxRecDepth 100000 in
theorem invs_q1007 {p0 : Int32} {p1 : Int32} {p2 : Int32} {post : Int32 → Prop} (hC : sCx RX4 cc nL ret p s m args meth c) (hS : va_S (fun _ => False) s.heap H locs) (hl : ls.size = nL) (hw : v_X4_in p0 p1 p2 post) (hR : rmX4_in.frames + 1 ≤ R.frames ∧ 8 + (3 + 11) + rmX4_in.locals ≤ R.locals) (hrest : (rest.map fun v => v.category).sum ≤ 8) (hf : cells ≤ R.cells ∧ slots ≤ R.slots) (hdg : decode cc pc = .ok (.invokestatic 64, 3)) (kk : ∀ (r : Int32) (H1 : Heap) (locs1 : List Loc), post r → va_S (fun _ => False) s.heap H1 locs1 → W p l e R s m args below meth c H1 locs1 cells slots Q (F0 m (pc + 3) ls (.int r :: rest))) : W p l e R s m args below meth c H locs cells slots Q (F0 m pc ls (.int p2 :: .int p1 :: .int p0 :: rest)) :=
  sCallSi (As := [.int p0, .int p1, .int p2]) (rest := rest) hC (met_X4_in l p0 p1 p2 post hw) (lw_S q1007 q1008 q89 q1009) ⟨⟨rfl, rfl⟩, hd_X4_in, hR, hf⟩ hS hl rfl hrest hdg kk
end
/-! LeastFramesModel.point -/
def w_X4_point_108b (p1 : Int32) (p2 : Int32) (K108 : MS → Int32 → Prop) (post : Int32 → MS → Prop) (M : MS) (x3 : Int32) : Prop :=
  (((2 * (M_points M)) + 2) ≤ x3 → (∀ M2 : MS, M2 = sM_points M ((M_points M) + 1) → (∀ M3 : MS, M3 = sM_isKnown M2 0 → (post ((M_points M3) - 1) M3)))) ∧ (¬ ((2 * (M_points M)) + 2) ≤ x3 → (vp_in x3 10 ∧ (∀ M4 : MS, M4 = sM_loads M (upd (M_loads M) x3.toNatClampNeg 0) → (vp_in x3 10 ∧ (∀ M5 : MS, M5 = sM_shifts M4 (upd (M_shifts M4) x3.toNatClampNeg 0) → (∀ v6 : Int32, v6 = x3 + 1 → (K108 M5 v6)))))))
def w_X4_point_108 (p1 : Int32) (p2 : Int32) (post : Int32 → MS → Prop) : Nat → MS → Int32 → Prop
  | 0, _, _ => False
  | n + 1, M, x3 => w_X4_point_108b p1 p2 (w_X4_point_108 p1 p2 post n) post M x3
def w_X4_point_23b (p1 : Int32) (p2 : Int32) (K23 : MS → Int32 → Prop) (post : Int32 → MS → Prop) (M : MS) (x3 : Int32) : Prop :=
  ((M_points M) ≤ x3 → (((M_points M) = (5 : Int32) → (post ((-4) : Int32) M)) ∧ (¬ (M_points M) = (5 : Int32) → (vp_in (M_points M) 5 ∧ (∀ M3 : MS, M3 = sM_xs M (upd (M_xs M) (M_points M).toNatClampNeg p1) → (vp_in (M_points M3) 5 ∧ (∀ M4 : MS, M4 = sM_ys M3 (upd (M_ys M3) (M_points M3).toNatClampNeg p2) → (vp_in (M_points M4) 5 ∧ (∀ M5 : MS, M5 = sM_helds M4 (upd (M_helds M4) (M_points M4).toNatClampNeg 0) → (∀ v6 : Int32, v6 = 2 * (M_points M5) → (∃ n, w_X4_point_108 p1 p2 post n M5 v6))))))))))) ∧ (¬ (M_points M) ≤ x3 → (vp_in x3 5 ∧ (((M_xs M x3.toNatClampNeg) = p1 → (vp_in x3 5 ∧ (((M_ys M x3.toNatClampNeg) = p2 → (post ((-3) : Int32) M)) ∧ (¬ (M_ys M x3.toNatClampNeg) = p2 → (∀ v10 : Int32, v10 = x3 + 1 → (K23 M v10)))))) ∧ (¬ (M_xs M x3.toNatClampNeg) = p1 → (∀ v8 : Int32, v8 = x3 + 1 → (K23 M v8))))))
def w_X4_point_23 (p1 : Int32) (p2 : Int32) (post : Int32 → MS → Prop) : Nat → MS → Int32 → Prop
  | 0, _, _ => False
  | n + 1, M, x3 => w_X4_point_23b p1 p2 (w_X4_point_23 p1 p2 post n) post M x3
def w_X4_point (p1 : Int32) (p2 : Int32) (post : Int32 → MS → Prop) (M : MS) : Prop :=
  v_X4_in p1 (0 : Int32) (4 : Int32) (fun r1 => (r1 = (0 : Int32) → (post ((-2) : Int32) M)) ∧ (¬ r1 = (0 : Int32) → (v_X4_in p2 (0 : Int32) (4 : Int32) (fun r3 => (r3 = (0 : Int32) → (post ((-2) : Int32) M)) ∧ (¬ r3 = (0 : Int32) → (∃ n, w_X4_point_23 p1 p2 post n M 0))))))
abbrev rmX4_point : Room := { frames := 1, cells := 0, slots := 0, locals := 22 }
set_option maxHeartbeats 4000000 in
set_option maxRecDepth 100000 in
theorem k_X4_point_108b {p : Program} {l : Launch} {e : Env} {s : State} {m : MethodId} {args : Array Value} {below : List Frame} {meth : Method} {c : Code} {D : va_G} {dT : Nat → ClassId} {a : Nat → Nat} {A : Nat → Prop}  {p1 : Int32} {p2 : Int32} {K108 : MS → Int32 → Prop} {post : Int32 → MS → Prop} (hC : wCx RX4 cX4_point 4 (some .int) D dT p s m args meth c) (hA : wAz A s) (hK108 : ∀ (M : MS) (x3 : Int32), K108 M x3 → ∀ {H : Heap} {locs : List Loc} {ls : Array Slot}, StM D dT a A s M H locs → lv_has ls 4 [(0, .ref (a 0)), (3, .int x3)] → W p l e rmX4_point s m args below meth c H locs 0 0 (MQ below (va_Qi post (wB D (MW dT a) MI A) A) args s 0 0 A) (F0 m 108 ls [])) (M : MS) (x3 : Int32) {H : Heap} {locs : List Loc} {ls : Array Slot} (hS : StM D dT a A s M H locs) (hl : lv_has ls 4 [(0, .ref (a 0)), (3, .int x3)])  (hw : w_X4_point_108b p1 p2 K108 post M x3) : W p l e rmX4_point s m args below meth c H locs 0 0 (MQ below (va_Qi post (wB D (MW dT a) MI A) A) args s 0 0 A) (F0 m 108 ls []) := by
  have hx := hC.1
  have hb := hC.2.1
  have hown := hC.2.2.2.1
  have hts := hC.2.2.2.2.1
  unfold w_X4_point_108b at hw
  refine lv_iload_n hx hb dX4_point_108 rfl (lv_at hl 1 rfl) ?_
  refine lv_iconst (v := 2) hx hb dX4_point_109 (by decide) ?_
  refine lv_aload_n hx hb dX4_point_110 rfl (lv_at hl 0 rfl) ?_
  refine ld_q940 hC hS dX4_point_111 ?_
  refine lv_imul hx hb dX4_point_114 ?_
  refine lv_iconst (v := 2) hx hb dX4_point_115 (by decide) ?_
  refine lv_iadd hx hb dX4_point_116 ?_
  refine lv_icmp_ge (tgt := 140) hx hb dX4_point_117 (by decide) (fun c1 => ?_) (fun c1 => ?_)
  · have hw := hw.1 c1
    refine lv_aload_n hx hb dX4_point_140 rfl (lv_at hl 0 rfl) ?_
    refine lv_dup hx hb dX4_point_141 rfl ?_
    refine ld_q940 hC hS dX4_point_142 ?_
    refine lv_iconst (v := 1) hx hb dX4_point_145 (by decide) ?_
    refine lv_iadd hx hb dX4_point_146 ?_
    refine st_q940 hC hS dX4_point_147 (fun H locs hS => ?_)
    have hw := hw (sM_points M ((M_points M) + 1)) rfl
    generalize sM_points M ((M_points M) + 1) = M2 at hS hw
    refine lv_aload_n hx hb dX4_point_150 rfl (lv_at hl 0 rfl) ?_
    refine lv_iconst (v := 0) hx hb dX4_point_151 (by decide) ?_
    refine st_q948 hC hS (by decide) dX4_point_152 (fun H locs hS => ?_)
    have hw := hw (sM_isKnown M2 0) rfl
    generalize sM_isKnown M2 0 = M3 at hS hw
    refine lv_aload_n hx hb dX4_point_155 rfl (lv_at hl 0 rfl) ?_
    refine ld_q940 hC hS dX4_point_156 ?_
    refine lv_iconst (v := 1) hx hb dX4_point_159 (by decide) ?_
    refine lv_isub hx hb dX4_point_160 ?_
    exact wReti hC hS hw (Nat.le_refl _) (Nat.le_refl _) dX4_point_161
  · have hw := hw.2 c1
    refine lv_aload_n hx hb dX4_point_120 rfl (lv_at hl 0 rfl) ?_
    refine ld_q938 hC hS dX4_point_121 ?_
    refine lv_iload_n hx hb dX4_point_124 rfl (lv_at hl 1 rfl) ?_
    refine lv_iconst (v := 0) hx hb dX4_point_125 (by decide) ?_
    have hi := hw.1
    have hw := hw.2
    refine as_loads hC hS hi dX4_point_126 (fun H locs hS => ?_)
    have hw := hw (sM_loads M (upd (M_loads M) x3.toNatClampNeg 0)) rfl
    generalize sM_loads M (upd (M_loads M) x3.toNatClampNeg 0) = M4 at hS hw
    refine lv_aload_n hx hb dX4_point_127 rfl (lv_at hl 0 rfl) ?_
    refine ld_q939 hC hS dX4_point_128 ?_
    refine lv_iload_n hx hb dX4_point_131 rfl (lv_at hl 1 rfl) ?_
    refine lv_iconst (v := 0) hx hb dX4_point_132 (by decide) ?_
    have hi := hw.1
    have hw := hw.2
    refine as_shifts hC hS hi dX4_point_133 (fun H locs hS => ?_)
    have hw := hw (sM_shifts M4 (upd (M_shifts M4) x3.toNatClampNeg 0)) rfl
    generalize sM_shifts M4 (upd (M_shifts M4) x3.toNatClampNeg 0) = M5 at hS hw
    obtain ⟨v6, ev6⟩ : ∃ y : Int32, y = x3 + 1 := ⟨_, rfl⟩
    have hw := hw v6 ev6
    refine lv_iinc (v := v6) (lv' := [(3, .int v6), (0, .ref (a 0))]) hx hb dX4_point_134 hl (k := 1) rfl (by rw [ev6]; rfl) (by decide) rfl (fun ls hl => ?_)
    refine lv_goto (tgt := 108) hx hb dX4_point_137 (by decide) ?_
    exact hK108 _ _ hw hS (lv_sub hl [1, 0] rfl)
set_option maxHeartbeats 4000000 in
set_option maxRecDepth 100000 in
theorem k_X4_point_108 {p : Program} {l : Launch} {e : Env} {s : State} {m : MethodId} {args : Array Value} {below : List Frame} {meth : Method} {c : Code} {D : va_G} {dT : Nat → ClassId} {a : Nat → Nat} {A : Nat → Prop}  {p1 : Int32} {p2 : Int32} {post : Int32 → MS → Prop} (hC : wCx RX4 cX4_point 4 (some .int) D dT p s m args meth c) (hA : wAz A s) : ∀ (M : MS) (x3 : Int32) (n : Nat), ∀ {H : Heap} {locs : List Loc} {ls : Array Slot}, StM D dT a A s M H locs → lv_has ls 4 [(0, .ref (a 0)), (3, .int x3)] → w_X4_point_108 p1 p2 post n M x3 → W p l e rmX4_point s m args below meth c H locs 0 0 (MQ below (va_Qi post (wB D (MW dT a) MI A) A) args s 0 0 A) (F0 m 108 ls []) := by
  intro M x3 n
  induction n generalizing M x3 with
  | zero => intro H locs ls  hS hl hw; exact hw.elim
  | succ n ih =>
    intro H locs ls  hS hl hw
    exact k_X4_point_108b hC hA (fun M x3 hk {H} {locs} {ls}  hS hl => ih M x3  hS hl hk) M x3  hS hl hw
set_option maxHeartbeats 4000000 in
set_option maxRecDepth 100000 in
theorem k_X4_point_23b {p : Program} {l : Launch} {e : Env} {s : State} {m : MethodId} {args : Array Value} {below : List Frame} {meth : Method} {c : Code} {D : va_G} {dT : Nat → ClassId} {a : Nat → Nat} {A : Nat → Prop}  {p1 : Int32} {p2 : Int32} {K23 : MS → Int32 → Prop} {post : Int32 → MS → Prop} (hC : wCx RX4 cX4_point 4 (some .int) D dT p s m args meth c) (hA : wAz A s) (hK23 : ∀ (M : MS) (x3 : Int32), K23 M x3 → ∀ {H : Heap} {locs : List Loc} {ls : Array Slot}, StM D dT a A s M H locs → lv_has ls 4 [(0, .ref (a 0)), (1, .int p1), (2, .int p2), (3, .int x3)] → W p l e rmX4_point s m args below meth c H locs 0 0 (MQ below (va_Qi post (wB D (MW dT a) MI A) A) args s 0 0 A) (F0 m 23 ls [])) (M : MS) (x3 : Int32) {H : Heap} {locs : List Loc} {ls : Array Slot} (hS : StM D dT a A s M H locs) (hl : lv_has ls 4 [(0, .ref (a 0)), (1, .int p1), (2, .int p2), (3, .int x3)])  (hw : w_X4_point_23b p1 p2 K23 post M x3) : W p l e rmX4_point s m args below meth c H locs 0 0 (MQ below (va_Qi post (wB D (MW dT a) MI A) A) args s 0 0 A) (F0 m 23 ls []) := by
  have hx := hC.1
  have hb := hC.2.1
  have hown := hC.2.2.2.1
  have hts := hC.2.2.2.2.1
  unfold w_X4_point_23b at hw
  refine lv_iload_n hx hb dX4_point_23 rfl (lv_at hl 3 rfl) ?_
  refine lv_aload_n hx hb dX4_point_24 rfl (lv_at hl 0 rfl) ?_
  refine ld_q940 hC hS dX4_point_25 ?_
  refine lv_icmp_ge (tgt := 60) hx hb dX4_point_28 (by decide) (fun c1 => ?_) (fun c1 => ?_)
  · have hw := hw.1 c1
    refine lv_aload_n hx hb dX4_point_60 rfl (lv_at hl 0 rfl) ?_
    refine ld_q940 hC hS dX4_point_61 ?_
    refine lv_iconst (v := 5) hx hb dX4_point_64 (by decide) ?_
    refine lv_icmp_ne (tgt := 71) hx hb dX4_point_65 (by decide) (fun c2 => ?_) (fun c2 => ?_)
    · have hw := hw.2 c2
      refine lv_aload_n hx hb dX4_point_71 rfl (lv_at hl 0 rfl) ?_
      refine ld_q935 hC hS dX4_point_72 ?_
      refine lv_aload_n hx hb dX4_point_75 rfl (lv_at hl 0 rfl) ?_
      refine ld_q940 hC hS dX4_point_76 ?_
      refine lv_iload_n hx hb dX4_point_79 rfl (lv_at hl 1 rfl) ?_
      have hi := hw.1
      have hw := hw.2
      refine as_xs hC hS hi dX4_point_80 (fun H locs hS => ?_)
      have hw := hw (sM_xs M (upd (M_xs M) (M_points M).toNatClampNeg p1)) rfl
      generalize sM_xs M (upd (M_xs M) (M_points M).toNatClampNeg p1) = M3 at hS hw
      refine lv_aload_n hx hb dX4_point_81 rfl (lv_at hl 0 rfl) ?_
      refine ld_q936 hC hS dX4_point_82 ?_
      refine lv_aload_n hx hb dX4_point_85 rfl (lv_at hl 0 rfl) ?_
      refine ld_q940 hC hS dX4_point_86 ?_
      refine lv_iload_n hx hb dX4_point_89 rfl (lv_at hl 2 rfl) ?_
      have hi := hw.1
      have hw := hw.2
      refine as_ys hC hS hi dX4_point_90 (fun H locs hS => ?_)
      have hw := hw (sM_ys M3 (upd (M_ys M3) (M_points M3).toNatClampNeg p2)) rfl
      generalize sM_ys M3 (upd (M_ys M3) (M_points M3).toNatClampNeg p2) = M4 at hS hw
      refine lv_aload_n hx hb dX4_point_91 rfl (lv_at hl 0 rfl) ?_
      refine ld_q937 hC hS dX4_point_92 ?_
      refine lv_aload_n hx hb dX4_point_95 rfl (lv_at hl 0 rfl) ?_
      refine ld_q940 hC hS dX4_point_96 ?_
      refine lv_iconst (v := 0) hx hb dX4_point_99 (by decide) ?_
      have hi := hw.1
      have hw := hw.2
      refine as_helds hC hS hi dX4_point_100 (fun H locs hS => ?_)
      have hw := hw (sM_helds M4 (upd (M_helds M4) (M_points M4).toNatClampNeg 0)) rfl
      generalize sM_helds M4 (upd (M_helds M4) (M_points M4).toNatClampNeg 0) = M5 at hS hw
      refine lv_iconst (v := 2) hx hb dX4_point_101 (by decide) ?_
      refine lv_aload_n hx hb dX4_point_102 rfl (lv_at hl 0 rfl) ?_
      refine ld_q940 hC hS dX4_point_103 ?_
      refine lv_imul hx hb dX4_point_106 ?_
      refine lv_topi (fun v6 ev6 => ?_)
      have hw := hw v6 ev6
      refine lv_istore_n (lv' := [(3, .int v6), (0, .ref (a 0)), (1, .int p1), (2, .int p2)]) hx hb dX4_point_107 rfl hl (by decide) rfl (fun ls hl => ?_)
      obtain ⟨n, hw⟩ := hw
      exact k_X4_point_108 hC hA _ _ n hS (lv_sub hl [1, 0] rfl) hw
    · have hw := hw.1 c2
      refine lv_bipush (v := (-4)) hx hb dX4_point_68 (by decide) ?_
      exact wReti hC hS hw (Nat.le_refl _) (Nat.le_refl _) dX4_point_70
  · have hw := hw.2 c1
    refine lv_aload_n hx hb dX4_point_31 rfl (lv_at hl 0 rfl) ?_
    refine ld_q935 hC hS dX4_point_32 ?_
    refine lv_iload_n hx hb dX4_point_35 rfl (lv_at hl 3 rfl) ?_
    refine al_xs hC hS hw.1 dX4_point_36 ?_
    have hw := hw.2
    refine lv_iload_n hx hb dX4_point_37 rfl (lv_at hl 1 rfl) ?_
    refine lv_icmp_ne (tgt := 54) hx hb dX4_point_38 (by decide) (fun c7 => ?_) (fun c7 => ?_)
    · have hw := hw.2 c7
      obtain ⟨v8, ev8⟩ : ∃ y : Int32, y = x3 + 1 := ⟨_, rfl⟩
      have hw := hw v8 ev8
      refine lv_iinc (v := v8) (lv' := [(3, .int v8), (0, .ref (a 0)), (1, .int p1), (2, .int p2)]) hx hb dX4_point_54 hl (k := 3) rfl (by rw [ev8]; rfl) (by decide) rfl (fun ls hl => ?_)
      refine lv_goto (tgt := 23) hx hb dX4_point_57 (by decide) ?_
      exact hK23 _ _ hw hS (lv_sub hl [1, 2, 3, 0] rfl)
    · have hw := hw.1 c7
      refine lv_aload_n hx hb dX4_point_41 rfl (lv_at hl 0 rfl) ?_
      refine ld_q936 hC hS dX4_point_42 ?_
      refine lv_iload_n hx hb dX4_point_45 rfl (lv_at hl 3 rfl) ?_
      refine al_ys hC hS hw.1 dX4_point_46 ?_
      have hw := hw.2
      refine lv_iload_n hx hb dX4_point_47 rfl (lv_at hl 2 rfl) ?_
      refine lv_icmp_ne (tgt := 54) hx hb dX4_point_48 (by decide) (fun c9 => ?_) (fun c9 => ?_)
      · have hw := hw.2 c9
        obtain ⟨v10, ev10⟩ : ∃ y : Int32, y = x3 + 1 := ⟨_, rfl⟩
        have hw := hw v10 ev10
        refine lv_iinc (v := v10) (lv' := [(3, .int v10), (0, .ref (a 0)), (1, .int p1), (2, .int p2)]) hx hb dX4_point_54 hl (k := 3) rfl (by rw [ev10]; rfl) (by decide) rfl (fun ls hl => ?_)
        refine lv_goto (tgt := 23) hx hb dX4_point_57 (by decide) ?_
        exact hK23 _ _ hw hS (lv_sub hl [1, 2, 3, 0] rfl)
      · have hw := hw.1 c9
        refine lv_bipush (v := (-3)) hx hb dX4_point_51 (by decide) ?_
        exact wReti hC hS hw (Nat.le_refl _) (Nat.le_refl _) dX4_point_53
set_option maxHeartbeats 4000000 in
set_option maxRecDepth 100000 in
theorem k_X4_point_23 {p : Program} {l : Launch} {e : Env} {s : State} {m : MethodId} {args : Array Value} {below : List Frame} {meth : Method} {c : Code} {D : va_G} {dT : Nat → ClassId} {a : Nat → Nat} {A : Nat → Prop}  {p1 : Int32} {p2 : Int32} {post : Int32 → MS → Prop} (hC : wCx RX4 cX4_point 4 (some .int) D dT p s m args meth c) (hA : wAz A s) : ∀ (M : MS) (x3 : Int32) (n : Nat), ∀ {H : Heap} {locs : List Loc} {ls : Array Slot}, StM D dT a A s M H locs → lv_has ls 4 [(0, .ref (a 0)), (1, .int p1), (2, .int p2), (3, .int x3)] → w_X4_point_23 p1 p2 post n M x3 → W p l e rmX4_point s m args below meth c H locs 0 0 (MQ below (va_Qi post (wB D (MW dT a) MI A) A) args s 0 0 A) (F0 m 23 ls []) := by
  intro M x3 n
  induction n generalizing M x3 with
  | zero => intro H locs ls  hS hl hw; exact hw.elim
  | succ n ih =>
    intro H locs ls  hS hl hw
    exact k_X4_point_23b hC hA (fun M x3 hk {H} {locs} {ls}  hS hl => ih M x3  hS hl hk) M x3  hS hl hw
set_option maxHeartbeats 4000000 in
set_option maxRecDepth 100000 in
theorem k_X4_point_0 {p : Program} {l : Launch} {e : Env} {s : State} {m : MethodId} {args : Array Value} {below : List Frame} {meth : Method} {c : Code} {D : va_G} {dT : Nat → ClassId} {a : Nat → Nat} {A : Nat → Prop}  {p1 : Int32} {p2 : Int32} {post : Int32 → MS → Prop} (hC : wCx RX4 cX4_point 4 (some .int) D dT p s m args meth c) (hA : wAz A s) (M : MS) {H : Heap} {locs : List Loc} {ls : Array Slot} (hS : StM D dT a A s M H locs) (hl : lv_has ls 4 [(0, .ref (a 0)), (1, .int p1), (2, .int p2)])  (hw : w_X4_point p1 p2 post M) : W p l e rmX4_point s m args below meth c H locs 0 0 (MQ below (va_Qi post (wB D (MW dT a) MI A) A) args s 0 0 A) (F0 m 0 ls []) := by
  have hx := hC.1
  have hb := hC.2.1
  have hown := hC.2.2.2.1
  have hts := hC.2.2.2.2.1
  unfold w_X4_point at hw
  refine lv_iload_n hx hb dX4_point_0 rfl (lv_at hl 1 rfl) ?_
  refine lv_iconst (v := 0) hx hb dX4_point_1 (by decide) ?_
  refine lv_iconst (v := 4) hx hb dX4_point_2 (by decide) ?_
  refine inv_q1007 hC hS hl.1 hw ⟨Nat.le_of_ble_eq_true rfl, Nat.le_of_ble_eq_true rfl⟩ (Nat.le_of_ble_eq_true rfl) ⟨Nat.zero_le _, Nat.zero_le _⟩ dX4_point_3 (fun r1 H locs hw hS => ?_)
  refine lv_if_eq (tgt := 18) hx hb dX4_point_6 (by decide) (fun c2 => ?_) (fun c2 => ?_)
  · have hw := hw.1 c2
    refine lv_bipush (v := (-2)) hx hb dX4_point_18 (by decide) ?_
    exact wReti hC hS hw (Nat.le_refl _) (Nat.le_refl _) dX4_point_20
  · have hw := hw.2 c2
    refine lv_iload_n hx hb dX4_point_9 rfl (lv_at hl 2 rfl) ?_
    refine lv_iconst (v := 0) hx hb dX4_point_10 (by decide) ?_
    refine lv_iconst (v := 4) hx hb dX4_point_11 (by decide) ?_
    refine inv_q1007 hC hS hl.1 hw ⟨Nat.le_of_ble_eq_true rfl, Nat.le_of_ble_eq_true rfl⟩ (Nat.le_of_ble_eq_true rfl) ⟨Nat.zero_le _, Nat.zero_le _⟩ dX4_point_12 (fun r3 H locs hw hS => ?_)
    refine lv_if_ne (tgt := 21) hx hb dX4_point_15 (by decide) (fun c4 => ?_) (fun c4 => ?_)
    · have hw := hw.2 c4
      refine lv_iconst (v := 0) hx hb dX4_point_21 (by decide) ?_
      refine lv_istore_n (lv' := [(3, .int 0), (0, .ref (a 0)), (1, .int p1), (2, .int p2)]) hx hb dX4_point_22 rfl hl (by decide) rfl (fun ls hl => ?_)
      obtain ⟨n, hw⟩ := hw
      exact k_X4_point_23 hC hA _ _ n hS (lv_sub hl [1, 2, 3, 0] rfl) hw
    · have hw := hw.1 c4
      refine lv_bipush (v := (-2)) hx hb dX4_point_18 (by decide) ?_
      exact wReti hC hS hw (Nat.le_refl _) (Nat.le_refl _) dX4_point_20
abbrev v_X4_point (M : MS) (p1 : Int32) (p2 : Int32) (post : Int32 → MS → Prop) : Prop := w_X4_point p1 p2 post M
set_option maxHeartbeats 4000000 in
set_option maxRecDepth 100000 in
theorem met_X4_point (l : Launch) (D : va_G) (dT : Nat → ClassId) (a : Nat → Nat) (sz : Nat) (M : MS) (p1 : Int32) (p2 : Int32) (post : Int32 → MS → Prop) (hw : v_X4_point M p1 p2 post) : Met l yX4_point (ws_ yX4_point cX4_point 4 (some .int)) rmX4_point (wPc D dT (MW dT a) MI sz M [.ref (a 0), .int p1, .int p2]) (va_Qi post (wB D (MW dT a) MI (va_A ((MW dT a) M) sz)) (va_A ((MW dT a) M) sz)) 0 0 (va_A ((MW dT a) M) sz) :=
  wEnt (Q := fun A => (va_Qi post (wB D (MW dT a) MI A) A)) (by decide) (Nat.le_of_ble_eq_true rfl) (fun p e s m below meth c A ls hC _ hA hS hl => k_X4_point_0 hC hA _ hS hl hw) sz
theorem hd_X4_point : yX4_point.cls ≠ "java/lang/invoke/MethodHandle" ∧ yX4_point.cls ≠ "java/lang/invoke/VarHandle" ∧ (parseMethodDescriptor yX4_point.desc).map (fun d => d.parameters.length) = some 2 := by decide +kernel
/-! LeastFramesModel.pairs -/
def w_X4_pairs (M : MS) (post : Int32 → Prop) : Prop :=
  post (((M_points M) * ((M_points M) - 1)) / 2)
abbrev rmX4_pairs : Room := { frames := 0, cells := 0, slots := 0, locals := 0 }
set_option maxHeartbeats 4000000 in
set_option maxRecDepth 100000 in
theorem k_X4_pairs_0 {p : Program} {l : Launch} {e : Env} {s : State} {m : MethodId} {args : Array Value} {below : List Frame} {meth : Method} {c : Code} {D : va_G} {dT : Nat → ClassId} {a : Nat → Nat} {A : Nat → Prop}  {M : MS} {post : Int32 → Prop} (hC : wCx RX4 cX4_pairs 1 (some .int) D dT p s m args meth c) (hA : wAz A s) {H : Heap} {locs : List Loc} {ls : Array Slot} (hS : StM D dT a A s M H locs) (hl : lv_has ls 1 [(0, .ref (a 0))])  (hw : w_X4_pairs M post) : W p l e rmX4_pairs s m args below meth c H locs 0 0 (MQ below (va_Qi (fun r M9 => M9 = M ∧ post r) (wB D (MW dT a) MI A) A) args s 0 0 A) (F0 m 0 ls []) := by
  have hx := hC.1
  have hb := hC.2.1
  have hown := hC.2.2.2.1
  have hts := hC.2.2.2.2.1
  unfold w_X4_pairs at hw
  refine lv_aload_n hx hb dX4_pairs_0 rfl (lv_at hl 0 rfl) ?_
  refine ld_q940 hC hS dX4_pairs_1 ?_
  refine lv_aload_n hx hb dX4_pairs_4 rfl (lv_at hl 0 rfl) ?_
  refine ld_q940 hC hS dX4_pairs_5 ?_
  refine lv_iconst (v := 1) hx hb dX4_pairs_8 (by decide) ?_
  refine lv_isub hx hb dX4_pairs_9 ?_
  refine lv_imul hx hb dX4_pairs_10 ?_
  refine lv_iconst (v := 2) hx hb dX4_pairs_11 (by decide) ?_
  refine lv_idiv hx hb dX4_pairs_12 (by decide) ?_
  exact wReti hC hS ⟨rfl, hw⟩ (Nat.le_refl _) (Nat.le_refl _) dX4_pairs_13
abbrev v_X4_pairs (M : MS) (post : Int32 → Prop) : Prop := w_X4_pairs M post
set_option maxHeartbeats 4000000 in
set_option maxRecDepth 100000 in
theorem met_X4_pairs (l : Launch) (D : va_G) (dT : Nat → ClassId) (a : Nat → Nat) (sz : Nat) (M : MS) (post : Int32 → Prop) (hw : v_X4_pairs M post) : Met l yX4_pairs (ws_ yX4_pairs cX4_pairs 1 (some .int)) rmX4_pairs (wPc D dT (MW dT a) MI sz M [.ref (a 0)]) (va_Qi (fun r M9 => M9 = M ∧ post r) (wB D (MW dT a) MI (va_A ((MW dT a) M) sz)) (va_A ((MW dT a) M) sz)) 0 0 (va_A ((MW dT a) M) sz) :=
  wEnt (Q := fun A => (va_Qi (fun r M9 => M9 = M ∧ post r) (wB D (MW dT a) MI A) A)) (by decide) (Nat.le_of_ble_eq_true rfl) (fun p e s m below meth c A ls hC _ hA hS hl => k_X4_pairs_0 hC hA  hS hl hw) sz
theorem hd_X4_pairs : yX4_pairs.cls ≠ "java/lang/invoke/MethodHandle" ∧ yX4_pairs.cls ≠ "java/lang/invoke/VarHandle" ∧ (parseMethodDescriptor yX4_pairs.desc).map (fun d => d.parameters.length) = some 0 := by decide +kernel
section
variable {p : Program} {l : Launch} {e : Env} {R : Room} {s : State} {m : MethodId} {args : Array Value} {below : List Frame} {meth : Method} {c : Code} {H : Heap} {locs : List Loc} {cells slots : Nat} {Q : State → Prop} {cc : ByteArray} {nL : Nat} {ret : Option FieldType} {pc : Nat} {ls : Array Slot} {rest : List Value}
set_option maxHeartbeats 4000000 in
set_option maxRecDepth 100000 in
theorem inv_q1014 {D : va_G} {dT : Nat → ClassId} {a : Nat → Nat} {A : Nat → Prop} {M : MS} {post : Int32 → Prop} (hC : wCx RX4 cc nL ret D dT p s m args meth c) (hA : wAz A s) (hS : StM D dT a A s M H locs) (hl : ls.size = nL) (hw : v_X4_pairs M post) (hR : rmX4_pairs.frames + 1 ≤ R.frames ∧ 8 + (1 + 11) + rmX4_pairs.locals ≤ R.locals) (hrest : (rest.map fun v => v.category).sum ≤ 8) (hf : cells ≤ R.cells ∧ slots ≤ R.slots) (hdg : decode cc pc = .ok (.invokevirtual 68, 3)) (kk : ∀ (r : Int32) (H1 : Heap) (locs1 : List Loc), post r → StM D dT a A s M H1 locs1 → W p l e R s m args below meth c H1 locs1 cells slots Q (F0 m (pc + 3) ls (.int r :: rest))) : W p l e R s m args below meth c H locs cells slots Q (F0 m pc ls (.ref (a 0) :: rest)) := by
  exact wCallVi (As := []) (rest := rest) (mc := 0) (ms := 0) 0 hC (met_X4_pairs l D dT a H.size M post hw) (lw_V q1014 q1016 qs46 q89 q1017) ⟨⟨rfl, rfl⟩, hd_X4_pairs, hR, hf⟩ rfl rfl rfl hA hS hl rfl hrest hdg (fun r u H1 locs1 hp hS1 => kk r H1 locs1 hp.2 (hp.1 ▸ hS1))
end
/-! LeastFramesModel.back -/
def w_X4_back (post : Int32 → MS → Prop) (M : MS) : Prop :=
  ((M_points M) = (0 : Int32) → (post ((-3) : Int32) M)) ∧ (¬ (M_points M) = (0 : Int32) → (∀ M2 : MS, M2 = sM_points M ((M_points M) - 1) → (v_X4_pairs M2 (fun r3 => ∀ M4 : MS, M4 = sM_bars M2 ((M_bars M2) &&& ((1 <<< (r3 &&& 31)) - 1)) → (∀ M5 : MS, M5 = sM_isKnown M4 0 → (post (M_points M5) M5))))))
abbrev rmX4_back : Room := { frames := 1, cells := 0, slots := 0, locals := 20 }
set_option maxHeartbeats 4000000 in
set_option maxRecDepth 100000 in
theorem k_X4_back_0 {p : Program} {l : Launch} {e : Env} {s : State} {m : MethodId} {args : Array Value} {below : List Frame} {meth : Method} {c : Code} {D : va_G} {dT : Nat → ClassId} {a : Nat → Nat} {A : Nat → Prop}  {post : Int32 → MS → Prop} (hC : wCx RX4 cX4_back 1 (some .int) D dT p s m args meth c) (hA : wAz A s) (M : MS) {H : Heap} {locs : List Loc} {ls : Array Slot} (hS : StM D dT a A s M H locs) (hl : lv_has ls 1 [(0, .ref (a 0))])  (hw : w_X4_back post M) : W p l e rmX4_back s m args below meth c H locs 0 0 (MQ below (va_Qi post (wB D (MW dT a) MI A) A) args s 0 0 A) (F0 m 0 ls []) := by
  have hx := hC.1
  have hb := hC.2.1
  have hown := hC.2.2.2.1
  have hts := hC.2.2.2.2.1
  unfold w_X4_back at hw
  refine lv_aload_n hx hb dX4_back_0 rfl (lv_at hl 0 rfl) ?_
  refine ld_q940 hC hS dX4_back_1 ?_
  refine lv_if_ne (tgt := 10) hx hb dX4_back_4 (by decide) (fun c1 => ?_) (fun c1 => ?_)
  · have hw := hw.2 c1
    refine lv_aload_n hx hb dX4_back_10 rfl (lv_at hl 0 rfl) ?_
    refine lv_dup hx hb dX4_back_11 rfl ?_
    refine ld_q940 hC hS dX4_back_12 ?_
    refine lv_iconst (v := 1) hx hb dX4_back_15 (by decide) ?_
    refine lv_isub hx hb dX4_back_16 ?_
    refine st_q940 hC hS dX4_back_17 (fun H locs hS => ?_)
    have hw := hw (sM_points M ((M_points M) - 1)) rfl
    generalize sM_points M ((M_points M) - 1) = M2 at hS hw
    refine lv_aload_n hx hb dX4_back_20 rfl (lv_at hl 0 rfl) ?_
    refine lv_dup hx hb dX4_back_21 rfl ?_
    refine ld_q941 hC hS dX4_back_22 ?_
    refine lv_iconst (v := 1) hx hb dX4_back_25 (by decide) ?_
    refine lv_aload_n hx hb dX4_back_26 rfl (lv_at hl 0 rfl) ?_
    refine inv_q1014 hC hA hS hl.1 hw ⟨Nat.le_of_ble_eq_true rfl, Nat.le_of_ble_eq_true rfl⟩ (Nat.le_of_ble_eq_true rfl) ⟨Nat.zero_le _, Nat.zero_le _⟩ dX4_back_27 (fun r3 H locs hw hS => ?_)
    refine lv_ishl hx hb dX4_back_30 ?_
    refine lv_iconst (v := 1) hx hb dX4_back_31 (by decide) ?_
    refine lv_isub hx hb dX4_back_32 ?_
    refine lv_iand hx hb dX4_back_33 ?_
    refine st_q941 hC hS dX4_back_34 (fun H locs hS => ?_)
    have hw := hw (sM_bars M2 ((M_bars M2) &&& ((1 <<< (r3 &&& 31)) - 1))) rfl
    generalize sM_bars M2 ((M_bars M2) &&& ((1 <<< (r3 &&& 31)) - 1)) = M4 at hS hw
    refine lv_aload_n hx hb dX4_back_37 rfl (lv_at hl 0 rfl) ?_
    refine lv_iconst (v := 0) hx hb dX4_back_38 (by decide) ?_
    refine st_q948 hC hS (by decide) dX4_back_39 (fun H locs hS => ?_)
    have hw := hw (sM_isKnown M4 0) rfl
    generalize sM_isKnown M4 0 = M5 at hS hw
    refine lv_aload_n hx hb dX4_back_42 rfl (lv_at hl 0 rfl) ?_
    refine ld_q940 hC hS dX4_back_43 ?_
    exact wReti hC hS hw (Nat.le_refl _) (Nat.le_refl _) dX4_back_46
  · have hw := hw.1 c1
    refine lv_bipush (v := (-3)) hx hb dX4_back_7 (by decide) ?_
    exact wReti hC hS hw (Nat.le_refl _) (Nat.le_refl _) dX4_back_9
abbrev v_X4_back (M : MS) (post : Int32 → MS → Prop) : Prop := w_X4_back post M
set_option maxHeartbeats 4000000 in
set_option maxRecDepth 100000 in
theorem met_X4_back (l : Launch) (D : va_G) (dT : Nat → ClassId) (a : Nat → Nat) (sz : Nat) (M : MS) (post : Int32 → MS → Prop) (hw : v_X4_back M post) : Met l yX4_back (ws_ yX4_back cX4_back 1 (some .int)) rmX4_back (wPc D dT (MW dT a) MI sz M [.ref (a 0)]) (va_Qi post (wB D (MW dT a) MI (va_A ((MW dT a) M) sz)) (va_A ((MW dT a) M) sz)) 0 0 (va_A ((MW dT a) M) sz) :=
  wEnt (Q := fun A => (va_Qi post (wB D (MW dT a) MI A) A)) (by decide) (Nat.le_of_ble_eq_true rfl) (fun p e s m below meth c A ls hC _ hA hS hl => k_X4_back_0 hC hA _ hS hl hw) sz
theorem hd_X4_back : yX4_back.cls ≠ "java/lang/invoke/MethodHandle" ∧ yX4_back.cls ≠ "java/lang/invoke/VarHandle" ∧ (parseMethodDescriptor yX4_back.desc).map (fun d => d.parameters.length) = some 0 := by decide +kernel
/-! LeastFramesModel.isPoint -/
def w_X4_isPoint (M : MS) (p1 : Int32) (post : Int32 → Prop) : Prop :=
  v_X4_in p1 (0 : Int32) ((M_points M) - 1) (fun r1 => (r1 &&& 1 = r1) ∧ (post r1))
abbrev rmX4_isPoint : Room := { frames := 1, cells := 0, slots := 0, locals := 22 }
set_option maxHeartbeats 4000000 in
set_option maxRecDepth 100000 in
theorem k_X4_isPoint_0 {p : Program} {l : Launch} {e : Env} {s : State} {m : MethodId} {args : Array Value} {below : List Frame} {meth : Method} {c : Code} {D : va_G} {dT : Nat → ClassId} {a : Nat → Nat} {A : Nat → Prop}  {M : MS} {p1 : Int32} {post : Int32 → Prop} (hC : wCx RX4 cX4_isPoint 2 (some .boolean) D dT p s m args meth c) (hA : wAz A s) {H : Heap} {locs : List Loc} {ls : Array Slot} (hS : StM D dT a A s M H locs) (hl : lv_has ls 2 [(0, .ref (a 0)), (1, .int p1)])  (hw : w_X4_isPoint M p1 post) : W p l e rmX4_isPoint s m args below meth c H locs 0 0 (MQ below (va_Qi (fun r M9 => M9 = M ∧ post r) (wB D (MW dT a) MI A) A) args s 0 0 A) (F0 m 0 ls []) := by
  have hx := hC.1
  have hb := hC.2.1
  have hown := hC.2.2.2.1
  have hts := hC.2.2.2.2.1
  unfold w_X4_isPoint at hw
  refine lv_iload_n hx hb dX4_isPoint_0 rfl (lv_at hl 1 rfl) ?_
  refine lv_iconst (v := 0) hx hb dX4_isPoint_1 (by decide) ?_
  refine lv_aload_n hx hb dX4_isPoint_2 rfl (lv_at hl 0 rfl) ?_
  refine ld_q940 hC hS dX4_isPoint_3 ?_
  refine lv_iconst (v := 1) hx hb dX4_isPoint_6 (by decide) ?_
  refine lv_isub hx hb dX4_isPoint_7 ?_
  refine inv_q1007 hC hS hl.1 hw ⟨Nat.le_of_ble_eq_true rfl, Nat.le_of_ble_eq_true rfl⟩ (Nat.le_of_ble_eq_true rfl) ⟨Nat.zero_le _, Nat.zero_le _⟩ dX4_isPoint_8 (fun r1 H locs hw hS => ?_)
  exact wRetz hC hS hw.1 ⟨rfl, hw.2⟩ (Nat.le_refl _) (Nat.le_refl _) dX4_isPoint_11
abbrev v_X4_isPoint (M : MS) (p1 : Int32) (post : Int32 → Prop) : Prop := w_X4_isPoint M p1 post
set_option maxHeartbeats 4000000 in
set_option maxRecDepth 100000 in
theorem met_X4_isPoint (l : Launch) (D : va_G) (dT : Nat → ClassId) (a : Nat → Nat) (sz : Nat) (M : MS) (p1 : Int32) (post : Int32 → Prop) (hw : v_X4_isPoint M p1 post) : Met l yX4_isPoint (ws_ yX4_isPoint cX4_isPoint 2 (some .boolean)) rmX4_isPoint (wPc D dT (MW dT a) MI sz M [.ref (a 0), .int p1]) (va_Qi (fun r M9 => M9 = M ∧ post r) (wB D (MW dT a) MI (va_A ((MW dT a) M) sz)) (va_A ((MW dT a) M) sz)) 0 0 (va_A ((MW dT a) M) sz) :=
  wEnt (Q := fun A => (va_Qi (fun r M9 => M9 = M ∧ post r) (wB D (MW dT a) MI A) A)) (by decide) (Nat.le_of_ble_eq_true rfl) (fun p e s m below meth c A ls hC _ hA hS hl => k_X4_isPoint_0 hC hA  hS hl hw) sz
theorem hd_X4_isPoint : yX4_isPoint.cls ≠ "java/lang/invoke/MethodHandle" ∧ yX4_isPoint.cls ≠ "java/lang/invoke/VarHandle" ∧ (parseMethodDescriptor yX4_isPoint.desc).map (fun d => d.parameters.length) = some 1 := by decide +kernel
section
variable {p : Program} {l : Launch} {e : Env} {R : Room} {s : State} {m : MethodId} {args : Array Value} {below : List Frame} {meth : Method} {c : Code} {H : Heap} {locs : List Loc} {cells slots : Nat} {Q : State → Prop} {cc : ByteArray} {nL : Nat} {ret : Option FieldType} {pc : Nat} {ls : Array Slot} {rest : List Value}
set_option maxHeartbeats 4000000 in
set_option maxRecDepth 100000 in
theorem inv_q1022 {D : va_G} {dT : Nat → ClassId} {a : Nat → Nat} {A : Nat → Prop} {M : MS} {p1 : Int32} {post : Int32 → Prop} (hC : wCx RX4 cc nL ret D dT p s m args meth c) (hA : wAz A s) (hS : StM D dT a A s M H locs) (hl : ls.size = nL) (hw : v_X4_isPoint M p1 post) (hR : rmX4_isPoint.frames + 1 ≤ R.frames ∧ 8 + (2 + 11) + rmX4_isPoint.locals ≤ R.locals) (hrest : (rest.map fun v => v.category).sum ≤ 8) (hf : cells ≤ R.cells ∧ slots ≤ R.slots) (hdg : decode cc pc = .ok (.invokevirtual 94, 3)) (kk : ∀ (r : Int32) (H1 : Heap) (locs1 : List Loc), post r → StM D dT a A s M H1 locs1 → W p l e R s m args below meth c H1 locs1 cells slots Q (F0 m (pc + 3) ls (.int r :: rest))) : W p l e R s m args below meth c H locs cells slots Q (F0 m pc ls (.int p1 :: .ref (a 0) :: rest)) := by
  exact wCallVi (As := [.int p1]) (rest := rest) (mc := 0) (ms := 0) 0 hC (met_X4_isPoint l D dT a H.size M p1 post hw) (lw_V q1022 q1024 qs47 q89 q1025) ⟨⟨rfl, rfl⟩, hd_X4_isPoint, hR, hf⟩ rfl rfl rfl hA hS hl rfl hrest hdg (fun r u H1 locs1 hp hS1 => kk r H1 locs1 hp.2 (hp.1 ▸ hS1))
end
/-! LeastFramesModel.hold -/
def w_X4_hold (p1 : Int32) (p2 : Int32) (post : Int32 → MS → Prop) (M : MS) : Prop :=
  v_X4_isPoint M p1 (fun r1 => (r1 = (0 : Int32) → (post ((-2) : Int32) M)) ∧ (¬ r1 = (0 : Int32) → (v_X4_in p2 (0 : Int32) (3 : Int32) (fun r3 => (r3 = (0 : Int32) → (post ((-2) : Int32) M)) ∧ (¬ r3 = (0 : Int32) → (vp_in p1 5 ∧ (∀ v5 : Int32, v5 = M_helds M p1.toNatClampNeg → (vp_in p1 5 ∧ (∀ M6 : MS, M6 = sM_helds M (upd (M_helds M) p1.toNatClampNeg p2) → (∀ M7 : MS, M7 = sM_isKnown M6 0 → (post v5 M7)))))))))))
abbrev rmX4_hold : Room := { frames := 2, cells := 0, slots := 0, locals := 43 }
set_option maxHeartbeats 4000000 in
set_option maxRecDepth 100000 in
theorem k_X4_hold_0 {p : Program} {l : Launch} {e : Env} {s : State} {m : MethodId} {args : Array Value} {below : List Frame} {meth : Method} {c : Code} {D : va_G} {dT : Nat → ClassId} {a : Nat → Nat} {A : Nat → Prop}  {p1 : Int32} {p2 : Int32} {post : Int32 → MS → Prop} (hC : wCx RX4 cX4_hold 4 (some .int) D dT p s m args meth c) (hA : wAz A s) (M : MS) {H : Heap} {locs : List Loc} {ls : Array Slot} (hS : StM D dT a A s M H locs) (hl : lv_has ls 4 [(0, .ref (a 0)), (1, .int p1), (2, .int p2)])  (hw : w_X4_hold p1 p2 post M) : W p l e rmX4_hold s m args below meth c H locs 0 0 (MQ below (va_Qi post (wB D (MW dT a) MI A) A) args s 0 0 A) (F0 m 0 ls []) := by
  have hx := hC.1
  have hb := hC.2.1
  have hown := hC.2.2.2.1
  have hts := hC.2.2.2.2.1
  unfold w_X4_hold at hw
  refine lv_aload_n hx hb dX4_hold_0 rfl (lv_at hl 0 rfl) ?_
  refine lv_iload_n hx hb dX4_hold_1 rfl (lv_at hl 1 rfl) ?_
  refine inv_q1022 hC hA hS hl.1 hw ⟨Nat.le_of_ble_eq_true rfl, Nat.le_of_ble_eq_true rfl⟩ (Nat.le_of_ble_eq_true rfl) ⟨Nat.zero_le _, Nat.zero_le _⟩ dX4_hold_2 (fun r1 H locs hw hS => ?_)
  refine lv_if_eq (tgt := 17) hx hb dX4_hold_5 (by decide) (fun c2 => ?_) (fun c2 => ?_)
  · have hw := hw.1 c2
    refine lv_bipush (v := (-2)) hx hb dX4_hold_17 (by decide) ?_
    exact wReti hC hS hw (Nat.le_refl _) (Nat.le_refl _) dX4_hold_19
  · have hw := hw.2 c2
    refine lv_iload_n hx hb dX4_hold_8 rfl (lv_at hl 2 rfl) ?_
    refine lv_iconst (v := 0) hx hb dX4_hold_9 (by decide) ?_
    refine lv_iconst (v := 3) hx hb dX4_hold_10 (by decide) ?_
    refine inv_q1007 hC hS hl.1 hw ⟨Nat.le_of_ble_eq_true rfl, Nat.le_of_ble_eq_true rfl⟩ (Nat.le_of_ble_eq_true rfl) ⟨Nat.zero_le _, Nat.zero_le _⟩ dX4_hold_11 (fun r3 H locs hw hS => ?_)
    refine lv_if_ne (tgt := 20) hx hb dX4_hold_14 (by decide) (fun c4 => ?_) (fun c4 => ?_)
    · have hw := hw.2 c4
      refine lv_aload_n hx hb dX4_hold_20 rfl (lv_at hl 0 rfl) ?_
      refine ld_q937 hC hS dX4_hold_21 ?_
      refine lv_iload_n hx hb dX4_hold_24 rfl (lv_at hl 1 rfl) ?_
      refine al_helds hC hS hw.1 dX4_hold_25 ?_
      have hw := hw.2
      refine lv_topi (fun v5 ev5 => ?_)
      have hw := hw v5 ev5
      refine lv_istore_n (lv' := [(3, .int v5), (0, .ref (a 0)), (1, .int p1), (2, .int p2)]) hx hb dX4_hold_26 rfl hl (by decide) rfl (fun ls hl => ?_)
      refine lv_aload_n hx hb dX4_hold_27 rfl (lv_at hl 1 rfl) ?_
      refine ld_q937 hC hS dX4_hold_28 ?_
      refine lv_iload_n hx hb dX4_hold_31 rfl (lv_at hl 2 rfl) ?_
      refine lv_iload_n hx hb dX4_hold_32 rfl (lv_at hl 3 rfl) ?_
      have hi := hw.1
      have hw := hw.2
      refine as_helds hC hS hi dX4_hold_33 (fun H locs hS => ?_)
      have hw := hw (sM_helds M (upd (M_helds M) p1.toNatClampNeg p2)) rfl
      generalize sM_helds M (upd (M_helds M) p1.toNatClampNeg p2) = M6 at hS hw
      refine lv_aload_n hx hb dX4_hold_34 rfl (lv_at hl 1 rfl) ?_
      refine lv_iconst (v := 0) hx hb dX4_hold_35 (by decide) ?_
      refine st_q948 hC hS (by decide) dX4_hold_36 (fun H locs hS => ?_)
      have hw := hw (sM_isKnown M6 0) rfl
      generalize sM_isKnown M6 0 = M7 at hS hw
      refine lv_iload_n hx hb dX4_hold_39 rfl (lv_at hl 0 rfl) ?_
      exact wReti hC hS hw (Nat.le_refl _) (Nat.le_refl _) dX4_hold_40
    · have hw := hw.1 c4
      refine lv_bipush (v := (-2)) hx hb dX4_hold_17 (by decide) ?_
      exact wReti hC hS hw (Nat.le_refl _) (Nat.le_refl _) dX4_hold_19
abbrev v_X4_hold (M : MS) (p1 : Int32) (p2 : Int32) (post : Int32 → MS → Prop) : Prop := w_X4_hold p1 p2 post M
set_option maxHeartbeats 4000000 in
set_option maxRecDepth 100000 in
theorem met_X4_hold (l : Launch) (D : va_G) (dT : Nat → ClassId) (a : Nat → Nat) (sz : Nat) (M : MS) (p1 : Int32) (p2 : Int32) (post : Int32 → MS → Prop) (hw : v_X4_hold M p1 p2 post) : Met l yX4_hold (ws_ yX4_hold cX4_hold 4 (some .int)) rmX4_hold (wPc D dT (MW dT a) MI sz M [.ref (a 0), .int p1, .int p2]) (va_Qi post (wB D (MW dT a) MI (va_A ((MW dT a) M) sz)) (va_A ((MW dT a) M) sz)) 0 0 (va_A ((MW dT a) M) sz) :=
  wEnt (Q := fun A => (va_Qi post (wB D (MW dT a) MI A) A)) (by decide) (Nat.le_of_ble_eq_true rfl) (fun p e s m below meth c A ls hC _ hA hS hl => k_X4_hold_0 hC hA _ hS hl hw) sz
theorem hd_X4_hold : yX4_hold.cls ≠ "java/lang/invoke/MethodHandle" ∧ yX4_hold.cls ≠ "java/lang/invoke/VarHandle" ∧ (parseMethodDescriptor yX4_hold.desc).map (fun d => d.parameters.length) = some 2 := by decide +kernel
/-! LeastFramesModel.load -/
def w_X4_load (p1 : Int32) (p2 : Int32) (p3 : Int32) (post : Int32 → MS → Prop) (M : MS) : Prop :=
  v_X4_isPoint M p1 (fun r1 => (r1 = (0 : Int32) → (post ((-2147483648) : Int32) M)) ∧ (¬ r1 = (0 : Int32) → (v_X4_in p2 (0 : Int32) (1 : Int32) (fun r3 => (r3 = (0 : Int32) → (post ((-2147483648) : Int32) M)) ∧ (¬ r3 = (0 : Int32) → (v_X4_in p3 ((-9) : Int32) (9 : Int32) (fun r5 => (r5 = (0 : Int32) → (post ((-2147483648) : Int32) M)) ∧ (¬ r5 = (0 : Int32) → (vp_in ((2 * p1) + p2) 10 ∧ (∀ v7 : Int32, v7 = M_loads M ((2 * p1) + p2).toNatClampNeg → (vp_in ((2 * p1) + p2) 10 ∧ (∀ M8 : MS, M8 = sM_loads M (upd (M_loads M) ((2 * p1) + p2).toNatClampNeg p3) → (∀ M9 : MS, M9 = sM_isKnown M8 0 → (post v7 M9))))))))))))))
abbrev rmX4_load : Room := { frames := 2, cells := 0, slots := 0, locals := 43 }
set_option maxHeartbeats 4000000 in
set_option maxRecDepth 100000 in
theorem k_X4_load_0 {p : Program} {l : Launch} {e : Env} {s : State} {m : MethodId} {args : Array Value} {below : List Frame} {meth : Method} {c : Code} {D : va_G} {dT : Nat → ClassId} {a : Nat → Nat} {A : Nat → Prop}  {p1 : Int32} {p2 : Int32} {p3 : Int32} {post : Int32 → MS → Prop} (hC : wCx RX4 cX4_load 5 (some .int) D dT p s m args meth c) (hA : wAz A s) (M : MS) {H : Heap} {locs : List Loc} {ls : Array Slot} (hS : StM D dT a A s M H locs) (hl : lv_has ls 5 [(0, .ref (a 0)), (1, .int p1), (2, .int p2), (3, .int p3)])  (hw : w_X4_load p1 p2 p3 post M) : W p l e rmX4_load s m args below meth c H locs 0 0 (MQ below (va_Qi post (wB D (MW dT a) MI A) A) args s 0 0 A) (F0 m 0 ls []) := by
  have hx := hC.1
  have hb := hC.2.1
  have hown := hC.2.2.2.1
  have hts := hC.2.2.2.2.1
  unfold w_X4_load at hw
  refine lv_aload_n hx hb dX4_load_0 rfl (lv_at hl 0 rfl) ?_
  refine lv_iload_n hx hb dX4_load_1 rfl (lv_at hl 1 rfl) ?_
  refine inv_q1022 hC hA hS hl.1 hw ⟨Nat.le_of_ble_eq_true rfl, Nat.le_of_ble_eq_true rfl⟩ (Nat.le_of_ble_eq_true rfl) ⟨Nat.zero_le _, Nat.zero_le _⟩ dX4_load_2 (fun r1 H locs hw hS => ?_)
  refine lv_if_eq (tgt := 28) hx hb dX4_load_5 (by decide) (fun c2 => ?_) (fun c2 => ?_)
  · have hw := hw.1 c2
    refine lv_ldc (v := (-2147483648)) hx hb hown (hts _ q1030) dX4_load_28 ?_
    exact wReti hC hS hw (Nat.le_refl _) (Nat.le_refl _) dX4_load_30
  · have hw := hw.2 c2
    refine lv_iload_n hx hb dX4_load_8 rfl (lv_at hl 2 rfl) ?_
    refine lv_iconst (v := 0) hx hb dX4_load_9 (by decide) ?_
    refine lv_iconst (v := 1) hx hb dX4_load_10 (by decide) ?_
    refine inv_q1007 hC hS hl.1 hw ⟨Nat.le_of_ble_eq_true rfl, Nat.le_of_ble_eq_true rfl⟩ (Nat.le_of_ble_eq_true rfl) ⟨Nat.zero_le _, Nat.zero_le _⟩ dX4_load_11 (fun r3 H locs hw hS => ?_)
    refine lv_if_eq (tgt := 28) hx hb dX4_load_14 (by decide) (fun c4 => ?_) (fun c4 => ?_)
    · have hw := hw.1 c4
      refine lv_ldc (v := (-2147483648)) hx hb hown (hts _ q1030) dX4_load_28 ?_
      exact wReti hC hS hw (Nat.le_refl _) (Nat.le_refl _) dX4_load_30
    · have hw := hw.2 c4
      refine lv_iload_n hx hb dX4_load_17 rfl (lv_at hl 3 rfl) ?_
      refine lv_bipush (v := (-9)) hx hb dX4_load_18 (by decide) ?_
      refine lv_bipush (v := 9) hx hb dX4_load_20 (by decide) ?_
      refine inv_q1007 hC hS hl.1 hw ⟨Nat.le_of_ble_eq_true rfl, Nat.le_of_ble_eq_true rfl⟩ (Nat.le_of_ble_eq_true rfl) ⟨Nat.zero_le _, Nat.zero_le _⟩ dX4_load_22 (fun r5 H locs hw hS => ?_)
      refine lv_if_ne (tgt := 31) hx hb dX4_load_25 (by decide) (fun c6 => ?_) (fun c6 => ?_)
      · have hw := hw.2 c6
        refine lv_aload_n hx hb dX4_load_31 rfl (lv_at hl 0 rfl) ?_
        refine ld_q938 hC hS dX4_load_32 ?_
        refine lv_iconst (v := 2) hx hb dX4_load_35 (by decide) ?_
        refine lv_iload_n hx hb dX4_load_36 rfl (lv_at hl 1 rfl) ?_
        refine lv_imul hx hb dX4_load_37 ?_
        refine lv_iload_n hx hb dX4_load_38 rfl (lv_at hl 2 rfl) ?_
        refine lv_iadd hx hb dX4_load_39 ?_
        refine al_loads hC hS hw.1 dX4_load_40 ?_
        have hw := hw.2
        refine lv_topi (fun v7 ev7 => ?_)
        have hw := hw v7 ev7
        refine lv_istore (lv' := [(4, .int v7), (0, .ref (a 0)), (1, .int p1), (2, .int p2), (3, .int p3)]) hx hb dX4_load_41 hl (by decide) rfl (fun ls hl => ?_)
        refine lv_aload_n hx hb dX4_load_43 rfl (lv_at hl 1 rfl) ?_
        refine ld_q938 hC hS dX4_load_44 ?_
        refine lv_iconst (v := 2) hx hb dX4_load_47 (by decide) ?_
        refine lv_iload_n hx hb dX4_load_48 rfl (lv_at hl 2 rfl) ?_
        refine lv_imul hx hb dX4_load_49 ?_
        refine lv_iload_n hx hb dX4_load_50 rfl (lv_at hl 3 rfl) ?_
        refine lv_iadd hx hb dX4_load_51 ?_
        refine lv_iload_n hx hb dX4_load_52 rfl (lv_at hl 4 rfl) ?_
        have hi := hw.1
        have hw := hw.2
        refine as_loads hC hS hi dX4_load_53 (fun H locs hS => ?_)
        have hw := hw (sM_loads M (upd (M_loads M) ((2 * p1) + p2).toNatClampNeg p3)) rfl
        generalize sM_loads M (upd (M_loads M) ((2 * p1) + p2).toNatClampNeg p3) = M8 at hS hw
        refine lv_aload_n hx hb dX4_load_54 rfl (lv_at hl 1 rfl) ?_
        refine lv_iconst (v := 0) hx hb dX4_load_55 (by decide) ?_
        refine st_q948 hC hS (by decide) dX4_load_56 (fun H locs hS => ?_)
        have hw := hw (sM_isKnown M8 0) rfl
        generalize sM_isKnown M8 0 = M9 at hS hw
        refine lv_iload hx hb dX4_load_59 (lv_at hl 0 rfl) ?_
        exact wReti hC hS hw (Nat.le_refl _) (Nat.le_refl _) dX4_load_61
      · have hw := hw.1 c6
        refine lv_ldc (v := (-2147483648)) hx hb hown (hts _ q1030) dX4_load_28 ?_
        exact wReti hC hS hw (Nat.le_refl _) (Nat.le_refl _) dX4_load_30
abbrev v_X4_load (M : MS) (p1 : Int32) (p2 : Int32) (p3 : Int32) (post : Int32 → MS → Prop) : Prop := w_X4_load p1 p2 p3 post M
set_option maxHeartbeats 4000000 in
set_option maxRecDepth 100000 in
theorem met_X4_load (l : Launch) (D : va_G) (dT : Nat → ClassId) (a : Nat → Nat) (sz : Nat) (M : MS) (p1 : Int32) (p2 : Int32) (p3 : Int32) (post : Int32 → MS → Prop) (hw : v_X4_load M p1 p2 p3 post) : Met l yX4_load (ws_ yX4_load cX4_load 5 (some .int)) rmX4_load (wPc D dT (MW dT a) MI sz M [.ref (a 0), .int p1, .int p2, .int p3]) (va_Qi post (wB D (MW dT a) MI (va_A ((MW dT a) M) sz)) (va_A ((MW dT a) M) sz)) 0 0 (va_A ((MW dT a) M) sz) :=
  wEnt (Q := fun A => (va_Qi post (wB D (MW dT a) MI A) A)) (by decide) (Nat.le_of_ble_eq_true rfl) (fun p e s m below meth c A ls hC _ hA hS hl => k_X4_load_0 hC hA _ hS hl hw) sz
theorem hd_X4_load : yX4_load.cls ≠ "java/lang/invoke/MethodHandle" ∧ yX4_load.cls ≠ "java/lang/invoke/VarHandle" ∧ (parseMethodDescriptor yX4_load.desc).map (fun d => d.parameters.length) = some 3 := by decide +kernel
/-! LeastFramesModel.isPair -/
def w_X4_isPair (M : MS) (p1 : Int32) (post : Int32 → Prop) : Prop :=
  v_X4_pairs M (fun r1 => v_X4_in p1 (0 : Int32) (r1 - 1) (fun r2 => (r2 &&& 1 = r2) ∧ (post r2)))
abbrev rmX4_isPair : Room := { frames := 1, cells := 0, slots := 0, locals := 22 }
set_option maxHeartbeats 4000000 in
set_option maxRecDepth 100000 in
theorem k_X4_isPair_0 {p : Program} {l : Launch} {e : Env} {s : State} {m : MethodId} {args : Array Value} {below : List Frame} {meth : Method} {c : Code} {D : va_G} {dT : Nat → ClassId} {a : Nat → Nat} {A : Nat → Prop}  {M : MS} {p1 : Int32} {post : Int32 → Prop} (hC : wCx RX4 cX4_isPair 2 (some .boolean) D dT p s m args meth c) (hA : wAz A s) {H : Heap} {locs : List Loc} {ls : Array Slot} (hS : StM D dT a A s M H locs) (hl : lv_has ls 2 [(0, .ref (a 0)), (1, .int p1)])  (hw : w_X4_isPair M p1 post) : W p l e rmX4_isPair s m args below meth c H locs 0 0 (MQ below (va_Qi (fun r M9 => M9 = M ∧ post r) (wB D (MW dT a) MI A) A) args s 0 0 A) (F0 m 0 ls []) := by
  have hx := hC.1
  have hb := hC.2.1
  have hown := hC.2.2.2.1
  have hts := hC.2.2.2.2.1
  unfold w_X4_isPair at hw
  refine lv_iload_n hx hb dX4_isPair_0 rfl (lv_at hl 1 rfl) ?_
  refine lv_iconst (v := 0) hx hb dX4_isPair_1 (by decide) ?_
  refine lv_aload_n hx hb dX4_isPair_2 rfl (lv_at hl 0 rfl) ?_
  refine inv_q1014 hC hA hS hl.1 hw ⟨Nat.le_of_ble_eq_true rfl, Nat.le_of_ble_eq_true rfl⟩ (Nat.le_of_ble_eq_true rfl) ⟨Nat.zero_le _, Nat.zero_le _⟩ dX4_isPair_3 (fun r1 H locs hw hS => ?_)
  refine lv_iconst (v := 1) hx hb dX4_isPair_6 (by decide) ?_
  refine lv_isub hx hb dX4_isPair_7 ?_
  refine inv_q1007 hC hS hl.1 hw ⟨Nat.le_of_ble_eq_true rfl, Nat.le_of_ble_eq_true rfl⟩ (Nat.le_of_ble_eq_true rfl) ⟨Nat.zero_le _, Nat.zero_le _⟩ dX4_isPair_8 (fun r2 H locs hw hS => ?_)
  exact wRetz hC hS hw.1 ⟨rfl, hw.2⟩ (Nat.le_refl _) (Nat.le_refl _) dX4_isPair_11
abbrev v_X4_isPair (M : MS) (p1 : Int32) (post : Int32 → Prop) : Prop := w_X4_isPair M p1 post
set_option maxHeartbeats 4000000 in
set_option maxRecDepth 100000 in
theorem met_X4_isPair (l : Launch) (D : va_G) (dT : Nat → ClassId) (a : Nat → Nat) (sz : Nat) (M : MS) (p1 : Int32) (post : Int32 → Prop) (hw : v_X4_isPair M p1 post) : Met l yX4_isPair (ws_ yX4_isPair cX4_isPair 2 (some .boolean)) rmX4_isPair (wPc D dT (MW dT a) MI sz M [.ref (a 0), .int p1]) (va_Qi (fun r M9 => M9 = M ∧ post r) (wB D (MW dT a) MI (va_A ((MW dT a) M) sz)) (va_A ((MW dT a) M) sz)) 0 0 (va_A ((MW dT a) M) sz) :=
  wEnt (Q := fun A => (va_Qi (fun r M9 => M9 = M ∧ post r) (wB D (MW dT a) MI A) A)) (by decide) (Nat.le_of_ble_eq_true rfl) (fun p e s m below meth c A ls hC _ hA hS hl => k_X4_isPair_0 hC hA  hS hl hw) sz
theorem hd_X4_isPair : yX4_isPair.cls ≠ "java/lang/invoke/MethodHandle" ∧ yX4_isPair.cls ≠ "java/lang/invoke/VarHandle" ∧ (parseMethodDescriptor yX4_isPair.desc).map (fun d => d.parameters.length) = some 1 := by decide +kernel
section
variable {p : Program} {l : Launch} {e : Env} {R : Room} {s : State} {m : MethodId} {args : Array Value} {below : List Frame} {meth : Method} {c : Code} {H : Heap} {locs : List Loc} {cells slots : Nat} {Q : State → Prop} {cc : ByteArray} {nL : Nat} {ret : Option FieldType} {pc : Nat} {ls : Array Slot} {rest : List Value}
set_option maxHeartbeats 4000000 in
set_option maxRecDepth 100000 in
theorem inv_q1035 {D : va_G} {dT : Nat → ClassId} {a : Nat → Nat} {A : Nat → Prop} {M : MS} {p1 : Int32} {post : Int32 → Prop} (hC : wCx RX4 cc nL ret D dT p s m args meth c) (hA : wAz A s) (hS : StM D dT a A s M H locs) (hl : ls.size = nL) (hw : v_X4_isPair M p1 post) (hR : rmX4_isPair.frames + 1 ≤ R.frames ∧ 8 + (2 + 11) + rmX4_isPair.locals ≤ R.locals) (hrest : (rest.map fun v => v.category).sum ≤ 8) (hf : cells ≤ R.cells ∧ slots ≤ R.slots) (hdg : decode cc pc = .ok (.invokevirtual 72, 3)) (kk : ∀ (r : Int32) (H1 : Heap) (locs1 : List Loc), post r → StM D dT a A s M H1 locs1 → W p l e R s m args below meth c H1 locs1 cells slots Q (F0 m (pc + 3) ls (.int r :: rest))) : W p l e R s m args below meth c H locs cells slots Q (F0 m pc ls (.int p1 :: .ref (a 0) :: rest)) := by
  exact wCallVi (As := [.int p1]) (rest := rest) (mc := 0) (ms := 0) 0 hC (met_X4_isPair l D dT a H.size M p1 post hw) (lw_V q1035 q1037 qs48 q89 q1038) ⟨⟨rfl, rfl⟩, hd_X4_isPair, hR, hf⟩ rfl rfl rfl hA hS hl rfl hrest hdg (fun r u H1 locs1 hp hS1 => kk r H1 locs1 hp.2 (hp.1 ▸ hS1))
end
/-! LeastFramesModel.bar -/
def w_X4_bar (p1 : Int32) (post : Int32 → MS → Prop) (M : MS) : Prop :=
  v_X4_isPair M p1 (fun r1 => (r1 = (0 : Int32) → (post ((-2) : Int32) M)) ∧ (¬ r1 = (0 : Int32) → (∀ M3 : MS, M3 = sM_bars M ((M_bars M) ^^^ (1 <<< (p1 &&& 31))) → (post (M_bars M3) M3))))
abbrev rmX4_bar : Room := { frames := 2, cells := 0, slots := 0, locals := 43 }
set_option maxHeartbeats 4000000 in
set_option maxRecDepth 100000 in
theorem k_X4_bar_0 {p : Program} {l : Launch} {e : Env} {s : State} {m : MethodId} {args : Array Value} {below : List Frame} {meth : Method} {c : Code} {D : va_G} {dT : Nat → ClassId} {a : Nat → Nat} {A : Nat → Prop}  {p1 : Int32} {post : Int32 → MS → Prop} (hC : wCx RX4 cX4_bar 2 (some .int) D dT p s m args meth c) (hA : wAz A s) (M : MS) {H : Heap} {locs : List Loc} {ls : Array Slot} (hS : StM D dT a A s M H locs) (hl : lv_has ls 2 [(0, .ref (a 0)), (1, .int p1)])  (hw : w_X4_bar p1 post M) : W p l e rmX4_bar s m args below meth c H locs 0 0 (MQ below (va_Qi post (wB D (MW dT a) MI A) A) args s 0 0 A) (F0 m 0 ls []) := by
  have hx := hC.1
  have hb := hC.2.1
  have hown := hC.2.2.2.1
  have hts := hC.2.2.2.2.1
  unfold w_X4_bar at hw
  refine lv_aload_n hx hb dX4_bar_0 rfl (lv_at hl 0 rfl) ?_
  refine lv_iload_n hx hb dX4_bar_1 rfl (lv_at hl 1 rfl) ?_
  refine inv_q1035 hC hA hS hl.1 hw ⟨Nat.le_of_ble_eq_true rfl, Nat.le_of_ble_eq_true rfl⟩ (Nat.le_of_ble_eq_true rfl) ⟨Nat.zero_le _, Nat.zero_le _⟩ dX4_bar_2 (fun r1 H locs hw hS => ?_)
  refine lv_if_ne (tgt := 11) hx hb dX4_bar_5 (by decide) (fun c2 => ?_) (fun c2 => ?_)
  · have hw := hw.2 c2
    refine lv_aload_n hx hb dX4_bar_11 rfl (lv_at hl 0 rfl) ?_
    refine lv_dup hx hb dX4_bar_12 rfl ?_
    refine ld_q941 hC hS dX4_bar_13 ?_
    refine lv_iconst (v := 1) hx hb dX4_bar_16 (by decide) ?_
    refine lv_iload_n hx hb dX4_bar_17 rfl (lv_at hl 1 rfl) ?_
    refine lv_ishl hx hb dX4_bar_18 ?_
    refine lv_ixor hx hb dX4_bar_19 ?_
    refine st_q941 hC hS dX4_bar_20 (fun H locs hS => ?_)
    have hw := hw (sM_bars M ((M_bars M) ^^^ (1 <<< (p1 &&& 31)))) rfl
    generalize sM_bars M ((M_bars M) ^^^ (1 <<< (p1 &&& 31))) = M3 at hS hw
    refine lv_aload_n hx hb dX4_bar_23 rfl (lv_at hl 0 rfl) ?_
    refine ld_q941 hC hS dX4_bar_24 ?_
    exact wReti hC hS hw (Nat.le_refl _) (Nat.le_refl _) dX4_bar_27
  · have hw := hw.1 c2
    refine lv_bipush (v := (-2)) hx hb dX4_bar_8 (by decide) ?_
    exact wReti hC hS hw (Nat.le_refl _) (Nat.le_refl _) dX4_bar_10
abbrev v_X4_bar (M : MS) (p1 : Int32) (post : Int32 → MS → Prop) : Prop := w_X4_bar p1 post M
set_option maxHeartbeats 4000000 in
set_option maxRecDepth 100000 in
theorem met_X4_bar (l : Launch) (D : va_G) (dT : Nat → ClassId) (a : Nat → Nat) (sz : Nat) (M : MS) (p1 : Int32) (post : Int32 → MS → Prop) (hw : v_X4_bar M p1 post) : Met l yX4_bar (ws_ yX4_bar cX4_bar 2 (some .int)) rmX4_bar (wPc D dT (MW dT a) MI sz M [.ref (a 0), .int p1]) (va_Qi post (wB D (MW dT a) MI (va_A ((MW dT a) M) sz)) (va_A ((MW dT a) M) sz)) 0 0 (va_A ((MW dT a) M) sz) :=
  wEnt (Q := fun A => (va_Qi post (wB D (MW dT a) MI A) A)) (by decide) (Nat.le_of_ble_eq_true rfl) (fun p e s m below meth c A ls hC _ hA hS hl => k_X4_bar_0 hC hA _ hS hl hw) sz
theorem hd_X4_bar : yX4_bar.cls ≠ "java/lang/invoke/MethodHandle" ∧ yX4_bar.cls ≠ "java/lang/invoke/VarHandle" ∧ (parseMethodDescriptor yX4_bar.desc).map (fun d => d.parameters.length) = some 1 := by decide +kernel
/-! LeastFramesModel.all -/
def w_X4_all (post : Int32 → MS → Prop) (M : MS) : Prop :=
  v_X4_pairs M (fun r1 => ∀ M2 : MS, M2 = sM_bars M ((1 <<< (r1 &&& 31)) - 1) → (v_X4_pairs M2 (fun r3 => post r3 M2)))
abbrev rmX4_all : Room := { frames := 1, cells := 0, slots := 0, locals := 20 }
set_option maxHeartbeats 4000000 in
set_option maxRecDepth 100000 in
theorem k_X4_all_0 {p : Program} {l : Launch} {e : Env} {s : State} {m : MethodId} {args : Array Value} {below : List Frame} {meth : Method} {c : Code} {D : va_G} {dT : Nat → ClassId} {a : Nat → Nat} {A : Nat → Prop}  {post : Int32 → MS → Prop} (hC : wCx RX4 cX4_all 1 (some .int) D dT p s m args meth c) (hA : wAz A s) (M : MS) {H : Heap} {locs : List Loc} {ls : Array Slot} (hS : StM D dT a A s M H locs) (hl : lv_has ls 1 [(0, .ref (a 0))])  (hw : w_X4_all post M) : W p l e rmX4_all s m args below meth c H locs 0 0 (MQ below (va_Qi post (wB D (MW dT a) MI A) A) args s 0 0 A) (F0 m 0 ls []) := by
  have hx := hC.1
  have hb := hC.2.1
  have hown := hC.2.2.2.1
  have hts := hC.2.2.2.2.1
  unfold w_X4_all at hw
  refine lv_aload_n hx hb dX4_all_0 rfl (lv_at hl 0 rfl) ?_
  refine lv_iconst (v := 1) hx hb dX4_all_1 (by decide) ?_
  refine lv_aload_n hx hb dX4_all_2 rfl (lv_at hl 0 rfl) ?_
  refine inv_q1014 hC hA hS hl.1 hw ⟨Nat.le_of_ble_eq_true rfl, Nat.le_of_ble_eq_true rfl⟩ (Nat.le_of_ble_eq_true rfl) ⟨Nat.zero_le _, Nat.zero_le _⟩ dX4_all_3 (fun r1 H locs hw hS => ?_)
  refine lv_ishl hx hb dX4_all_6 ?_
  refine lv_iconst (v := 1) hx hb dX4_all_7 (by decide) ?_
  refine lv_isub hx hb dX4_all_8 ?_
  refine st_q941 hC hS dX4_all_9 (fun H locs hS => ?_)
  have hw := hw (sM_bars M ((1 <<< (r1 &&& 31)) - 1)) rfl
  generalize sM_bars M ((1 <<< (r1 &&& 31)) - 1) = M2 at hS hw
  refine lv_aload_n hx hb dX4_all_12 rfl (lv_at hl 0 rfl) ?_
  refine inv_q1014 hC hA hS hl.1 hw ⟨Nat.le_of_ble_eq_true rfl, Nat.le_of_ble_eq_true rfl⟩ (Nat.le_of_ble_eq_true rfl) ⟨Nat.zero_le _, Nat.zero_le _⟩ dX4_all_13 (fun r3 H locs hw hS => ?_)
  exact wReti hC hS hw (Nat.le_refl _) (Nat.le_refl _) dX4_all_16
abbrev v_X4_all (M : MS) (post : Int32 → MS → Prop) : Prop := w_X4_all post M
set_option maxHeartbeats 4000000 in
set_option maxRecDepth 100000 in
theorem met_X4_all (l : Launch) (D : va_G) (dT : Nat → ClassId) (a : Nat → Nat) (sz : Nat) (M : MS) (post : Int32 → MS → Prop) (hw : v_X4_all M post) : Met l yX4_all (ws_ yX4_all cX4_all 1 (some .int)) rmX4_all (wPc D dT (MW dT a) MI sz M [.ref (a 0)]) (va_Qi post (wB D (MW dT a) MI (va_A ((MW dT a) M) sz)) (va_A ((MW dT a) M) sz)) 0 0 (va_A ((MW dT a) M) sz) :=
  wEnt (Q := fun A => (va_Qi post (wB D (MW dT a) MI A) A)) (by decide) (Nat.le_of_ble_eq_true rfl) (fun p e s m below meth c A ls hC _ hA hS hl => k_X4_all_0 hC hA _ hS hl hw) sz
theorem hd_X4_all : yX4_all.cls ≠ "java/lang/invoke/MethodHandle" ∧ yX4_all.cls ≠ "java/lang/invoke/VarHandle" ∧ (parseMethodDescriptor yX4_all.desc).map (fun d => d.parameters.length) = some 0 := by decide +kernel
/-! LeastFramesModel.isSheet -/
def w_X4_isSheet (p0 : Int32) (post : Int32 → Prop) : Prop :=
  v_X4_in p0 (0 : Int32) (3 : Int32) (fun r1 => (r1 &&& 1 = r1) ∧ (post r1))
abbrev rmX4_isSheet : Room := { frames := 1, cells := 0, slots := 0, locals := 22 }
set_option maxHeartbeats 4000000 in
set_option maxRecDepth 100000 in
theorem k_X4_isSheet_0 {p : Program} {l : Launch} {e : Env} {s : State} {m : MethodId} {args : Array Value} {below : List Frame} {meth : Method} {c : Code}  {p0 : Int32} {post : Int32 → Prop} (hC : sCx RX4 cX4_isSheet 1 (some .boolean) p s m args meth c) {H : Heap} {locs : List Loc} {ls : Array Slot} (hS : va_S (fun _ => False) s.heap H locs) (hl : lv_has ls 1 [(0, .int p0)])  (hw : w_X4_isSheet p0 post) : W p l e rmX4_isSheet s m args below meth c H locs 0 0 (MQ below (va_Qi (fun r (_ : Unit) => post r) (fun _ _ => True) (fun _ => False)) args s 0 0 (fun _ => False)) (F0 m 0 ls []) := by
  have hx := hC.1
  have hb := hC.2.1
  have hown := hC.2.2.2.1
  have hts := hC.2.2.2.2.1
  unfold w_X4_isSheet at hw
  refine lv_iload_n hx hb dX4_isSheet_0 rfl (lv_at hl 0 rfl) ?_
  refine lv_iconst (v := 0) hx hb dX4_isSheet_1 (by decide) ?_
  refine lv_iconst (v := 3) hx hb dX4_isSheet_2 (by decide) ?_
  refine invs_q1007 hC hS hl.1 hw ⟨Nat.le_of_ble_eq_true rfl, Nat.le_of_ble_eq_true rfl⟩ (Nat.le_of_ble_eq_true rfl) ⟨Nat.zero_le _, Nat.zero_le _⟩ dX4_isSheet_3 (fun r1 H locs hw hS => ?_)
  exact sRetz hC hS hw.1 hw.2 dX4_isSheet_6
abbrev v_X4_isSheet (p0 : Int32) (post : Int32 → Prop) : Prop := w_X4_isSheet p0 post
set_option maxHeartbeats 4000000 in
set_option maxRecDepth 100000 in
theorem met_X4_isSheet (l : Launch) (p0 : Int32) (post : Int32 → Prop) (hw : v_X4_isSheet p0 post) : Met l yX4_isSheet (ws_ yX4_isSheet cX4_isSheet 1 (some .boolean)) rmX4_isSheet (va_Pc [.int p0] (fun _ => True)) (va_Qi (fun r (_ : Unit) => post r) (fun _ _ => True) (fun _ => False)) 0 0 (fun _ => False) :=
  sEnt (by decide) (Nat.le_of_ble_eq_true rfl) (fun p e s m below meth c ls hC hS hl => k_X4_isSheet_0 hC  hS hl hw)
theorem hd_X4_isSheet : yX4_isSheet.cls ≠ "java/lang/invoke/MethodHandle" ∧ yX4_isSheet.cls ≠ "java/lang/invoke/VarHandle" ∧ (parseMethodDescriptor yX4_isSheet.desc).map (fun d => d.parameters.length) = some 1 := by decide +kernel
section
variable {p : Program} {l : Launch} {e : Env} {R : Room} {s : State} {m : MethodId} {args : Array Value} {below : List Frame} {meth : Method} {c : Code} {H : Heap} {locs : List Loc} {cells slots : Nat} {Q : State → Prop} {cc : ByteArray} {nL : Nat} {ret : Option FieldType} {pc : Nat} {ls : Array Slot} {rest : List Value}
set_option maxHeartbeats 4000000 in
set_option maxRecDepth 100000 in
theorem inv_q1047 {σ : Type} {D : va_G} {dT : Nat → ClassId} {Wd : σ → va_W} {I : σ → Prop} {A : Nat → Prop} {x : σ} {p0 : Int32} {post : Int32 → Prop} (hC : wCx RX4 cc nL ret D dT p s m args meth c) (hS : wSt D Wd I A s x H locs) (hl : ls.size = nL) (hw : v_X4_isSheet p0 post) (hR : rmX4_isSheet.frames + 1 ≤ R.frames ∧ 8 + (1 + 11) + rmX4_isSheet.locals ≤ R.locals) (hrest : (rest.map fun v => v.category).sum ≤ 8) (hf : cells ≤ R.cells ∧ slots ≤ R.slots) (hdg : decode cc pc = .ok (.invokestatic 98, 3)) (kk : ∀ (r : Int32) (H1 : Heap) (locs1 : List Loc), post r → wSt D Wd I A s x H1 locs1 → W p l e R s m args below meth c H1 locs1 cells slots Q (F0 m (pc + 3) ls (.int r :: rest))) : W p l e R s m args below meth c H locs cells slots Q (F0 m pc ls (.int p0 :: rest)) :=
  wCallSi (As := [.int p0]) (rest := rest) hC (met_X4_isSheet l p0 post hw) (lw_S q1047 q1048 q89 q1049) ⟨⟨rfl, rfl⟩, hd_X4_isSheet, hR, hf⟩ hS hl rfl hrest hdg kk
set_option maxHeartbeats 4000000 in
set_option maxRecDepth 100000 in
theorem invs_q1047 {p0 : Int32} {post : Int32 → Prop} (hC : sCx RX4 cc nL ret p s m args meth c) (hS : va_S (fun _ => False) s.heap H locs) (hl : ls.size = nL) (hw : v_X4_isSheet p0 post) (hR : rmX4_isSheet.frames + 1 ≤ R.frames ∧ 8 + (1 + 11) + rmX4_isSheet.locals ≤ R.locals) (hrest : (rest.map fun v => v.category).sum ≤ 8) (hf : cells ≤ R.cells ∧ slots ≤ R.slots) (hdg : decode cc pc = .ok (.invokestatic 98, 3)) (kk : ∀ (r : Int32) (H1 : Heap) (locs1 : List Loc), post r → va_S (fun _ => False) s.heap H1 locs1 → W p l e R s m args below meth c H1 locs1 cells slots Q (F0 m (pc + 3) ls (.int r :: rest))) : W p l e R s m args below meth c H locs cells slots Q (F0 m pc ls (.int p0 :: rest)) :=
  sCallSi (As := [.int p0]) (rest := rest) hC (met_X4_isSheet l p0 post hw) (lw_S q1047 q1048 q89 q1049) ⟨⟨rfl, rfl⟩, hd_X4_isSheet, hR, hf⟩ hS hl rfl hrest hdg kk
end
/-! LeastFramesModel.meets -/
def w_X4_meets (p1 : Int32) (post : Int32 → MS → Prop) (M : MS) : Prop :=
  ∀ M1 : MS, M1 = sM_finding M p1 → (post ((-10) - p1) M1)
abbrev rmX4_meets : Room := { frames := 0, cells := 0, slots := 0, locals := 0 }
set_option maxHeartbeats 4000000 in
set_option maxRecDepth 100000 in
theorem k_X4_meets_0 {p : Program} {l : Launch} {e : Env} {s : State} {m : MethodId} {args : Array Value} {below : List Frame} {meth : Method} {c : Code} {D : va_G} {dT : Nat → ClassId} {a : Nat → Nat} {A : Nat → Prop}  {p1 : Int32} {post : Int32 → MS → Prop} (hC : wCx RX4 cX4_meets 2 (some .int) D dT p s m args meth c) (hA : wAz A s) (M : MS) {H : Heap} {locs : List Loc} {ls : Array Slot} (hS : StM D dT a A s M H locs) (hl : lv_has ls 2 [(0, .ref (a 0)), (1, .int p1)])  (hw : w_X4_meets p1 post M) : W p l e rmX4_meets s m args below meth c H locs 0 0 (MQ below (va_Qi post (wB D (MW dT a) MI A) A) args s 0 0 A) (F0 m 0 ls []) := by
  have hx := hC.1
  have hb := hC.2.1
  have hown := hC.2.2.2.1
  have hts := hC.2.2.2.2.1
  unfold w_X4_meets at hw
  refine lv_aload_n hx hb dX4_meets_0 rfl (lv_at hl 0 rfl) ?_
  refine lv_iload_n hx hb dX4_meets_1 rfl (lv_at hl 1 rfl) ?_
  refine st_q956 hC hS dX4_meets_2 (fun H locs hS => ?_)
  have hw := hw (sM_finding M p1) rfl
  generalize sM_finding M p1 = M1 at hS hw
  refine lv_bipush (v := (-10)) hx hb dX4_meets_5 (by decide) ?_
  refine lv_iload_n hx hb dX4_meets_7 rfl (lv_at hl 1 rfl) ?_
  refine lv_isub hx hb dX4_meets_8 ?_
  exact wReti hC hS hw (Nat.le_refl _) (Nat.le_refl _) dX4_meets_9
abbrev v_X4_meets (M : MS) (p1 : Int32) (post : Int32 → MS → Prop) : Prop := w_X4_meets p1 post M
set_option maxHeartbeats 4000000 in
set_option maxRecDepth 100000 in
theorem met_X4_meets (l : Launch) (D : va_G) (dT : Nat → ClassId) (a : Nat → Nat) (sz : Nat) (M : MS) (p1 : Int32) (post : Int32 → MS → Prop) (hw : v_X4_meets M p1 post) : Met l yX4_meets (ws_ yX4_meets cX4_meets 2 (some .int)) rmX4_meets (wPc D dT (MW dT a) MI sz M [.ref (a 0), .int p1]) (va_Qi post (wB D (MW dT a) MI (va_A ((MW dT a) M) sz)) (va_A ((MW dT a) M) sz)) 0 0 (va_A ((MW dT a) M) sz) :=
  wEnt (Q := fun A => (va_Qi post (wB D (MW dT a) MI A) A)) (by decide) (Nat.le_of_ble_eq_true rfl) (fun p e s m below meth c A ls hC _ hA hS hl => k_X4_meets_0 hC hA _ hS hl hw) sz
theorem hd_X4_meets : yX4_meets.cls ≠ "java/lang/invoke/MethodHandle" ∧ yX4_meets.cls ≠ "java/lang/invoke/VarHandle" ∧ (parseMethodDescriptor yX4_meets.desc).map (fun d => d.parameters.length) = some 1 := by decide +kernel
section
variable {p : Program} {l : Launch} {e : Env} {R : Room} {s : State} {m : MethodId} {args : Array Value} {below : List Frame} {meth : Method} {c : Code} {H : Heap} {locs : List Loc} {cells slots : Nat} {Q : State → Prop} {cc : ByteArray} {nL : Nat} {ret : Option FieldType} {pc : Nat} {ls : Array Slot} {rest : List Value}
set_option maxHeartbeats 4000000 in
set_option maxRecDepth 100000 in
theorem inv_q1050 {D : va_G} {dT : Nat → ClassId} {a : Nat → Nat} {A : Nat → Prop} {M : MS} {p1 : Int32} {post : Int32 → MS → Prop} (hC : wCx RX4 cc nL ret D dT p s m args meth c) (hA : wAz A s) (hS : StM D dT a A s M H locs) (hl : ls.size = nL) (hw : v_X4_meets M p1 post) (hR : rmX4_meets.frames + 1 ≤ R.frames ∧ 8 + (2 + 11) + rmX4_meets.locals ≤ R.locals) (hrest : (rest.map fun v => v.category).sum ≤ 8) (hf : cells ≤ R.cells ∧ slots ≤ R.slots) (hdg : decode cc pc = .ok (.invokevirtual 101, 3)) (kk : ∀ (r : Int32) (u : MS) (H1 : Heap) (locs1 : List Loc), post r u → StM D dT a A s u H1 locs1 → W p l e R s m args below meth c H1 locs1 cells slots Q (F0 m (pc + 3) ls (.int r :: rest))) : W p l e R s m args below meth c H locs cells slots Q (F0 m pc ls (.int p1 :: .ref (a 0) :: rest)) := by
  exact wCallVi (As := [.int p1]) (rest := rest) (mc := 0) (ms := 0) 0 hC (met_X4_meets l D dT a H.size M p1 post hw) (lw_V q1050 q1052 qs49 q89 q1053) ⟨⟨rfl, rfl⟩, hd_X4_meets, hR, hf⟩ rfl rfl rfl hA hS hl rfl hrest hdg (fun r u H1 locs1 hp hS1 => kk r u H1 locs1 hp hS1)
end
/-! LeastFramesModel.read -/
def w_X4_read_108 (p1 : Int32) (post : Int32 → MS → Prop) (M : MS) (x2 : Int32) : Prop :=
  ∀ M1 : MS, M1 = sM_isKnown M 0 → (post x2 M1)
def w_X4_read_28b (p1 : Int32) (K28 : MS → Int32 → Prop) (post : Int32 → MS → Prop) (M : MS) (x2 : Int32) : Prop :=
  vp_in p1 4 ∧ (((M_sizes M p1.toNatClampNeg) ≤ x2 → (w_X4_read_108 p1 post M x2)) ∧ (¬ (M_sizes M p1.toNatClampNeg) ≤ x2 → (((2 * (M_points M)) ≤ x2 → (w_X4_read_108 p1 post M x2)) ∧ (¬ (2 * (M_points M)) ≤ x2 → (vp_in ((40 * p1) + x2) 160 ∧ (((M_items M ((40 * p1) + x2).toNatClampNeg) < ((-9) : Int64) → (w_X4_read_108 p1 post M x2)) ∧ (¬ (M_items M ((40 * p1) + x2).toNatClampNeg) < ((-9) : Int64) → (vp_in ((40 * p1) + x2) 160 ∧ (((9 : Int64) < (M_items M ((40 * p1) + x2).toNatClampNeg) → (w_X4_read_108 p1 post M x2)) ∧ (¬ (9 : Int64) < (M_items M ((40 * p1) + x2).toNatClampNeg) → (vp_in ((40 * p1) + x2) 160 ∧ (vp_in x2 10 ∧ (∀ M5 : MS, M5 = sM_loads M (upd (M_loads M) x2.toNatClampNeg ((M_items M ((40 * p1) + x2).toNatClampNeg).toInt32)) → (∀ v6 : Int32, v6 = x2 + 1 → (K28 M5 v6)))))))))))))))
def w_X4_read_28 (p1 : Int32) (post : Int32 → MS → Prop) : Nat → MS → Int32 → Prop
  | 0, _, _ => False
  | n + 1, M, x2 => w_X4_read_28b p1 (w_X4_read_28 p1 post n) post M x2
def w_X4_read (p1 : Int32) (post : Int32 → MS → Prop) (M : MS) : Prop :=
  v_X4_isSheet p1 (fun r1 => (r1 = (0 : Int32) → (post ((-2) : Int32) M)) ∧ (¬ r1 = (0 : Int32) → (vp_in p1 4 ∧ (((M_forms M p1.toNatClampNeg) = ((-1) : Int32) → (v_X4_meets M (1 : Int32) (fun r4 M5 => post r4 M5))) ∧ (¬ (M_forms M p1.toNatClampNeg) = ((-1) : Int32) → (∃ n, w_X4_read_28 p1 post n M 0))))))
abbrev rmX4_read : Room := { frames := 2, cells := 0, slots := 0, locals := 42 }
set_option maxHeartbeats 4000000 in
set_option maxRecDepth 100000 in
theorem k_X4_read_108 {p : Program} {l : Launch} {e : Env} {s : State} {m : MethodId} {args : Array Value} {below : List Frame} {meth : Method} {c : Code} {D : va_G} {dT : Nat → ClassId} {a : Nat → Nat} {A : Nat → Prop}  {p1 : Int32} {post : Int32 → MS → Prop} (hC : wCx RX4 cX4_read 3 (some .int) D dT p s m args meth c) (hA : wAz A s) (M : MS) (x2 : Int32) {H : Heap} {locs : List Loc} {ls : Array Slot} (hS : StM D dT a A s M H locs) (hl : lv_has ls 3 [(0, .ref (a 0)), (2, .int x2)])  (hw : w_X4_read_108 p1 post M x2) : W p l e rmX4_read s m args below meth c H locs 0 0 (MQ below (va_Qi post (wB D (MW dT a) MI A) A) args s 0 0 A) (F0 m 108 ls []) := by
  have hx := hC.1
  have hb := hC.2.1
  have hown := hC.2.2.2.1
  have hts := hC.2.2.2.2.1
  unfold w_X4_read_108 at hw
  refine lv_aload_n hx hb dX4_read_108 rfl (lv_at hl 0 rfl) ?_
  refine lv_iconst (v := 0) hx hb dX4_read_109 (by decide) ?_
  refine st_q948 hC hS (by decide) dX4_read_110 (fun H locs hS => ?_)
  have hw := hw (sM_isKnown M 0) rfl
  generalize sM_isKnown M 0 = M1 at hS hw
  refine lv_iload_n hx hb dX4_read_113 rfl (lv_at hl 1 rfl) ?_
  exact wReti hC hS hw (Nat.le_refl _) (Nat.le_refl _) dX4_read_114
set_option maxHeartbeats 4000000 in
set_option maxRecDepth 100000 in
theorem k_X4_read_28b {p : Program} {l : Launch} {e : Env} {s : State} {m : MethodId} {args : Array Value} {below : List Frame} {meth : Method} {c : Code} {D : va_G} {dT : Nat → ClassId} {a : Nat → Nat} {A : Nat → Prop}  {p1 : Int32} {K28 : MS → Int32 → Prop} {post : Int32 → MS → Prop} (hC : wCx RX4 cX4_read 3 (some .int) D dT p s m args meth c) (hA : wAz A s) (hK28 : ∀ (M : MS) (x2 : Int32), K28 M x2 → ∀ {H : Heap} {locs : List Loc} {ls : Array Slot}, StM D dT a A s M H locs → lv_has ls 3 [(0, .ref (a 0)), (1, .int p1), (2, .int x2)] → W p l e rmX4_read s m args below meth c H locs 0 0 (MQ below (va_Qi post (wB D (MW dT a) MI A) A) args s 0 0 A) (F0 m 28 ls [])) (M : MS) (x2 : Int32) {H : Heap} {locs : List Loc} {ls : Array Slot} (hS : StM D dT a A s M H locs) (hl : lv_has ls 3 [(0, .ref (a 0)), (1, .int p1), (2, .int x2)])  (hw : w_X4_read_28b p1 K28 post M x2) : W p l e rmX4_read s m args below meth c H locs 0 0 (MQ below (va_Qi post (wB D (MW dT a) MI A) A) args s 0 0 A) (F0 m 28 ls []) := by
  have hx := hC.1
  have hb := hC.2.1
  have hown := hC.2.2.2.1
  have hts := hC.2.2.2.2.1
  unfold w_X4_read_28b at hw
  refine lv_iload_n hx hb dX4_read_28 rfl (lv_at hl 2 rfl) ?_
  refine lv_aload_n hx hb dX4_read_29 rfl (lv_at hl 0 rfl) ?_
  refine ld_q953 hC hS dX4_read_30 ?_
  refine lv_iload_n hx hb dX4_read_33 rfl (lv_at hl 1 rfl) ?_
  refine al_sizes hC hS hw.1 dX4_read_34 ?_
  have hw := hw.2
  refine lv_icmp_ge (tgt := 108) hx hb dX4_read_35 (by decide) (fun c1 => ?_) (fun c1 => ?_)
  · have hw := hw.1 c1
    exact k_X4_read_108 hC hA _ _ hS (lv_sub hl [0, 2] rfl) hw
  · have hw := hw.2 c1
    refine lv_iload_n hx hb dX4_read_38 rfl (lv_at hl 2 rfl) ?_
    refine lv_iconst (v := 2) hx hb dX4_read_39 (by decide) ?_
    refine lv_aload_n hx hb dX4_read_40 rfl (lv_at hl 0 rfl) ?_
    refine ld_q940 hC hS dX4_read_41 ?_
    refine lv_imul hx hb dX4_read_44 ?_
    refine lv_icmp_ge (tgt := 108) hx hb dX4_read_45 (by decide) (fun c2 => ?_) (fun c2 => ?_)
    · have hw := hw.1 c2
      exact k_X4_read_108 hC hA _ _ hS (lv_sub hl [0, 2] rfl) hw
    · have hw := hw.2 c2
      refine lv_aload_n hx hb dX4_read_48 rfl (lv_at hl 0 rfl) ?_
      refine ld_q954 hC hS dX4_read_49 ?_
      refine lv_bipush (v := 40) hx hb dX4_read_52 (by decide) ?_
      refine lv_iload_n hx hb dX4_read_54 rfl (lv_at hl 1 rfl) ?_
      refine lv_imul hx hb dX4_read_55 ?_
      refine lv_iload_n hx hb dX4_read_56 rfl (lv_at hl 2 rfl) ?_
      refine lv_iadd hx hb dX4_read_57 ?_
      refine al_items hC hS hw.1 dX4_read_58 ?_
      have hw := hw.2
      refine lv_ldc2 (v := (-9)) hx hb hown (hts _ q1054) dX4_read_59 ?_
      refine lc_if_lt (tgt := 108) hx hb dX4_read_62 dX4_read_63 (by decide) (fun c3 => ?_) (fun c3 => ?_)
      · have hw := hw.1 c3
        exact k_X4_read_108 hC hA _ _ hS (lv_sub hl [0, 2] rfl) hw
      · have hw := hw.2 c3
        refine lv_aload_n hx hb dX4_read_66 rfl (lv_at hl 0 rfl) ?_
        refine ld_q954 hC hS dX4_read_67 ?_
        refine lv_bipush (v := 40) hx hb dX4_read_70 (by decide) ?_
        refine lv_iload_n hx hb dX4_read_72 rfl (lv_at hl 1 rfl) ?_
        refine lv_imul hx hb dX4_read_73 ?_
        refine lv_iload_n hx hb dX4_read_74 rfl (lv_at hl 2 rfl) ?_
        refine lv_iadd hx hb dX4_read_75 ?_
        refine al_items hC hS hw.1 dX4_read_76 ?_
        have hw := hw.2
        refine lv_ldc2 (v := 9) hx hb hown (hts _ q1055) dX4_read_77 ?_
        refine lc_if_gt (tgt := 108) hx hb dX4_read_80 dX4_read_81 (by decide) (fun c4 => ?_) (fun c4 => ?_)
        · have hw := hw.1 c4
          exact k_X4_read_108 hC hA _ _ hS (lv_sub hl [0, 2] rfl) hw
        · have hw := hw.2 c4
          refine lv_aload_n hx hb dX4_read_84 rfl (lv_at hl 0 rfl) ?_
          refine ld_q938 hC hS dX4_read_85 ?_
          refine lv_iload_n hx hb dX4_read_88 rfl (lv_at hl 2 rfl) ?_
          refine lv_aload_n hx hb dX4_read_89 rfl (lv_at hl 0 rfl) ?_
          refine ld_q954 hC hS dX4_read_90 ?_
          refine lv_bipush (v := 40) hx hb dX4_read_93 (by decide) ?_
          refine lv_iload_n hx hb dX4_read_95 rfl (lv_at hl 1 rfl) ?_
          refine lv_imul hx hb dX4_read_96 ?_
          refine lv_iload_n hx hb dX4_read_97 rfl (lv_at hl 2 rfl) ?_
          refine lv_iadd hx hb dX4_read_98 ?_
          refine al_items hC hS hw.1 dX4_read_99 ?_
          have hw := hw.2
          refine lv_l2i hx hb dX4_read_100 rfl ?_
          have hi := hw.1
          have hw := hw.2
          refine as_loads hC hS hi dX4_read_101 (fun H locs hS => ?_)
          have hw := hw (sM_loads M (upd (M_loads M) x2.toNatClampNeg ((M_items M ((40 * p1) + x2).toNatClampNeg).toInt32))) rfl
          generalize sM_loads M (upd (M_loads M) x2.toNatClampNeg ((M_items M ((40 * p1) + x2).toNatClampNeg).toInt32)) = M5 at hS hw
          obtain ⟨v6, ev6⟩ : ∃ y : Int32, y = x2 + 1 := ⟨_, rfl⟩
          have hw := hw v6 ev6
          refine lv_iinc (v := v6) (lv' := [(2, .int v6), (0, .ref (a 0)), (1, .int p1)]) hx hb dX4_read_102 hl (k := 2) rfl (by rw [ev6]; rfl) (by decide) rfl (fun ls hl => ?_)
          refine lv_goto (tgt := 28) hx hb dX4_read_105 (by decide) ?_
          exact hK28 _ _ hw hS (lv_sub hl [1, 2, 0] rfl)
set_option maxHeartbeats 4000000 in
set_option maxRecDepth 100000 in
theorem k_X4_read_28 {p : Program} {l : Launch} {e : Env} {s : State} {m : MethodId} {args : Array Value} {below : List Frame} {meth : Method} {c : Code} {D : va_G} {dT : Nat → ClassId} {a : Nat → Nat} {A : Nat → Prop}  {p1 : Int32} {post : Int32 → MS → Prop} (hC : wCx RX4 cX4_read 3 (some .int) D dT p s m args meth c) (hA : wAz A s) : ∀ (M : MS) (x2 : Int32) (n : Nat), ∀ {H : Heap} {locs : List Loc} {ls : Array Slot}, StM D dT a A s M H locs → lv_has ls 3 [(0, .ref (a 0)), (1, .int p1), (2, .int x2)] → w_X4_read_28 p1 post n M x2 → W p l e rmX4_read s m args below meth c H locs 0 0 (MQ below (va_Qi post (wB D (MW dT a) MI A) A) args s 0 0 A) (F0 m 28 ls []) := by
  intro M x2 n
  induction n generalizing M x2 with
  | zero => intro H locs ls  hS hl hw; exact hw.elim
  | succ n ih =>
    intro H locs ls  hS hl hw
    exact k_X4_read_28b hC hA (fun M x2 hk {H} {locs} {ls}  hS hl => ih M x2  hS hl hk) M x2  hS hl hw
set_option maxHeartbeats 4000000 in
set_option maxRecDepth 100000 in
theorem k_X4_read_0 {p : Program} {l : Launch} {e : Env} {s : State} {m : MethodId} {args : Array Value} {below : List Frame} {meth : Method} {c : Code} {D : va_G} {dT : Nat → ClassId} {a : Nat → Nat} {A : Nat → Prop}  {p1 : Int32} {post : Int32 → MS → Prop} (hC : wCx RX4 cX4_read 3 (some .int) D dT p s m args meth c) (hA : wAz A s) (M : MS) {H : Heap} {locs : List Loc} {ls : Array Slot} (hS : StM D dT a A s M H locs) (hl : lv_has ls 3 [(0, .ref (a 0)), (1, .int p1)])  (hw : w_X4_read p1 post M) : W p l e rmX4_read s m args below meth c H locs 0 0 (MQ below (va_Qi post (wB D (MW dT a) MI A) A) args s 0 0 A) (F0 m 0 ls []) := by
  have hx := hC.1
  have hb := hC.2.1
  have hown := hC.2.2.2.1
  have hts := hC.2.2.2.2.1
  unfold w_X4_read at hw
  refine lv_iload_n hx hb dX4_read_0 rfl (lv_at hl 1 rfl) ?_
  refine inv_q1047 hC hS hl.1 hw ⟨Nat.le_of_ble_eq_true rfl, Nat.le_of_ble_eq_true rfl⟩ (Nat.le_of_ble_eq_true rfl) ⟨Nat.zero_le _, Nat.zero_le _⟩ dX4_read_1 (fun r1 H locs hw hS => ?_)
  refine lv_if_ne (tgt := 10) hx hb dX4_read_4 (by decide) (fun c2 => ?_) (fun c2 => ?_)
  · have hw := hw.2 c2
    refine lv_aload_n hx hb dX4_read_10 rfl (lv_at hl 0 rfl) ?_
    refine ld_q952 hC hS dX4_read_11 ?_
    refine lv_iload_n hx hb dX4_read_14 rfl (lv_at hl 1 rfl) ?_
    refine al_forms hC hS hw.1 dX4_read_15 ?_
    have hw := hw.2
    refine lv_iconst (v := (-1)) hx hb dX4_read_16 (by decide) ?_
    refine lv_icmp_ne (tgt := 26) hx hb dX4_read_17 (by decide) (fun c3 => ?_) (fun c3 => ?_)
    · have hw := hw.2 c3
      refine lv_iconst (v := 0) hx hb dX4_read_26 (by decide) ?_
      refine lv_istore_n (lv' := [(2, .int 0), (0, .ref (a 0)), (1, .int p1)]) hx hb dX4_read_27 rfl hl (by decide) rfl (fun ls hl => ?_)
      obtain ⟨n, hw⟩ := hw
      exact k_X4_read_28 hC hA _ _ n hS (lv_sub hl [1, 2, 0] rfl) hw
    · have hw := hw.1 c3
      refine lv_aload_n hx hb dX4_read_20 rfl (lv_at hl 0 rfl) ?_
      refine lv_iconst (v := 1) hx hb dX4_read_21 (by decide) ?_
      refine inv_q1050 hC hA hS hl.1 hw ⟨Nat.le_of_ble_eq_true rfl, Nat.le_of_ble_eq_true rfl⟩ (Nat.le_of_ble_eq_true rfl) ⟨Nat.zero_le _, Nat.zero_le _⟩ dX4_read_22 (fun r4 M5 H locs hw hS => ?_)
      exact wReti hC hS hw (Nat.le_refl _) (Nat.le_refl _) dX4_read_25
  · have hw := hw.1 c2
    refine lv_bipush (v := (-2)) hx hb dX4_read_7 (by decide) ?_
    exact wReti hC hS hw (Nat.le_refl _) (Nat.le_refl _) dX4_read_9
abbrev v_X4_read (M : MS) (p1 : Int32) (post : Int32 → MS → Prop) : Prop := w_X4_read p1 post M
set_option maxHeartbeats 4000000 in
set_option maxRecDepth 100000 in
theorem met_X4_read (l : Launch) (D : va_G) (dT : Nat → ClassId) (a : Nat → Nat) (sz : Nat) (M : MS) (p1 : Int32) (post : Int32 → MS → Prop) (hw : v_X4_read M p1 post) : Met l yX4_read (ws_ yX4_read cX4_read 3 (some .int)) rmX4_read (wPc D dT (MW dT a) MI sz M [.ref (a 0), .int p1]) (va_Qi post (wB D (MW dT a) MI (va_A ((MW dT a) M) sz)) (va_A ((MW dT a) M) sz)) 0 0 (va_A ((MW dT a) M) sz) :=
  wEnt (Q := fun A => (va_Qi post (wB D (MW dT a) MI A) A)) (by decide) (Nat.le_of_ble_eq_true rfl) (fun p e s m below meth c A ls hC _ hA hS hl => k_X4_read_0 hC hA _ hS hl hw) sz
theorem hd_X4_read : yX4_read.cls ≠ "java/lang/invoke/MethodHandle" ∧ yX4_read.cls ≠ "java/lang/invoke/VarHandle" ∧ (parseMethodDescriptor yX4_read.desc).map (fun d => d.parameters.length) = some 1 := by decide +kernel
/-! LeastFramesModel.infoOf -/
def w_X4_infoOf (M : MS) (p1 : Int32) (p2 : Int32) (post : Int32 → Prop) : Prop :=
  ((p2 = 0 → (vp_in p1 5 ∧ (post (M_xs M p1.toNatClampNeg)))) ∧ (¬ p2 = 0 → ((p2 = 1 → (vp_in p1 5 ∧ (post (M_ys M p1.toNatClampNeg)))) ∧ (¬ p2 = 1 → ((p2 = 2 → (vp_in p1 5 ∧ (post (M_helds M p1.toNatClampNeg)))) ∧ (¬ p2 = 2 → ((p2 = 3 → (vp_in (((2 * p1) + p2) - 3) 10 ∧ (post (M_loads M (((2 * p1) + p2) - 3).toNatClampNeg)))) ∧ (¬ p2 = 3 → ((p2 = 4 → (vp_in (((2 * p1) + p2) - 3) 10 ∧ (post (M_loads M (((2 * p1) + p2) - 3).toNatClampNeg)))) ∧ (¬ p2 = 4 → (vp_in (((2 * p1) + p2) - 5) 10 ∧ (post (M_shifts M (((2 * p1) + p2) - 5).toNatClampNeg)))))))))))))
abbrev rmX4_infoOf : Room := { frames := 0, cells := 0, slots := 0, locals := 0 }
set_option maxHeartbeats 4000000 in
set_option maxRecDepth 100000 in
theorem k_X4_infoOf_0 {p : Program} {l : Launch} {e : Env} {s : State} {m : MethodId} {args : Array Value} {below : List Frame} {meth : Method} {c : Code} {D : va_G} {dT : Nat → ClassId} {a : Nat → Nat} {A : Nat → Prop}  {M : MS} {p1 : Int32} {p2 : Int32} {post : Int32 → Prop} (hC : wCx RX4 cX4_infoOf 3 (some .int) D dT p s m args meth c) (hA : wAz A s) {H : Heap} {locs : List Loc} {ls : Array Slot} (hS : StM D dT a A s M H locs) (hl : lv_has ls 3 [(0, .ref (a 0)), (1, .int p1), (2, .int p2)])  (hw : w_X4_infoOf M p1 p2 post) : W p l e rmX4_infoOf s m args below meth c H locs 0 0 (MQ below (va_Qi (fun r M9 => M9 = M ∧ post r) (wB D (MW dT a) MI A) A) args s 0 0 A) (F0 m 0 ls []) := by
  have hx := hC.1
  have hb := hC.2.1
  have hown := hC.2.2.2.1
  have hts := hC.2.2.2.2.1
  unfold w_X4_infoOf at hw
  refine lv_iload_n hx hb dX4_infoOf_0 rfl (lv_at hl 2 rfl) ?_
  rcases Decidable.em (p2 = (0 : Int32)) with c1_0 | c1_0
  · have hw := hw.1 c1_0
    refine lv_tableIn (off := 35) (tgt := 36) hx hb dX4_infoOf_1 (by rw [c1_0]; decide) (by rw [c1_0]; decide) (by rw [c1_0]; decide) (by decide) ?_
    refine lv_aload_n hx hb dX4_infoOf_36 rfl (lv_at hl 0 rfl) ?_
    refine ld_q935 hC hS dX4_infoOf_37 ?_
    refine lv_iload_n hx hb dX4_infoOf_40 rfl (lv_at hl 1 rfl) ?_
    refine al_xs hC hS hw.1 dX4_infoOf_41 ?_
    have hw := hw.2
    exact wReti hC hS ⟨rfl, hw⟩ (Nat.le_refl _) (Nat.le_refl _) dX4_infoOf_42
  have hw := hw.2 c1_0
  rcases Decidable.em (p2 = (1 : Int32)) with c1_1 | c1_1
  · have hw := hw.1 c1_1
    refine lv_tableIn (off := 42) (tgt := 43) hx hb dX4_infoOf_1 (by rw [c1_1]; decide) (by rw [c1_1]; decide) (by rw [c1_1]; decide) (by decide) ?_
    refine lv_aload_n hx hb dX4_infoOf_43 rfl (lv_at hl 0 rfl) ?_
    refine ld_q936 hC hS dX4_infoOf_44 ?_
    refine lv_iload_n hx hb dX4_infoOf_47 rfl (lv_at hl 1 rfl) ?_
    refine al_ys hC hS hw.1 dX4_infoOf_48 ?_
    have hw := hw.2
    exact wReti hC hS ⟨rfl, hw⟩ (Nat.le_refl _) (Nat.le_refl _) dX4_infoOf_49
  have hw := hw.2 c1_1
  rcases Decidable.em (p2 = (2 : Int32)) with c1_2 | c1_2
  · have hw := hw.1 c1_2
    refine lv_tableIn (off := 49) (tgt := 50) hx hb dX4_infoOf_1 (by rw [c1_2]; decide) (by rw [c1_2]; decide) (by rw [c1_2]; decide) (by decide) ?_
    refine lv_aload_n hx hb dX4_infoOf_50 rfl (lv_at hl 0 rfl) ?_
    refine ld_q937 hC hS dX4_infoOf_51 ?_
    refine lv_iload_n hx hb dX4_infoOf_54 rfl (lv_at hl 1 rfl) ?_
    refine al_helds hC hS hw.1 dX4_infoOf_55 ?_
    have hw := hw.2
    exact wReti hC hS ⟨rfl, hw⟩ (Nat.le_refl _) (Nat.le_refl _) dX4_infoOf_56
  have hw := hw.2 c1_2
  rcases Decidable.em (p2 = (3 : Int32)) with c1_3 | c1_3
  · have hw := hw.1 c1_3
    refine lv_tableIn (off := 56) (tgt := 57) hx hb dX4_infoOf_1 (by rw [c1_3]; decide) (by rw [c1_3]; decide) (by rw [c1_3]; decide) (by decide) ?_
    refine lv_aload_n hx hb dX4_infoOf_57 rfl (lv_at hl 0 rfl) ?_
    refine ld_q938 hC hS dX4_infoOf_58 ?_
    refine lv_iconst (v := 2) hx hb dX4_infoOf_61 (by decide) ?_
    refine lv_iload_n hx hb dX4_infoOf_62 rfl (lv_at hl 1 rfl) ?_
    refine lv_imul hx hb dX4_infoOf_63 ?_
    refine lv_iload_n hx hb dX4_infoOf_64 rfl (lv_at hl 2 rfl) ?_
    refine lv_iadd hx hb dX4_infoOf_65 ?_
    refine lv_iconst (v := 3) hx hb dX4_infoOf_66 (by decide) ?_
    refine lv_isub hx hb dX4_infoOf_67 ?_
    refine al_loads hC hS hw.1 dX4_infoOf_68 ?_
    have hw := hw.2
    exact wReti hC hS ⟨rfl, hw⟩ (Nat.le_refl _) (Nat.le_refl _) dX4_infoOf_69
  have hw := hw.2 c1_3
  rcases Decidable.em (p2 = (4 : Int32)) with c1_4 | c1_4
  · have hw := hw.1 c1_4
    refine lv_tableIn (off := 56) (tgt := 57) hx hb dX4_infoOf_1 (by rw [c1_4]; decide) (by rw [c1_4]; decide) (by rw [c1_4]; decide) (by decide) ?_
    refine lv_aload_n hx hb dX4_infoOf_57 rfl (lv_at hl 0 rfl) ?_
    refine ld_q938 hC hS dX4_infoOf_58 ?_
    refine lv_iconst (v := 2) hx hb dX4_infoOf_61 (by decide) ?_
    refine lv_iload_n hx hb dX4_infoOf_62 rfl (lv_at hl 1 rfl) ?_
    refine lv_imul hx hb dX4_infoOf_63 ?_
    refine lv_iload_n hx hb dX4_infoOf_64 rfl (lv_at hl 2 rfl) ?_
    refine lv_iadd hx hb dX4_infoOf_65 ?_
    refine lv_iconst (v := 3) hx hb dX4_infoOf_66 (by decide) ?_
    refine lv_isub hx hb dX4_infoOf_67 ?_
    refine al_loads hC hS hw.1 dX4_infoOf_68 ?_
    have hw := hw.2
    exact wReti hC hS ⟨rfl, hw⟩ (Nat.le_refl _) (Nat.le_refl _) dX4_infoOf_69
  have hw := hw.2 c1_4
  refine lv_tableOut (tgt := 70) hx hb dX4_infoOf_1 (sw_out (n := 5) (lt_s (lt_s (lt_s (lt_s (lt_s lt_0 c1_0) c1_1) c1_2) c1_3) c1_4) (by decide) (by decide)) (by decide) ?_
  refine lv_aload_n hx hb dX4_infoOf_70 rfl (lv_at hl 0 rfl) ?_
  refine ld_q939 hC hS dX4_infoOf_71 ?_
  refine lv_iconst (v := 2) hx hb dX4_infoOf_74 (by decide) ?_
  refine lv_iload_n hx hb dX4_infoOf_75 rfl (lv_at hl 1 rfl) ?_
  refine lv_imul hx hb dX4_infoOf_76 ?_
  refine lv_iload_n hx hb dX4_infoOf_77 rfl (lv_at hl 2 rfl) ?_
  refine lv_iadd hx hb dX4_infoOf_78 ?_
  refine lv_iconst (v := 5) hx hb dX4_infoOf_79 (by decide) ?_
  refine lv_isub hx hb dX4_infoOf_80 ?_
  refine al_shifts hC hS hw.1 dX4_infoOf_81 ?_
  have hw := hw.2
  exact wReti hC hS ⟨rfl, hw⟩ (Nat.le_refl _) (Nat.le_refl _) dX4_infoOf_82
abbrev v_X4_infoOf (M : MS) (p1 : Int32) (p2 : Int32) (post : Int32 → Prop) : Prop := w_X4_infoOf M p1 p2 post
set_option maxHeartbeats 4000000 in
set_option maxRecDepth 100000 in
theorem met_X4_infoOf (l : Launch) (D : va_G) (dT : Nat → ClassId) (a : Nat → Nat) (sz : Nat) (M : MS) (p1 : Int32) (p2 : Int32) (post : Int32 → Prop) (hw : v_X4_infoOf M p1 p2 post) : Met l yX4_infoOf (ws_ yX4_infoOf cX4_infoOf 3 (some .int)) rmX4_infoOf (wPc D dT (MW dT a) MI sz M [.ref (a 0), .int p1, .int p2]) (va_Qi (fun r M9 => M9 = M ∧ post r) (wB D (MW dT a) MI (va_A ((MW dT a) M) sz)) (va_A ((MW dT a) M) sz)) 0 0 (va_A ((MW dT a) M) sz) :=
  wEnt (Q := fun A => (va_Qi (fun r M9 => M9 = M ∧ post r) (wB D (MW dT a) MI A) A)) (by decide) (Nat.le_of_ble_eq_true rfl) (fun p e s m below meth c A ls hC _ hA hS hl => k_X4_infoOf_0 hC hA  hS hl hw) sz
theorem hd_X4_infoOf : yX4_infoOf.cls ≠ "java/lang/invoke/MethodHandle" ∧ yX4_infoOf.cls ≠ "java/lang/invoke/VarHandle" ∧ (parseMethodDescriptor yX4_infoOf.desc).map (fun d => d.parameters.length) = some 2 := by decide +kernel
section
variable {p : Program} {l : Launch} {e : Env} {R : Room} {s : State} {m : MethodId} {args : Array Value} {below : List Frame} {meth : Method} {c : Code} {H : Heap} {locs : List Loc} {cells slots : Nat} {Q : State → Prop} {cc : ByteArray} {nL : Nat} {ret : Option FieldType} {pc : Nat} {ls : Array Slot} {rest : List Value}
set_option maxHeartbeats 4000000 in
set_option maxRecDepth 100000 in
theorem inv_q1060 {D : va_G} {dT : Nat → ClassId} {a : Nat → Nat} {A : Nat → Prop} {M : MS} {p1 : Int32} {p2 : Int32} {post : Int32 → Prop} (hC : wCx RX4 cc nL ret D dT p s m args meth c) (hA : wAz A s) (hS : StM D dT a A s M H locs) (hl : ls.size = nL) (hw : v_X4_infoOf M p1 p2 post) (hR : rmX4_infoOf.frames + 1 ≤ R.frames ∧ 8 + (3 + 11) + rmX4_infoOf.locals ≤ R.locals) (hrest : (rest.map fun v => v.category).sum ≤ 8) (hf : cells ≤ R.cells ∧ slots ≤ R.slots) (hdg : decode cc pc = .ok (.invokevirtual 108, 3)) (kk : ∀ (r : Int32) (H1 : Heap) (locs1 : List Loc), post r → StM D dT a A s M H1 locs1 → W p l e R s m args below meth c H1 locs1 cells slots Q (F0 m (pc + 3) ls (.int r :: rest))) : W p l e R s m args below meth c H locs cells slots Q (F0 m pc ls (.int p2 :: .int p1 :: .ref (a 0) :: rest)) := by
  exact wCallVi (As := [.int p1, .int p2]) (rest := rest) (mc := 0) (ms := 0) 0 hC (met_X4_infoOf l D dT a H.size M p1 p2 post hw) (lw_V q1060 q1062 qs50 q89 q1063) ⟨⟨rfl, rfl⟩, hd_X4_infoOf, hR, hf⟩ rfl rfl rfl hA hS hl rfl hrest hdg (fun r u H1 locs1 hp hS1 => kk r H1 locs1 hp.2 (hp.1 ▸ hS1))
end
/-! LeastFramesModel.info -/
def w_X4_info (M : MS) (p1 : Int32) (p2 : Int32) (post : Int32 → Prop) : Prop :=
  v_X4_isPoint M p1 (fun r1 => (r1 = (0 : Int32) → (post ((-2147483648) : Int32))) ∧ (¬ r1 = (0 : Int32) → (v_X4_in p2 (0 : Int32) (6 : Int32) (fun r3 => (r3 = (0 : Int32) → (post ((-2147483648) : Int32))) ∧ (¬ r3 = (0 : Int32) → (v_X4_infoOf M p1 p2 (fun r5 => post r5)))))))
abbrev rmX4_info : Room := { frames := 2, cells := 0, slots := 0, locals := 43 }
set_option maxHeartbeats 4000000 in
set_option maxRecDepth 100000 in
theorem k_X4_info_0 {p : Program} {l : Launch} {e : Env} {s : State} {m : MethodId} {args : Array Value} {below : List Frame} {meth : Method} {c : Code} {D : va_G} {dT : Nat → ClassId} {a : Nat → Nat} {A : Nat → Prop}  {M : MS} {p1 : Int32} {p2 : Int32} {post : Int32 → Prop} (hC : wCx RX4 cX4_info 3 (some .int) D dT p s m args meth c) (hA : wAz A s) {H : Heap} {locs : List Loc} {ls : Array Slot} (hS : StM D dT a A s M H locs) (hl : lv_has ls 3 [(0, .ref (a 0)), (1, .int p1), (2, .int p2)])  (hw : w_X4_info M p1 p2 post) : W p l e rmX4_info s m args below meth c H locs 0 0 (MQ below (va_Qi (fun r M9 => M9 = M ∧ post r) (wB D (MW dT a) MI A) A) args s 0 0 A) (F0 m 0 ls []) := by
  have hx := hC.1
  have hb := hC.2.1
  have hown := hC.2.2.2.1
  have hts := hC.2.2.2.2.1
  unfold w_X4_info at hw
  refine lv_aload_n hx hb dX4_info_0 rfl (lv_at hl 0 rfl) ?_
  refine lv_iload_n hx hb dX4_info_1 rfl (lv_at hl 1 rfl) ?_
  refine inv_q1022 hC hA hS hl.1 hw ⟨Nat.le_of_ble_eq_true rfl, Nat.le_of_ble_eq_true rfl⟩ (Nat.le_of_ble_eq_true rfl) ⟨Nat.zero_le _, Nat.zero_le _⟩ dX4_info_2 (fun r1 H locs hw hS => ?_)
  refine lv_if_eq (tgt := 27) hx hb dX4_info_5 (by decide) (fun c2 => ?_) (fun c2 => ?_)
  · have hw := hw.1 c2
    refine lv_ldc (v := (-2147483648)) hx hb hown (hts _ q1030) dX4_info_27 ?_
    exact wReti hC hS ⟨rfl, hw⟩ (Nat.le_refl _) (Nat.le_refl _) dX4_info_29
  · have hw := hw.2 c2
    refine lv_iload_n hx hb dX4_info_8 rfl (lv_at hl 2 rfl) ?_
    refine lv_iconst (v := 0) hx hb dX4_info_9 (by decide) ?_
    refine lv_bipush (v := 6) hx hb dX4_info_10 (by decide) ?_
    refine inv_q1007 hC hS hl.1 hw ⟨Nat.le_of_ble_eq_true rfl, Nat.le_of_ble_eq_true rfl⟩ (Nat.le_of_ble_eq_true rfl) ⟨Nat.zero_le _, Nat.zero_le _⟩ dX4_info_12 (fun r3 H locs hw hS => ?_)
    refine lv_if_eq (tgt := 27) hx hb dX4_info_15 (by decide) (fun c4 => ?_) (fun c4 => ?_)
    · have hw := hw.1 c4
      refine lv_ldc (v := (-2147483648)) hx hb hown (hts _ q1030) dX4_info_27 ?_
      exact wReti hC hS ⟨rfl, hw⟩ (Nat.le_refl _) (Nat.le_refl _) dX4_info_29
    · have hw := hw.2 c4
      refine lv_aload_n hx hb dX4_info_18 rfl (lv_at hl 0 rfl) ?_
      refine lv_iload_n hx hb dX4_info_19 rfl (lv_at hl 1 rfl) ?_
      refine lv_iload_n hx hb dX4_info_20 rfl (lv_at hl 2 rfl) ?_
      refine inv_q1060 hC hA hS hl.1 hw ⟨Nat.le_of_ble_eq_true rfl, Nat.le_of_ble_eq_true rfl⟩ (Nat.le_of_ble_eq_true rfl) ⟨Nat.zero_le _, Nat.zero_le _⟩ dX4_info_21 (fun r5 H locs hw hS => ?_)
      refine lv_goto (tgt := 29) hx hb dX4_info_24 (by decide) ?_
      exact wReti hC hS ⟨rfl, hw⟩ (Nat.le_refl _) (Nat.le_refl _) dX4_info_29
abbrev v_X4_info (M : MS) (p1 : Int32) (p2 : Int32) (post : Int32 → Prop) : Prop := w_X4_info M p1 p2 post
set_option maxHeartbeats 4000000 in
set_option maxRecDepth 100000 in
theorem met_X4_info (l : Launch) (D : va_G) (dT : Nat → ClassId) (a : Nat → Nat) (sz : Nat) (M : MS) (p1 : Int32) (p2 : Int32) (post : Int32 → Prop) (hw : v_X4_info M p1 p2 post) : Met l yX4_info (ws_ yX4_info cX4_info 3 (some .int)) rmX4_info (wPc D dT (MW dT a) MI sz M [.ref (a 0), .int p1, .int p2]) (va_Qi (fun r M9 => M9 = M ∧ post r) (wB D (MW dT a) MI (va_A ((MW dT a) M) sz)) (va_A ((MW dT a) M) sz)) 0 0 (va_A ((MW dT a) M) sz) :=
  wEnt (Q := fun A => (va_Qi (fun r M9 => M9 = M ∧ post r) (wB D (MW dT a) MI A) A)) (by decide) (Nat.le_of_ble_eq_true rfl) (fun p e s m below meth c A ls hC _ hA hS hl => k_X4_info_0 hC hA  hS hl hw) sz
theorem hd_X4_info : yX4_info.cls ≠ "java/lang/invoke/MethodHandle" ∧ yX4_info.cls ≠ "java/lang/invoke/VarHandle" ∧ (parseMethodDescriptor yX4_info.desc).map (fun d => d.parameters.length) = some 2 := by decide +kernel
/-! LeastFramesModel.greater -/
def w_X4_greater_2b (p0 : Int32) (K2 : Int32 → Prop) (post : Int32 → Prop) (x1 : Int32) : Prop :=
  (p0 < (((x1 + 1) * x1) / 2) → (post x1)) ∧ (¬ p0 < (((x1 + 1) * x1) / 2) → (∀ v2 : Int32, v2 = x1 + 1 → (K2 v2)))
def w_X4_greater_2 (p0 : Int32) (post : Int32 → Prop) : Nat → Int32 → Prop
  | 0, _ => False
  | n + 1, x1 => w_X4_greater_2b p0 (w_X4_greater_2 p0 post n) post x1
def w_X4_greater (p0 : Int32) (post : Int32 → Prop) : Prop :=
  ∃ n, w_X4_greater_2 p0 post n 1
abbrev rmX4_greater : Room := { frames := 0, cells := 0, slots := 0, locals := 0 }
set_option maxHeartbeats 4000000 in
set_option maxRecDepth 100000 in
theorem k_X4_greater_2b {p : Program} {l : Launch} {e : Env} {s : State} {m : MethodId} {args : Array Value} {below : List Frame} {meth : Method} {c : Code}  {p0 : Int32} {K2 : Int32 → Prop} {post : Int32 → Prop} (hC : sCx RX4 cX4_greater 2 (some .int) p s m args meth c) (hK2 : ∀ (x1 : Int32), K2 x1 → ∀ {H : Heap} {locs : List Loc} {ls : Array Slot}, va_S (fun _ => False) s.heap H locs → lv_has ls 2 [(0, .int p0), (1, .int x1)] → W p l e rmX4_greater s m args below meth c H locs 0 0 (MQ below (va_Qi (fun r (_ : Unit) => post r) (fun _ _ => True) (fun _ => False)) args s 0 0 (fun _ => False)) (F0 m 2 ls [])) (x1 : Int32) {H : Heap} {locs : List Loc} {ls : Array Slot} (hS : va_S (fun _ => False) s.heap H locs) (hl : lv_has ls 2 [(0, .int p0), (1, .int x1)])  (hw : w_X4_greater_2b p0 K2 post x1) : W p l e rmX4_greater s m args below meth c H locs 0 0 (MQ below (va_Qi (fun r (_ : Unit) => post r) (fun _ _ => True) (fun _ => False)) args s 0 0 (fun _ => False)) (F0 m 2 ls []) := by
  have hx := hC.1
  have hb := hC.2.1
  have hown := hC.2.2.2.1
  have hts := hC.2.2.2.2.1
  unfold w_X4_greater_2b at hw
  refine lv_iload_n hx hb dX4_greater_2 rfl (lv_at hl 1 rfl) ?_
  refine lv_iconst (v := 1) hx hb dX4_greater_3 (by decide) ?_
  refine lv_iadd hx hb dX4_greater_4 ?_
  refine lv_iload_n hx hb dX4_greater_5 rfl (lv_at hl 1 rfl) ?_
  refine lv_imul hx hb dX4_greater_6 ?_
  refine lv_iconst (v := 2) hx hb dX4_greater_7 (by decide) ?_
  refine lv_idiv hx hb dX4_greater_8 (by decide) ?_
  refine lv_iload_n hx hb dX4_greater_9 rfl (lv_at hl 0 rfl) ?_
  refine lv_icmp_gt (tgt := 19) hx hb dX4_greater_10 (by decide) (fun c1 => ?_) (fun c1 => ?_)
  · have hw := hw.1 c1
    refine lv_iload_n hx hb dX4_greater_19 rfl (lv_at hl 1 rfl) ?_
    exact sReti hC hS hw dX4_greater_20
  · have hw := hw.2 c1
    obtain ⟨v2, ev2⟩ : ∃ y : Int32, y = x1 + 1 := ⟨_, rfl⟩
    have hw := hw v2 ev2
    refine lv_iinc (v := v2) (lv' := [(1, .int v2), (0, .int p0)]) hx hb dX4_greater_13 hl (k := 1) rfl (by rw [ev2]; rfl) (by decide) rfl (fun ls hl => ?_)
    refine lv_goto (tgt := 2) hx hb dX4_greater_16 (by decide) ?_
    exact hK2 _ hw hS (lv_sub hl [1, 0] rfl)
set_option maxHeartbeats 4000000 in
set_option maxRecDepth 100000 in
theorem k_X4_greater_2 {p : Program} {l : Launch} {e : Env} {s : State} {m : MethodId} {args : Array Value} {below : List Frame} {meth : Method} {c : Code}  {p0 : Int32} {post : Int32 → Prop} (hC : sCx RX4 cX4_greater 2 (some .int) p s m args meth c) : ∀ (x1 : Int32) (n : Nat), ∀ {H : Heap} {locs : List Loc} {ls : Array Slot}, va_S (fun _ => False) s.heap H locs → lv_has ls 2 [(0, .int p0), (1, .int x1)] → w_X4_greater_2 p0 post n x1 → W p l e rmX4_greater s m args below meth c H locs 0 0 (MQ below (va_Qi (fun r (_ : Unit) => post r) (fun _ _ => True) (fun _ => False)) args s 0 0 (fun _ => False)) (F0 m 2 ls []) := by
  intro x1 n
  induction n generalizing x1 with
  | zero => intro H locs ls  hS hl hw; exact hw.elim
  | succ n ih =>
    intro H locs ls  hS hl hw
    exact k_X4_greater_2b hC (fun x1 hk {H} {locs} {ls}  hS hl => ih x1  hS hl hk) x1  hS hl hw
set_option maxHeartbeats 4000000 in
set_option maxRecDepth 100000 in
theorem k_X4_greater_0 {p : Program} {l : Launch} {e : Env} {s : State} {m : MethodId} {args : Array Value} {below : List Frame} {meth : Method} {c : Code}  {p0 : Int32} {post : Int32 → Prop} (hC : sCx RX4 cX4_greater 2 (some .int) p s m args meth c) {H : Heap} {locs : List Loc} {ls : Array Slot} (hS : va_S (fun _ => False) s.heap H locs) (hl : lv_has ls 2 [(0, .int p0)])  (hw : w_X4_greater p0 post) : W p l e rmX4_greater s m args below meth c H locs 0 0 (MQ below (va_Qi (fun r (_ : Unit) => post r) (fun _ _ => True) (fun _ => False)) args s 0 0 (fun _ => False)) (F0 m 0 ls []) := by
  have hx := hC.1
  have hb := hC.2.1
  have hown := hC.2.2.2.1
  have hts := hC.2.2.2.2.1
  unfold w_X4_greater at hw
  refine lv_iconst (v := 1) hx hb dX4_greater_0 (by decide) ?_
  refine lv_istore_n (lv' := [(1, .int 1), (0, .int p0)]) hx hb dX4_greater_1 rfl hl (by decide) rfl (fun ls hl => ?_)
  obtain ⟨n, hw⟩ := hw
  exact k_X4_greater_2 hC _ n hS (lv_sub hl [1, 0] rfl) hw
abbrev v_X4_greater (p0 : Int32) (post : Int32 → Prop) : Prop := w_X4_greater p0 post
set_option maxHeartbeats 4000000 in
set_option maxRecDepth 100000 in
theorem met_X4_greater (l : Launch) (p0 : Int32) (post : Int32 → Prop) (hw : v_X4_greater p0 post) : Met l yX4_greater (ws_ yX4_greater cX4_greater 2 (some .int)) rmX4_greater (va_Pc [.int p0] (fun _ => True)) (va_Qi (fun r (_ : Unit) => post r) (fun _ _ => True) (fun _ => False)) 0 0 (fun _ => False) :=
  sEnt (by decide) (Nat.le_of_ble_eq_true rfl) (fun p e s m below meth c ls hC hS hl => k_X4_greater_0 hC  hS hl hw)
theorem hd_X4_greater : yX4_greater.cls ≠ "java/lang/invoke/MethodHandle" ∧ yX4_greater.cls ≠ "java/lang/invoke/VarHandle" ∧ (parseMethodDescriptor yX4_greater.desc).map (fun d => d.parameters.length) = some 1 := by decide +kernel
section
variable {p : Program} {l : Launch} {e : Env} {R : Room} {s : State} {m : MethodId} {args : Array Value} {below : List Frame} {meth : Method} {c : Code} {H : Heap} {locs : List Loc} {cells slots : Nat} {Q : State → Prop} {cc : ByteArray} {nL : Nat} {ret : Option FieldType} {pc : Nat} {ls : Array Slot} {rest : List Value}
set_option maxHeartbeats 4000000 in
set_option maxRecDepth 100000 in
theorem inv_q1075 {σ : Type} {D : va_G} {dT : Nat → ClassId} {Wd : σ → va_W} {I : σ → Prop} {A : Nat → Prop} {x : σ} {p0 : Int32} {post : Int32 → Prop} (hC : wCx RX4 cc nL ret D dT p s m args meth c) (hS : wSt D Wd I A s x H locs) (hl : ls.size = nL) (hw : v_X4_greater p0 post) (hR : rmX4_greater.frames + 1 ≤ R.frames ∧ 8 + (2 + 11) + rmX4_greater.locals ≤ R.locals) (hrest : (rest.map fun v => v.category).sum ≤ 8) (hf : cells ≤ R.cells ∧ slots ≤ R.slots) (hdg : decode cc pc = .ok (.invokestatic 79, 3)) (kk : ∀ (r : Int32) (H1 : Heap) (locs1 : List Loc), post r → wSt D Wd I A s x H1 locs1 → W p l e R s m args below meth c H1 locs1 cells slots Q (F0 m (pc + 3) ls (.int r :: rest))) : W p l e R s m args below meth c H locs cells slots Q (F0 m pc ls (.int p0 :: rest)) :=
  wCallSi (As := [.int p0]) (rest := rest) hC (met_X4_greater l p0 post hw) (lw_S q1075 q1076 q89 q1077) ⟨⟨rfl, rfl⟩, hd_X4_greater, hR, hf⟩ hS hl rfl hrest hdg kk
set_option maxHeartbeats 4000000 in
set_option maxRecDepth 100000 in
theorem invs_q1075 {p0 : Int32} {post : Int32 → Prop} (hC : sCx RX4 cc nL ret p s m args meth c) (hS : va_S (fun _ => False) s.heap H locs) (hl : ls.size = nL) (hw : v_X4_greater p0 post) (hR : rmX4_greater.frames + 1 ≤ R.frames ∧ 8 + (2 + 11) + rmX4_greater.locals ≤ R.locals) (hrest : (rest.map fun v => v.category).sum ≤ 8) (hf : cells ≤ R.cells ∧ slots ≤ R.slots) (hdg : decode cc pc = .ok (.invokestatic 79, 3)) (kk : ∀ (r : Int32) (H1 : Heap) (locs1 : List Loc), post r → va_S (fun _ => False) s.heap H1 locs1 → W p l e R s m args below meth c H1 locs1 cells slots Q (F0 m (pc + 3) ls (.int r :: rest))) : W p l e R s m args below meth c H locs cells slots Q (F0 m pc ls (.int p0 :: rest)) :=
  sCallSi (As := [.int p0]) (rest := rest) hC (met_X4_greater l p0 post hw) (lw_S q1075 q1076 q89 q1077) ⟨⟨rfl, rfl⟩, hd_X4_greater, hR, hf⟩ hS hl rfl hrest hdg kk
end
/-! LeastFramesModel.lesser -/
def w_X4_lesser (p0 : Int32) (post : Int32 → Prop) : Prop :=
  v_X4_greater p0 (fun r1 => post (p0 - ((r1 * (r1 - 1)) / 2)))
abbrev rmX4_lesser : Room := { frames := 1, cells := 0, slots := 0, locals := 21 }
set_option maxHeartbeats 4000000 in
set_option maxRecDepth 100000 in
theorem k_X4_lesser_0 {p : Program} {l : Launch} {e : Env} {s : State} {m : MethodId} {args : Array Value} {below : List Frame} {meth : Method} {c : Code}  {p0 : Int32} {post : Int32 → Prop} (hC : sCx RX4 cX4_lesser 2 (some .int) p s m args meth c) {H : Heap} {locs : List Loc} {ls : Array Slot} (hS : va_S (fun _ => False) s.heap H locs) (hl : lv_has ls 2 [(0, .int p0)])  (hw : w_X4_lesser p0 post) : W p l e rmX4_lesser s m args below meth c H locs 0 0 (MQ below (va_Qi (fun r (_ : Unit) => post r) (fun _ _ => True) (fun _ => False)) args s 0 0 (fun _ => False)) (F0 m 0 ls []) := by
  have hx := hC.1
  have hb := hC.2.1
  have hown := hC.2.2.2.1
  have hts := hC.2.2.2.2.1
  unfold w_X4_lesser at hw
  refine lv_iload_n hx hb dX4_lesser_0 rfl (lv_at hl 0 rfl) ?_
  refine invs_q1075 hC hS hl.1 hw ⟨Nat.le_of_ble_eq_true rfl, Nat.le_of_ble_eq_true rfl⟩ (Nat.le_of_ble_eq_true rfl) ⟨Nat.zero_le _, Nat.zero_le _⟩ dX4_lesser_1 (fun r1 H locs hw hS => ?_)
  refine lv_istore_n (lv' := [(1, .int r1), (0, .int p0)]) hx hb dX4_lesser_4 rfl hl (by decide) rfl (fun ls hl => ?_)
  refine lv_iload_n hx hb dX4_lesser_5 rfl (lv_at hl 1 rfl) ?_
  refine lv_iload_n hx hb dX4_lesser_6 rfl (lv_at hl 0 rfl) ?_
  refine lv_iload_n hx hb dX4_lesser_7 rfl (lv_at hl 0 rfl) ?_
  refine lv_iconst (v := 1) hx hb dX4_lesser_8 (by decide) ?_
  refine lv_isub hx hb dX4_lesser_9 ?_
  refine lv_imul hx hb dX4_lesser_10 ?_
  refine lv_iconst (v := 2) hx hb dX4_lesser_11 (by decide) ?_
  refine lv_idiv hx hb dX4_lesser_12 (by decide) ?_
  refine lv_isub hx hb dX4_lesser_13 ?_
  exact sReti hC hS hw dX4_lesser_14
abbrev v_X4_lesser (p0 : Int32) (post : Int32 → Prop) : Prop := w_X4_lesser p0 post
set_option maxHeartbeats 4000000 in
set_option maxRecDepth 100000 in
theorem met_X4_lesser (l : Launch) (p0 : Int32) (post : Int32 → Prop) (hw : v_X4_lesser p0 post) : Met l yX4_lesser (ws_ yX4_lesser cX4_lesser 2 (some .int)) rmX4_lesser (va_Pc [.int p0] (fun _ => True)) (va_Qi (fun r (_ : Unit) => post r) (fun _ _ => True) (fun _ => False)) 0 0 (fun _ => False) :=
  sEnt (by decide) (Nat.le_of_ble_eq_true rfl) (fun p e s m below meth c ls hC hS hl => k_X4_lesser_0 hC  hS hl hw)
theorem hd_X4_lesser : yX4_lesser.cls ≠ "java/lang/invoke/MethodHandle" ∧ yX4_lesser.cls ≠ "java/lang/invoke/VarHandle" ∧ (parseMethodDescriptor yX4_lesser.desc).map (fun d => d.parameters.length) = some 1 := by decide +kernel
section
variable {p : Program} {l : Launch} {e : Env} {R : Room} {s : State} {m : MethodId} {args : Array Value} {below : List Frame} {meth : Method} {c : Code} {H : Heap} {locs : List Loc} {cells slots : Nat} {Q : State → Prop} {cc : ByteArray} {nL : Nat} {ret : Option FieldType} {pc : Nat} {ls : Array Slot} {rest : List Value}
set_option maxHeartbeats 4000000 in
set_option maxRecDepth 100000 in
theorem inv_q1072 {σ : Type} {D : va_G} {dT : Nat → ClassId} {Wd : σ → va_W} {I : σ → Prop} {A : Nat → Prop} {x : σ} {p0 : Int32} {post : Int32 → Prop} (hC : wCx RX4 cc nL ret D dT p s m args meth c) (hS : wSt D Wd I A s x H locs) (hl : ls.size = nL) (hw : v_X4_lesser p0 post) (hR : rmX4_lesser.frames + 1 ≤ R.frames ∧ 8 + (2 + 11) + rmX4_lesser.locals ≤ R.locals) (hrest : (rest.map fun v => v.category).sum ≤ 8) (hf : cells ≤ R.cells ∧ slots ≤ R.slots) (hdg : decode cc pc = .ok (.invokestatic 83, 3)) (kk : ∀ (r : Int32) (H1 : Heap) (locs1 : List Loc), post r → wSt D Wd I A s x H1 locs1 → W p l e R s m args below meth c H1 locs1 cells slots Q (F0 m (pc + 3) ls (.int r :: rest))) : W p l e R s m args below meth c H locs cells slots Q (F0 m pc ls (.int p0 :: rest)) :=
  wCallSi (As := [.int p0]) (rest := rest) hC (met_X4_lesser l p0 post hw) (lw_S q1072 q1073 q89 q1074) ⟨⟨rfl, rfl⟩, hd_X4_lesser, hR, hf⟩ hS hl rfl hrest hdg kk
set_option maxHeartbeats 4000000 in
set_option maxRecDepth 100000 in
theorem invs_q1072 {p0 : Int32} {post : Int32 → Prop} (hC : sCx RX4 cc nL ret p s m args meth c) (hS : va_S (fun _ => False) s.heap H locs) (hl : ls.size = nL) (hw : v_X4_lesser p0 post) (hR : rmX4_lesser.frames + 1 ≤ R.frames ∧ 8 + (2 + 11) + rmX4_lesser.locals ≤ R.locals) (hrest : (rest.map fun v => v.category).sum ≤ 8) (hf : cells ≤ R.cells ∧ slots ≤ R.slots) (hdg : decode cc pc = .ok (.invokestatic 83, 3)) (kk : ∀ (r : Int32) (H1 : Heap) (locs1 : List Loc), post r → va_S (fun _ => False) s.heap H1 locs1 → W p l e R s m args below meth c H1 locs1 cells slots Q (F0 m (pc + 3) ls (.int r :: rest))) : W p l e R s m args below meth c H locs cells slots Q (F0 m pc ls (.int p0 :: rest)) :=
  sCallSi (As := [.int p0]) (rest := rest) hC (met_X4_lesser l p0 post hw) (lw_S q1072 q1073 q89 q1074) ⟨⟨rfl, rfl⟩, hd_X4_lesser, hR, hf⟩ hS hl rfl hrest hdg kk
end
/-! LeastFramesModel.far -/
def w_X4_far (M : MS) (p1 : Int32) (p2 : Int32) (post : Int32 → Prop) : Prop :=
  v_X4_lesser p1 (fun r1 => v_X4_greater p1 (fun r2 => (p2 = (0 : Int32) → (vp_in r2 5 ∧ (vp_in r1 5 ∧ (post ((M_xs M r2.toNatClampNeg) - (M_xs M r1.toNatClampNeg)))))) ∧ (¬ p2 = (0 : Int32) → (vp_in r2 5 ∧ (vp_in r1 5 ∧ (post ((M_ys M r2.toNatClampNeg) - (M_ys M r1.toNatClampNeg))))))))
abbrev rmX4_far : Room := { frames := 2, cells := 0, slots := 0, locals := 42 }
set_option maxHeartbeats 4000000 in
set_option maxRecDepth 100000 in
theorem k_X4_far_0 {p : Program} {l : Launch} {e : Env} {s : State} {m : MethodId} {args : Array Value} {below : List Frame} {meth : Method} {c : Code} {D : va_G} {dT : Nat → ClassId} {a : Nat → Nat} {A : Nat → Prop}  {M : MS} {p1 : Int32} {p2 : Int32} {post : Int32 → Prop} (hC : wCx RX4 cX4_far 5 (some .int) D dT p s m args meth c) (hA : wAz A s) {H : Heap} {locs : List Loc} {ls : Array Slot} (hS : StM D dT a A s M H locs) (hl : lv_has ls 5 [(0, .ref (a 0)), (1, .int p1), (2, .int p2)])  (hw : w_X4_far M p1 p2 post) : W p l e rmX4_far s m args below meth c H locs 0 0 (MQ below (va_Qi (fun r M9 => M9 = M ∧ post r) (wB D (MW dT a) MI A) A) args s 0 0 A) (F0 m 0 ls []) := by
  have hx := hC.1
  have hb := hC.2.1
  have hown := hC.2.2.2.1
  have hts := hC.2.2.2.2.1
  unfold w_X4_far at hw
  refine lv_iload_n hx hb dX4_far_0 rfl (lv_at hl 1 rfl) ?_
  refine inv_q1072 hC hS hl.1 hw ⟨Nat.le_of_ble_eq_true rfl, Nat.le_of_ble_eq_true rfl⟩ (Nat.le_of_ble_eq_true rfl) ⟨Nat.zero_le _, Nat.zero_le _⟩ dX4_far_1 (fun r1 H locs hw hS => ?_)
  refine lv_istore_n (lv' := [(3, .int r1), (0, .ref (a 0)), (1, .int p1), (2, .int p2)]) hx hb dX4_far_4 rfl hl (by decide) rfl (fun ls hl => ?_)
  refine lv_iload_n hx hb dX4_far_5 rfl (lv_at hl 2 rfl) ?_
  refine inv_q1075 hC hS hl.1 hw ⟨Nat.le_of_ble_eq_true rfl, Nat.le_of_ble_eq_true rfl⟩ (Nat.le_of_ble_eq_true rfl) ⟨Nat.zero_le _, Nat.zero_le _⟩ dX4_far_6 (fun r2 H locs hw hS => ?_)
  refine lv_istore (lv' := [(4, .int r2), (3, .int r1), (0, .ref (a 0)), (1, .int p1), (2, .int p2)]) hx hb dX4_far_9 hl (by decide) rfl (fun ls hl => ?_)
  refine lv_iload_n hx hb dX4_far_11 rfl (lv_at hl 4 rfl) ?_
  refine lv_if_ne (tgt := 32) hx hb dX4_far_12 (by decide) (fun c3 => ?_) (fun c3 => ?_)
  · have hw := hw.2 c3
    refine lv_aload_n hx hb dX4_far_32 rfl (lv_at hl 2 rfl) ?_
    refine ld_q936 hC hS dX4_far_33 ?_
    refine lv_iload hx hb dX4_far_36 (lv_at hl 0 rfl) ?_
    refine al_ys hC hS hw.1 dX4_far_38 ?_
    have hw := hw.2
    refine lv_aload_n hx hb dX4_far_39 rfl (lv_at hl 2 rfl) ?_
    refine ld_q936 hC hS dX4_far_40 ?_
    refine lv_iload_n hx hb dX4_far_43 rfl (lv_at hl 1 rfl) ?_
    refine al_ys hC hS hw.1 dX4_far_44 ?_
    have hw := hw.2
    refine lv_isub hx hb dX4_far_45 ?_
    exact wReti hC hS ⟨rfl, hw⟩ (Nat.le_refl _) (Nat.le_refl _) dX4_far_46
  · have hw := hw.1 c3
    refine lv_aload_n hx hb dX4_far_15 rfl (lv_at hl 2 rfl) ?_
    refine ld_q935 hC hS dX4_far_16 ?_
    refine lv_iload hx hb dX4_far_19 (lv_at hl 0 rfl) ?_
    refine al_xs hC hS hw.1 dX4_far_21 ?_
    have hw := hw.2
    refine lv_aload_n hx hb dX4_far_22 rfl (lv_at hl 2 rfl) ?_
    refine ld_q935 hC hS dX4_far_23 ?_
    refine lv_iload_n hx hb dX4_far_26 rfl (lv_at hl 1 rfl) ?_
    refine al_xs hC hS hw.1 dX4_far_27 ?_
    have hw := hw.2
    refine lv_isub hx hb dX4_far_28 ?_
    refine lv_goto (tgt := 46) hx hb dX4_far_29 (by decide) ?_
    exact wReti hC hS ⟨rfl, hw⟩ (Nat.le_refl _) (Nat.le_refl _) dX4_far_46
abbrev v_X4_far (M : MS) (p1 : Int32) (p2 : Int32) (post : Int32 → Prop) : Prop := w_X4_far M p1 p2 post
set_option maxHeartbeats 4000000 in
set_option maxRecDepth 100000 in
theorem met_X4_far (l : Launch) (D : va_G) (dT : Nat → ClassId) (a : Nat → Nat) (sz : Nat) (M : MS) (p1 : Int32) (p2 : Int32) (post : Int32 → Prop) (hw : v_X4_far M p1 p2 post) : Met l yX4_far (ws_ yX4_far cX4_far 5 (some .int)) rmX4_far (wPc D dT (MW dT a) MI sz M [.ref (a 0), .int p1, .int p2]) (va_Qi (fun r M9 => M9 = M ∧ post r) (wB D (MW dT a) MI (va_A ((MW dT a) M) sz)) (va_A ((MW dT a) M) sz)) 0 0 (va_A ((MW dT a) M) sz) :=
  wEnt (Q := fun A => (va_Qi (fun r M9 => M9 = M ∧ post r) (wB D (MW dT a) MI A) A)) (by decide) (Nat.le_of_ble_eq_true rfl) (fun p e s m below meth c A ls hC _ hA hS hl => k_X4_far_0 hC hA  hS hl hw) sz
theorem hd_X4_far : yX4_far.cls ≠ "java/lang/invoke/MethodHandle" ∧ yX4_far.cls ≠ "java/lang/invoke/VarHandle" ∧ (parseMethodDescriptor yX4_far.desc).map (fun d => d.parameters.length) = some 2 := by decide +kernel
section
variable {p : Program} {l : Launch} {e : Env} {R : Room} {s : State} {m : MethodId} {args : Array Value} {below : List Frame} {meth : Method} {c : Code} {H : Heap} {locs : List Loc} {cells slots : Nat} {Q : State → Prop} {cc : ByteArray} {nL : Nat} {ret : Option FieldType} {pc : Nat} {ls : Array Slot} {rest : List Value}
set_option maxHeartbeats 4000000 in
set_option maxRecDepth 100000 in
theorem inv_q1082 {D : va_G} {dT : Nat → ClassId} {a : Nat → Nat} {A : Nat → Prop} {M : MS} {p1 : Int32} {p2 : Int32} {post : Int32 → Prop} (hC : wCx RX4 cc nL ret D dT p s m args meth c) (hA : wAz A s) (hS : StM D dT a A s M H locs) (hl : ls.size = nL) (hw : v_X4_far M p1 p2 post) (hR : rmX4_far.frames + 1 ≤ R.frames ∧ 8 + (5 + 11) + rmX4_far.locals ≤ R.locals) (hrest : (rest.map fun v => v.category).sum ≤ 8) (hf : cells ≤ R.cells ∧ slots ≤ R.slots) (hdg : decode cc pc = .ok (.invokevirtual 86, 3)) (kk : ∀ (r : Int32) (H1 : Heap) (locs1 : List Loc), post r → StM D dT a A s M H1 locs1 → W p l e R s m args below meth c H1 locs1 cells slots Q (F0 m (pc + 3) ls (.int r :: rest))) : W p l e R s m args below meth c H locs cells slots Q (F0 m pc ls (.int p2 :: .int p1 :: .ref (a 0) :: rest)) := by
  exact wCallVi (As := [.int p1, .int p2]) (rest := rest) (mc := 0) (ms := 0) 0 hC (met_X4_far l D dT a H.size M p1 p2 post hw) (lw_V q1082 q1084 qs53 q89 q1085) ⟨⟨rfl, rfl⟩, hd_X4_far, hR, hf⟩ rfl rfl rfl hA hS hl rfl hrest hdg (fun r u H1 locs1 hp hS1 => kk r H1 locs1 hp.2 (hp.1 ▸ hS1))
end
/-! LeastFramesModel.quad -/
def w_X4_quad (M : MS) (p1 : Int32) (post : Int32 → Prop) : Prop :=
  v_X4_far M p1 (0 : Int32) (fun r1 => v_X4_far M p1 (0 : Int32) (fun r2 => v_X4_far M p1 (1 : Int32) (fun r3 => v_X4_far M p1 (1 : Int32) (fun r4 => post ((r1 * r2) + (r3 * r4))))))
abbrev rmX4_quad : Room := { frames := 3, cells := 0, slots := 0, locals := 66 }
set_option maxHeartbeats 4000000 in
set_option maxRecDepth 100000 in
theorem k_X4_quad_0 {p : Program} {l : Launch} {e : Env} {s : State} {m : MethodId} {args : Array Value} {below : List Frame} {meth : Method} {c : Code} {D : va_G} {dT : Nat → ClassId} {a : Nat → Nat} {A : Nat → Prop}  {M : MS} {p1 : Int32} {post : Int32 → Prop} (hC : wCx RX4 cX4_quad 2 (some .int) D dT p s m args meth c) (hA : wAz A s) {H : Heap} {locs : List Loc} {ls : Array Slot} (hS : StM D dT a A s M H locs) (hl : lv_has ls 2 [(0, .ref (a 0)), (1, .int p1)])  (hw : w_X4_quad M p1 post) : W p l e rmX4_quad s m args below meth c H locs 0 0 (MQ below (va_Qi (fun r M9 => M9 = M ∧ post r) (wB D (MW dT a) MI A) A) args s 0 0 A) (F0 m 0 ls []) := by
  have hx := hC.1
  have hb := hC.2.1
  have hown := hC.2.2.2.1
  have hts := hC.2.2.2.2.1
  unfold w_X4_quad at hw
  refine lv_aload_n hx hb dX4_quad_0 rfl (lv_at hl 0 rfl) ?_
  refine lv_iload_n hx hb dX4_quad_1 rfl (lv_at hl 1 rfl) ?_
  refine lv_iconst (v := 0) hx hb dX4_quad_2 (by decide) ?_
  refine inv_q1082 hC hA hS hl.1 hw ⟨Nat.le_of_ble_eq_true rfl, Nat.le_of_ble_eq_true rfl⟩ (Nat.le_of_ble_eq_true rfl) ⟨Nat.zero_le _, Nat.zero_le _⟩ dX4_quad_3 (fun r1 H locs hw hS => ?_)
  refine lv_aload_n hx hb dX4_quad_6 rfl (lv_at hl 0 rfl) ?_
  refine lv_iload_n hx hb dX4_quad_7 rfl (lv_at hl 1 rfl) ?_
  refine lv_iconst (v := 0) hx hb dX4_quad_8 (by decide) ?_
  refine inv_q1082 hC hA hS hl.1 hw ⟨Nat.le_of_ble_eq_true rfl, Nat.le_of_ble_eq_true rfl⟩ (Nat.le_of_ble_eq_true rfl) ⟨Nat.zero_le _, Nat.zero_le _⟩ dX4_quad_9 (fun r2 H locs hw hS => ?_)
  refine lv_imul hx hb dX4_quad_12 ?_
  refine lv_aload_n hx hb dX4_quad_13 rfl (lv_at hl 0 rfl) ?_
  refine lv_iload_n hx hb dX4_quad_14 rfl (lv_at hl 1 rfl) ?_
  refine lv_iconst (v := 1) hx hb dX4_quad_15 (by decide) ?_
  refine inv_q1082 hC hA hS hl.1 hw ⟨Nat.le_of_ble_eq_true rfl, Nat.le_of_ble_eq_true rfl⟩ (Nat.le_of_ble_eq_true rfl) ⟨Nat.zero_le _, Nat.zero_le _⟩ dX4_quad_16 (fun r3 H locs hw hS => ?_)
  refine lv_aload_n hx hb dX4_quad_19 rfl (lv_at hl 0 rfl) ?_
  refine lv_iload_n hx hb dX4_quad_20 rfl (lv_at hl 1 rfl) ?_
  refine lv_iconst (v := 1) hx hb dX4_quad_21 (by decide) ?_
  refine inv_q1082 hC hA hS hl.1 hw ⟨Nat.le_of_ble_eq_true rfl, Nat.le_of_ble_eq_true rfl⟩ (Nat.le_of_ble_eq_true rfl) ⟨Nat.zero_le _, Nat.zero_le _⟩ dX4_quad_22 (fun r4 H locs hw hS => ?_)
  refine lv_imul hx hb dX4_quad_25 ?_
  refine lv_iadd hx hb dX4_quad_26 ?_
  exact wReti hC hS ⟨rfl, hw⟩ (Nat.le_refl _) (Nat.le_refl _) dX4_quad_27
abbrev v_X4_quad (M : MS) (p1 : Int32) (post : Int32 → Prop) : Prop := w_X4_quad M p1 post
set_option maxHeartbeats 4000000 in
set_option maxRecDepth 100000 in
theorem met_X4_quad (l : Launch) (D : va_G) (dT : Nat → ClassId) (a : Nat → Nat) (sz : Nat) (M : MS) (p1 : Int32) (post : Int32 → Prop) (hw : v_X4_quad M p1 post) : Met l yX4_quad (ws_ yX4_quad cX4_quad 2 (some .int)) rmX4_quad (wPc D dT (MW dT a) MI sz M [.ref (a 0), .int p1]) (va_Qi (fun r M9 => M9 = M ∧ post r) (wB D (MW dT a) MI (va_A ((MW dT a) M) sz)) (va_A ((MW dT a) M) sz)) 0 0 (va_A ((MW dT a) M) sz) :=
  wEnt (Q := fun A => (va_Qi (fun r M9 => M9 = M ∧ post r) (wB D (MW dT a) MI A) A)) (by decide) (Nat.le_of_ble_eq_true rfl) (fun p e s m below meth c A ls hC _ hA hS hl => k_X4_quad_0 hC hA  hS hl hw) sz
theorem hd_X4_quad : yX4_quad.cls ≠ "java/lang/invoke/MethodHandle" ∧ yX4_quad.cls ≠ "java/lang/invoke/VarHandle" ∧ (parseMethodDescriptor yX4_quad.desc).map (fun d => d.parameters.length) = some 1 := by decide +kernel
section
variable {p : Program} {l : Launch} {e : Env} {R : Room} {s : State} {m : MethodId} {args : Array Value} {below : List Frame} {meth : Method} {c : Code} {H : Heap} {locs : List Loc} {cells slots : Nat} {Q : State → Prop} {cc : ByteArray} {nL : Nat} {ret : Option FieldType} {pc : Nat} {ls : Array Slot} {rest : List Value}
set_option maxHeartbeats 4000000 in
set_option maxRecDepth 100000 in
theorem inv_q1078 {D : va_G} {dT : Nat → ClassId} {a : Nat → Nat} {A : Nat → Prop} {M : MS} {p1 : Int32} {post : Int32 → Prop} (hC : wCx RX4 cc nL ret D dT p s m args meth c) (hA : wAz A s) (hS : StM D dT a A s M H locs) (hl : ls.size = nL) (hw : v_X4_quad M p1 post) (hR : rmX4_quad.frames + 1 ≤ R.frames ∧ 8 + (2 + 11) + rmX4_quad.locals ≤ R.locals) (hrest : (rest.map fun v => v.category).sum ≤ 8) (hf : cells ≤ R.cells ∧ slots ≤ R.slots) (hdg : decode cc pc = .ok (.invokevirtual 111, 3)) (kk : ∀ (r : Int32) (H1 : Heap) (locs1 : List Loc), post r → StM D dT a A s M H1 locs1 → W p l e R s m args below meth c H1 locs1 cells slots Q (F0 m (pc + 3) ls (.int r :: rest))) : W p l e R s m args below meth c H locs cells slots Q (F0 m pc ls (.int p1 :: .ref (a 0) :: rest)) := by
  exact wCallVi (As := [.int p1]) (rest := rest) (mc := 0) (ms := 0) 0 hC (met_X4_quad l D dT a H.size M p1 post hw) (lw_V q1078 q1080 qs52 q89 q1081) ⟨⟨rfl, rfl⟩, hd_X4_quad, hR, hf⟩ rfl rfl rfl hA hS hl rfl hrest hdg (fun r u H1 locs1 hp hS1 => kk r H1 locs1 hp.2 (hp.1 ▸ hS1))
end
/-! LeastFramesModel.pairOf -/
def w_X4_pairOf (M : MS) (p1 : Int32) (p2 : Int32) (post : Int32 → Prop) : Prop :=
  (p2 = (0 : Int32) → (v_X4_lesser p1 (fun r6 => post r6))) ∧ (¬ p2 = (0 : Int32) → ((p2 = (1 : Int32) → (v_X4_greater p1 (fun r5 => post r5))) ∧ (¬ p2 = (1 : Int32) → ((p2 = (2 : Int32) → (v_X4_quad M p1 (fun r4 => post r4))) ∧ (¬ p2 = (2 : Int32) → (post (((M_bars M) >>> (p1 &&& 31)) &&& 1)))))))
abbrev rmX4_pairOf : Room := { frames := 4, cells := 0, slots := 0, locals := 87 }
set_option maxHeartbeats 4000000 in
set_option maxRecDepth 100000 in
theorem k_X4_pairOf_0 {p : Program} {l : Launch} {e : Env} {s : State} {m : MethodId} {args : Array Value} {below : List Frame} {meth : Method} {c : Code} {D : va_G} {dT : Nat → ClassId} {a : Nat → Nat} {A : Nat → Prop}  {M : MS} {p1 : Int32} {p2 : Int32} {post : Int32 → Prop} (hC : wCx RX4 cX4_pairOf 3 (some .int) D dT p s m args meth c) (hA : wAz A s) {H : Heap} {locs : List Loc} {ls : Array Slot} (hS : StM D dT a A s M H locs) (hl : lv_has ls 3 [(0, .ref (a 0)), (1, .int p1), (2, .int p2)])  (hw : w_X4_pairOf M p1 p2 post) : W p l e rmX4_pairOf s m args below meth c H locs 0 0 (MQ below (va_Qi (fun r M9 => M9 = M ∧ post r) (wB D (MW dT a) MI A) A) args s 0 0 A) (F0 m 0 ls []) := by
  have hx := hC.1
  have hb := hC.2.1
  have hown := hC.2.2.2.1
  have hts := hC.2.2.2.2.1
  unfold w_X4_pairOf at hw
  refine lv_iload_n hx hb dX4_pairOf_0 rfl (lv_at hl 2 rfl) ?_
  refine lv_if_ne (tgt := 11) hx hb dX4_pairOf_1 (by decide) (fun c1 => ?_) (fun c1 => ?_)
  · have hw := hw.2 c1
    refine lv_iload_n hx hb dX4_pairOf_11 rfl (lv_at hl 2 rfl) ?_
    refine lv_iconst (v := 1) hx hb dX4_pairOf_12 (by decide) ?_
    refine lv_icmp_ne (tgt := 23) hx hb dX4_pairOf_13 (by decide) (fun c2 => ?_) (fun c2 => ?_)
    · have hw := hw.2 c2
      refine lv_iload_n hx hb dX4_pairOf_23 rfl (lv_at hl 2 rfl) ?_
      refine lv_iconst (v := 2) hx hb dX4_pairOf_24 (by decide) ?_
      refine lv_icmp_ne (tgt := 36) hx hb dX4_pairOf_25 (by decide) (fun c3 => ?_) (fun c3 => ?_)
      · have hw := hw.2 c3
        refine lv_aload_n hx hb dX4_pairOf_36 rfl (lv_at hl 0 rfl) ?_
        refine ld_q941 hC hS dX4_pairOf_37 ?_
        refine lv_iload_n hx hb dX4_pairOf_40 rfl (lv_at hl 1 rfl) ?_
        refine lv_ishr hx hb dX4_pairOf_41 ?_
        refine lv_iconst (v := 1) hx hb dX4_pairOf_42 (by decide) ?_
        refine lv_iand hx hb dX4_pairOf_43 ?_
        exact wReti hC hS ⟨rfl, hw⟩ (Nat.le_refl _) (Nat.le_refl _) dX4_pairOf_44
      · have hw := hw.1 c3
        refine lv_aload_n hx hb dX4_pairOf_28 rfl (lv_at hl 0 rfl) ?_
        refine lv_iload_n hx hb dX4_pairOf_29 rfl (lv_at hl 1 rfl) ?_
        refine inv_q1078 hC hA hS hl.1 hw ⟨Nat.le_of_ble_eq_true rfl, Nat.le_of_ble_eq_true rfl⟩ (Nat.le_of_ble_eq_true rfl) ⟨Nat.zero_le _, Nat.zero_le _⟩ dX4_pairOf_30 (fun r4 H locs hw hS => ?_)
        refine lv_goto (tgt := 44) hx hb dX4_pairOf_33 (by decide) ?_
        exact wReti hC hS ⟨rfl, hw⟩ (Nat.le_refl _) (Nat.le_refl _) dX4_pairOf_44
    · have hw := hw.1 c2
      refine lv_iload_n hx hb dX4_pairOf_16 rfl (lv_at hl 1 rfl) ?_
      refine inv_q1075 hC hS hl.1 hw ⟨Nat.le_of_ble_eq_true rfl, Nat.le_of_ble_eq_true rfl⟩ (Nat.le_of_ble_eq_true rfl) ⟨Nat.zero_le _, Nat.zero_le _⟩ dX4_pairOf_17 (fun r5 H locs hw hS => ?_)
      refine lv_goto (tgt := 44) hx hb dX4_pairOf_20 (by decide) ?_
      exact wReti hC hS ⟨rfl, hw⟩ (Nat.le_refl _) (Nat.le_refl _) dX4_pairOf_44
  · have hw := hw.1 c1
    refine lv_iload_n hx hb dX4_pairOf_4 rfl (lv_at hl 1 rfl) ?_
    refine inv_q1072 hC hS hl.1 hw ⟨Nat.le_of_ble_eq_true rfl, Nat.le_of_ble_eq_true rfl⟩ (Nat.le_of_ble_eq_true rfl) ⟨Nat.zero_le _, Nat.zero_le _⟩ dX4_pairOf_5 (fun r6 H locs hw hS => ?_)
    refine lv_goto (tgt := 44) hx hb dX4_pairOf_8 (by decide) ?_
    exact wReti hC hS ⟨rfl, hw⟩ (Nat.le_refl _) (Nat.le_refl _) dX4_pairOf_44
abbrev v_X4_pairOf (M : MS) (p1 : Int32) (p2 : Int32) (post : Int32 → Prop) : Prop := w_X4_pairOf M p1 p2 post
set_option maxHeartbeats 4000000 in
set_option maxRecDepth 100000 in
theorem met_X4_pairOf (l : Launch) (D : va_G) (dT : Nat → ClassId) (a : Nat → Nat) (sz : Nat) (M : MS) (p1 : Int32) (p2 : Int32) (post : Int32 → Prop) (hw : v_X4_pairOf M p1 p2 post) : Met l yX4_pairOf (ws_ yX4_pairOf cX4_pairOf 3 (some .int)) rmX4_pairOf (wPc D dT (MW dT a) MI sz M [.ref (a 0), .int p1, .int p2]) (va_Qi (fun r M9 => M9 = M ∧ post r) (wB D (MW dT a) MI (va_A ((MW dT a) M) sz)) (va_A ((MW dT a) M) sz)) 0 0 (va_A ((MW dT a) M) sz) :=
  wEnt (Q := fun A => (va_Qi (fun r M9 => M9 = M ∧ post r) (wB D (MW dT a) MI A) A)) (by decide) (Nat.le_of_ble_eq_true rfl) (fun p e s m below meth c A ls hC _ hA hS hl => k_X4_pairOf_0 hC hA  hS hl hw) sz
theorem hd_X4_pairOf : yX4_pairOf.cls ≠ "java/lang/invoke/MethodHandle" ∧ yX4_pairOf.cls ≠ "java/lang/invoke/VarHandle" ∧ (parseMethodDescriptor yX4_pairOf.desc).map (fun d => d.parameters.length) = some 2 := by decide +kernel
section
variable {p : Program} {l : Launch} {e : Env} {R : Room} {s : State} {m : MethodId} {args : Array Value} {below : List Frame} {meth : Method} {c : Code} {H : Heap} {locs : List Loc} {cells slots : Nat} {Q : State → Prop} {cc : ByteArray} {nL : Nat} {ret : Option FieldType} {pc : Nat} {ls : Array Slot} {rest : List Value}
set_option maxHeartbeats 4000000 in
set_option maxRecDepth 100000 in
theorem inv_q1068 {D : va_G} {dT : Nat → ClassId} {a : Nat → Nat} {A : Nat → Prop} {M : MS} {p1 : Int32} {p2 : Int32} {post : Int32 → Prop} (hC : wCx RX4 cc nL ret D dT p s m args meth c) (hA : wAz A s) (hS : StM D dT a A s M H locs) (hl : ls.size = nL) (hw : v_X4_pairOf M p1 p2 post) (hR : rmX4_pairOf.frames + 1 ≤ R.frames ∧ 8 + (3 + 11) + rmX4_pairOf.locals ≤ R.locals) (hrest : (rest.map fun v => v.category).sum ≤ 8) (hf : cells ≤ R.cells ∧ slots ≤ R.slots) (hdg : decode cc pc = .ok (.invokevirtual 114, 3)) (kk : ∀ (r : Int32) (H1 : Heap) (locs1 : List Loc), post r → StM D dT a A s M H1 locs1 → W p l e R s m args below meth c H1 locs1 cells slots Q (F0 m (pc + 3) ls (.int r :: rest))) : W p l e R s m args below meth c H locs cells slots Q (F0 m pc ls (.int p2 :: .int p1 :: .ref (a 0) :: rest)) := by
  exact wCallVi (As := [.int p1, .int p2]) (rest := rest) (mc := 0) (ms := 0) 0 hC (met_X4_pairOf l D dT a H.size M p1 p2 post hw) (lw_V q1068 q1070 qs51 q89 q1071) ⟨⟨rfl, rfl⟩, hd_X4_pairOf, hR, hf⟩ rfl rfl rfl hA hS hl rfl hrest hdg (fun r u H1 locs1 hp hS1 => kk r H1 locs1 hp.2 (hp.1 ▸ hS1))
end
