/-! LeastFrames_Program.lays -/
def w_X2_lays_67b (p1 : Int32) (p2 : Int32) (K12 : XS → Int32 → Prop) (K67 : XS → Int32 → Int32 → Int32 → Int32 → Prop) (post : XS → Prop) (X : XS) (x3 : Int32) (x4 : Int32) (x5 : Int32) (x6 : Int32) : Prop :=
  ((10 : Int32) ≤ x6 → (vp_in (X_high X) 10 ∧ (vp_in x4 5 ∧ (vp_in x5 2 ∧ (∀ X4 : XS, X4 = sX_rows X (updL2 (X_rows X) ((X_high X).toNatClampNeg) (10 : Int32).toNatClampNeg ((-(X_pl X x4.toNatClampNeg x5.toNatClampNeg)).toInt64)) → (vp_in (X_high X4) 10 ∧ (∀ X5 : XS, X5 = sX_ways X4 (upd (X_ways X4) (X_high X4).toNatClampNeg x3) → (vp_in (X_high X5) 10 ∧ (∀ X6 : XS, X6 = sX_basis X5 (upd (X_basis X5) (X_high X5).toNatClampNeg (-1)) → (∀ X7 : XS, X7 = sX_high X6 ((X_high X6) + 1) → (∀ v8 : Int32, v8 = x3 + 1 → (K12 X7 v8)))))))))))) ∧ (¬ (10 : Int32) ≤ x6 → (vp_in (X_high X) 10 ∧ (v_X2_brings X p1 x6 x4 x5 (fun r10 => vp_in x6 11 ∧ (∀ X11 : XS, X11 = sX_rows X (updL2 (X_rows X) ((X_high X).toNatClampNeg) x6.toNatClampNeg r10) → (∀ v12 : Int32, v12 = x6 + 1 → (K67 X11 x3 x4 x5 v12)))))))
def w_X2_lays_67 (p1 : Int32) (p2 : Int32) (K12 : XS → Int32 → Prop) (post : XS → Prop) : Nat → XS → Int32 → Int32 → Int32 → Int32 → Prop
  | 0, _, _, _, _, _ => False
  | n + 1, X, x3, x4, x5, x6 => w_X2_lays_67b p1 p2 K12 (w_X2_lays_67 p1 p2 K12 post n) post X x3 x4 x5 x6
def w_X2_lays_12b (p1 : Int32) (p2 : Int32) (K12 : XS → Int32 → Prop) (post : XS → Prop) (X : XS) (x3 : Int32) : Prop :=
  ((2 * (X_many X)) ≤ x3 → (post X)) ∧ (¬ (2 * (X_many X)) ≤ x3 → ((p2 ≤ (X_high X) → (post X)) ∧ (¬ p2 ≤ (X_high X) → (∀ v3 : Int32, v3 = x3 / 2 → (∀ v4 : Int32, v4 = x3 - x3 / 2 * 2 → (vp_in v3 5 ∧ (v_X1_isHeld X v3.toNatClampNeg v4 (fun r6 => (r6 = (0 : Int32) → (∃ n, w_X2_lays_67 p1 p2 K12 post n X x3 v3 v4 0)) ∧ (¬ r6 = (0 : Int32) → (∀ v8 : Int32, v8 = x3 + 1 → (K12 X v8)))))))))))
def w_X2_lays_12 (p1 : Int32) (p2 : Int32) (post : XS → Prop) : Nat → XS → Int32 → Prop
  | 0, _, _ => False
  | n + 1, X, x3 => w_X2_lays_12b p1 p2 (w_X2_lays_12 p1 p2 post n) post X x3
def w_X2_lays (p1 : Int32) (p2 : Int32) (post : XS → Prop) (X : XS) : Prop :=
  ∀ X1 : XS, X1 = sX_high X 0 → (∀ X2 : XS, X2 = sX_below X1 1 → (∃ n, w_X2_lays_12 p1 p2 post n X2 0))
abbrev rmX2_lays : Room := { frames := 4, cells := 0, slots := 0, locals := 88 }
set_option maxHeartbeats 4000000 in
set_option maxRecDepth 100000 in
theorem k_X2_lays_67b {p : Program} {l : Launch} {e : Env} {s : State} {m : MethodId} {args : Array Value} {below : List Frame} {meth : Method} {c : Code} {D : va_G} {dT : Nat → ClassId} {a : Nat → Nat} {A : Nat → Prop} {vs0 : XE} {p1 : Int32} {p2 : Int32} {K12 : XS → Int32 → Prop} {K67 : XS → Int32 → Int32 → Int32 → Int32 → Prop} {post : XS → Prop} (hC : wCx RX2 cX2_lays 7 (none) D dT p s m args meth c) (hA : wAz A s) (hK12 : ∀ (X : XS) (x3 : Int32), K12 X x3 → ∀ {vs : XE} {H : Heap} {locs : List Loc} {ls : Array Slot}, StX D dT a A s vs0 X vs H locs → lv_has ls 7 [(0, .ref (a 22)), (1, .int p1), (2, .int p2), (3, .int x3)] → W p l e rmX2_lays s m args below meth c H locs 0 0 (MQ below (va_Qv (fun u9 => post u9.1) (wB D (XW dT a) (XI vs0) A) A) args s 0 0 A) (F0 m 12 ls [])) (hK67 : ∀ (X : XS) (x3 : Int32) (x4 : Int32) (x5 : Int32) (x6 : Int32), K67 X x3 x4 x5 x6 → ∀ {vs : XE} {H : Heap} {locs : List Loc} {ls : Array Slot}, StX D dT a A s vs0 X vs H locs → lv_has ls 7 [(0, .ref (a 22)), (1, .int p1), (2, .int p2), (3, .int x3), (4, .int x4), (5, .int x5), (6, .int x6)] → W p l e rmX2_lays s m args below meth c H locs 0 0 (MQ below (va_Qv (fun u9 => post u9.1) (wB D (XW dT a) (XI vs0) A) A) args s 0 0 A) (F0 m 67 ls [])) (X : XS) (x3 : Int32) (x4 : Int32) (x5 : Int32) (x6 : Int32) {vs : XE} {H : Heap} {locs : List Loc} {ls : Array Slot} (hS : StX D dT a A s vs0 X vs H locs) (hl : lv_has ls 7 [(0, .ref (a 22)), (1, .int p1), (2, .int p2), (3, .int x3), (4, .int x4), (5, .int x5), (6, .int x6)])  (hw : w_X2_lays_67b p1 p2 K12 K67 post X x3 x4 x5 x6) : W p l e rmX2_lays s m args below meth c H locs 0 0 (MQ below (va_Qv (fun u9 => post u9.1) (wB D (XW dT a) (XI vs0) A) A) args s 0 0 A) (F0 m 67 ls []) := by
  have hx := hC.1
  have hb := hC.2.1
  have hown := hC.2.2.2.1
  have hts := hC.2.2.2.2.1
  unfold w_X2_lays_67b at hw
  refine lv_iload hx hb dX2_lays_67 (lv_at hl 6 rfl) ?_
  refine lv_bipush (v := 10) hx hb dX2_lays_69 (by decide) ?_
  refine lv_icmp_ge (tgt := 103) hx hb dX2_lays_71 (by decide) (fun c1 => ?_) (fun c1 => ?_)
  · have hw := hw.1 c1
    refine lv_aload_n hx hb dX2_lays_103 rfl (lv_at hl 0 rfl) ?_
    refine ld_q153 hC hS dX2_lays_104 ?_
    refine lv_aload_n hx hb dX2_lays_107 rfl (lv_at hl 0 rfl) ?_
    refine ld_q159 hC hS dX2_lays_108 ?_
    have hi2 := hw.1
    have hw := hw.2
    refine aa_RS hC hS hi2 dX2_lays_111 ?_
    refine lv_bipush (v := 10) hx hb dX2_lays_112 (by decide) ?_
    refine lv_aload_n hx hb dX2_lays_114 rfl (lv_at hl 0 rfl) ?_
    refine ld_q163 hC hS dX2_lays_115 ?_
    refine ld_q194 hC hS dX2_lays_118 ?_
    refine lv_iload hx hb dX2_lays_121 (lv_at hl 4 rfl) ?_
    have hi3 := hw.1
    have hw := hw.2
    refine aa_PA hC hS hi3 dX2_lays_123 ?_
    refine ld_q129 hC hS (vp_lt hi3) dX2_lays_124 ?_
    refine lv_iload hx hb dX2_lays_127 (lv_at hl 5 rfl) ?_
    refine al_PL hC hS (vp_lt hi3) hw.1 dX2_lays_129 ?_
    have hw := hw.2
    refine lv_ineg hx hb dX2_lays_130 ?_
    refine lv_i2l hx hb dX2_lays_131 rfl ?_
    refine as_ROW hC hS (vp_lt hi2) (by unfold vp_in; decide) dX2_lays_132 (fun H locs hS => ?_)
    have hw := hw (sX_rows X (updL2 (X_rows X) ((X_high X).toNatClampNeg) (10 : Int32).toNatClampNeg ((-(X_pl X x4.toNatClampNeg x5.toNatClampNeg)).toInt64))) rfl
    generalize sX_rows X (updL2 (X_rows X) ((X_high X).toNatClampNeg) (10 : Int32).toNatClampNeg ((-(X_pl X x4.toNatClampNeg x5.toNatClampNeg)).toInt64)) = X4 at hS hw
    refine lv_aload_n hx hb dX2_lays_133 rfl (lv_at hl 0 rfl) ?_
    refine ld_q155 hC hS dX2_lays_134 ?_
    refine lv_aload_n hx hb dX2_lays_137 rfl (lv_at hl 0 rfl) ?_
    refine ld_q159 hC hS dX2_lays_138 ?_
    refine lv_iload_n hx hb dX2_lays_141 rfl (lv_at hl 3 rfl) ?_
    have hi := hw.1
    have hw := hw.2
    refine as_WY hC hS hi dX2_lays_142 (fun H locs hS => ?_)
    have hw := hw (sX_ways X4 (upd (X_ways X4) (X_high X4).toNatClampNeg x3)) rfl
    generalize sX_ways X4 (upd (X_ways X4) (X_high X4).toNatClampNeg x3) = X5 at hS hw
    refine lv_aload_n hx hb dX2_lays_143 rfl (lv_at hl 0 rfl) ?_
    refine ld_q156 hC hS dX2_lays_144 ?_
    refine lv_aload_n hx hb dX2_lays_147 rfl (lv_at hl 0 rfl) ?_
    refine ld_q159 hC hS dX2_lays_148 ?_
    refine lv_iconst (v := (-1)) hx hb dX2_lays_151 (by decide) ?_
    have hi := hw.1
    have hw := hw.2
    refine as_BA hC hS hi dX2_lays_152 (fun H locs hS => ?_)
    have hw := hw (sX_basis X5 (upd (X_basis X5) (X_high X5).toNatClampNeg (-1))) rfl
    generalize sX_basis X5 (upd (X_basis X5) (X_high X5).toNatClampNeg (-1)) = X6 at hS hw
    refine lv_aload_n hx hb dX2_lays_153 rfl (lv_at hl 0 rfl) ?_
    refine lv_dup hx hb dX2_lays_154 rfl ?_
    refine ld_q159 hC hS dX2_lays_155 ?_
    refine lv_iconst (v := 1) hx hb dX2_lays_158 (by decide) ?_
    refine lv_iadd hx hb dX2_lays_159 ?_
    refine st_q159 hC hS dX2_lays_160 (fun H locs hS => ?_)
    have hw := hw (sX_high X6 ((X_high X6) + 1)) rfl
    generalize sX_high X6 ((X_high X6) + 1) = X7 at hS hw
    obtain ⟨v8, ev8⟩ : ∃ y : Int32, y = x3 + 1 := ⟨_, rfl⟩
    have hw := hw v8 ev8
    refine lv_iinc (v := v8) (lv' := [(3, .int v8), (0, .ref (a 22)), (1, .int p1), (2, .int p2), (4, .int x4), (5, .int x5), (6, .int x6)]) hx hb dX2_lays_163 hl (k := 3) rfl (by rw [ev8]; rfl) (by decide) rfl (fun ls hl => ?_)
    refine lv_goto (tgt := 12) hx hb dX2_lays_166 (by decide) ?_
    exact hK12 _ _ hw hS (lv_sub hl [1, 2, 3, 0] rfl)
  · have hw := hw.2 c1
    refine lv_aload_n hx hb dX2_lays_74 rfl (lv_at hl 0 rfl) ?_
    refine ld_q153 hC hS dX2_lays_75 ?_
    refine lv_aload_n hx hb dX2_lays_78 rfl (lv_at hl 0 rfl) ?_
    refine ld_q159 hC hS dX2_lays_79 ?_
    have hi9 := hw.1
    have hw := hw.2
    refine aa_RS hC hS hi9 dX2_lays_82 ?_
    refine lv_iload hx hb dX2_lays_83 (lv_at hl 6 rfl) ?_
    refine lv_aload_n hx hb dX2_lays_85 rfl (lv_at hl 0 rfl) ?_
    refine lv_iload_n hx hb dX2_lays_86 rfl (lv_at hl 1 rfl) ?_
    refine lv_iload hx hb dX2_lays_87 (lv_at hl 6 rfl) ?_
    refine lv_iload hx hb dX2_lays_89 (lv_at hl 4 rfl) ?_
    refine lv_iload hx hb dX2_lays_91 (lv_at hl 5 rfl) ?_
    refine inv_q382 hC hA hS hl.1 hw ⟨Nat.le_of_ble_eq_true rfl, Nat.le_of_ble_eq_true rfl⟩ (Nat.le_of_ble_eq_true rfl) ⟨Nat.zero_le _, Nat.zero_le _⟩ dX2_lays_93 (fun r10 H locs hw hS => ?_)
    have hi := hw.1
    have hw := hw.2
    refine as_ROW hC hS (vp_lt hi9) hi dX2_lays_96 (fun H locs hS => ?_)
    have hw := hw (sX_rows X (updL2 (X_rows X) ((X_high X).toNatClampNeg) x6.toNatClampNeg r10)) rfl
    generalize sX_rows X (updL2 (X_rows X) ((X_high X).toNatClampNeg) x6.toNatClampNeg r10) = X11 at hS hw
    obtain ⟨v12, ev12⟩ : ∃ y : Int32, y = x6 + 1 := ⟨_, rfl⟩
    have hw := hw v12 ev12
    refine lv_iinc (v := v12) (lv' := [(6, .int v12), (0, .ref (a 22)), (1, .int p1), (2, .int p2), (3, .int x3), (4, .int x4), (5, .int x5)]) hx hb dX2_lays_97 hl (k := 6) rfl (by rw [ev12]; rfl) (by decide) rfl (fun ls hl => ?_)
    refine lv_goto (tgt := 67) hx hb dX2_lays_100 (by decide) ?_
    exact hK67 _ _ _ _ _ hw hS (lv_sub hl [1, 2, 3, 4, 5, 6, 0] rfl)
set_option maxHeartbeats 4000000 in
set_option maxRecDepth 100000 in
theorem k_X2_lays_67 {p : Program} {l : Launch} {e : Env} {s : State} {m : MethodId} {args : Array Value} {below : List Frame} {meth : Method} {c : Code} {D : va_G} {dT : Nat → ClassId} {a : Nat → Nat} {A : Nat → Prop} {vs0 : XE} {p1 : Int32} {p2 : Int32} {K12 : XS → Int32 → Prop} {post : XS → Prop} (hC : wCx RX2 cX2_lays 7 (none) D dT p s m args meth c) (hA : wAz A s) (hK12 : ∀ (X : XS) (x3 : Int32), K12 X x3 → ∀ {vs : XE} {H : Heap} {locs : List Loc} {ls : Array Slot}, StX D dT a A s vs0 X vs H locs → lv_has ls 7 [(0, .ref (a 22)), (1, .int p1), (2, .int p2), (3, .int x3)] → W p l e rmX2_lays s m args below meth c H locs 0 0 (MQ below (va_Qv (fun u9 => post u9.1) (wB D (XW dT a) (XI vs0) A) A) args s 0 0 A) (F0 m 12 ls [])) : ∀ (X : XS) (x3 : Int32) (x4 : Int32) (x5 : Int32) (x6 : Int32) (n : Nat), ∀ {vs : XE} {H : Heap} {locs : List Loc} {ls : Array Slot}, StX D dT a A s vs0 X vs H locs → lv_has ls 7 [(0, .ref (a 22)), (1, .int p1), (2, .int p2), (3, .int x3), (4, .int x4), (5, .int x5), (6, .int x6)] → w_X2_lays_67 p1 p2 K12 post n X x3 x4 x5 x6 → W p l e rmX2_lays s m args below meth c H locs 0 0 (MQ below (va_Qv (fun u9 => post u9.1) (wB D (XW dT a) (XI vs0) A) A) args s 0 0 A) (F0 m 67 ls []) := by
  intro X x3 x4 x5 x6 n
  induction n generalizing X x3 x4 x5 x6 with
  | zero => intro vs H locs ls  hS hl hw; exact hw.elim
  | succ n ih =>
    intro vs H locs ls  hS hl hw
    exact k_X2_lays_67b hC hA hK12 (fun X x3 x4 x5 x6 hk {vs} {H} {locs} {ls}  hS hl => ih X x3 x4 x5 x6  hS hl hk) X x3 x4 x5 x6  hS hl hw
set_option maxHeartbeats 4000000 in
set_option maxRecDepth 100000 in
theorem k_X2_lays_12b {p : Program} {l : Launch} {e : Env} {s : State} {m : MethodId} {args : Array Value} {below : List Frame} {meth : Method} {c : Code} {D : va_G} {dT : Nat → ClassId} {a : Nat → Nat} {A : Nat → Prop} {vs0 : XE} {p1 : Int32} {p2 : Int32} {K12 : XS → Int32 → Prop} {post : XS → Prop} (hC : wCx RX2 cX2_lays 7 (none) D dT p s m args meth c) (hA : wAz A s) (hK12 : ∀ (X : XS) (x3 : Int32), K12 X x3 → ∀ {vs : XE} {H : Heap} {locs : List Loc} {ls : Array Slot}, StX D dT a A s vs0 X vs H locs → lv_has ls 7 [(0, .ref (a 22)), (1, .int p1), (2, .int p2), (3, .int x3)] → W p l e rmX2_lays s m args below meth c H locs 0 0 (MQ below (va_Qv (fun u9 => post u9.1) (wB D (XW dT a) (XI vs0) A) A) args s 0 0 A) (F0 m 12 ls [])) (X : XS) (x3 : Int32) {vs : XE} {H : Heap} {locs : List Loc} {ls : Array Slot} (hS : StX D dT a A s vs0 X vs H locs) (hl : lv_has ls 7 [(0, .ref (a 22)), (1, .int p1), (2, .int p2), (3, .int x3)])  (hw : w_X2_lays_12b p1 p2 K12 post X x3) : W p l e rmX2_lays s m args below meth c H locs 0 0 (MQ below (va_Qv (fun u9 => post u9.1) (wB D (XW dT a) (XI vs0) A) A) args s 0 0 A) (F0 m 12 ls []) := by
  have hx := hC.1
  have hb := hC.2.1
  have hown := hC.2.2.2.1
  have hts := hC.2.2.2.2.1
  unfold w_X2_lays_12b at hw
  refine lv_iload_n hx hb dX2_lays_12 rfl (lv_at hl 3 rfl) ?_
  refine lv_iconst (v := 2) hx hb dX2_lays_13 (by decide) ?_
  refine lv_aload_n hx hb dX2_lays_14 rfl (lv_at hl 0 rfl) ?_
  refine ld_q163 hC hS dX2_lays_15 ?_
  refine ld_q195 hC hS dX2_lays_18 ?_
  refine lv_imul hx hb dX2_lays_21 ?_
  refine lv_icmp_ge (tgt := 169) hx hb dX2_lays_22 (by decide) (fun c1 => ?_) (fun c1 => ?_)
  · have hw := hw.1 c1
    exact wRetv hC hS hw (Nat.le_refl _) (Nat.le_refl _) dX2_lays_169
  · have hw := hw.2 c1
    refine lv_aload_n hx hb dX2_lays_25 rfl (lv_at hl 0 rfl) ?_
    refine ld_q159 hC hS dX2_lays_26 ?_
    refine lv_iload_n hx hb dX2_lays_29 rfl (lv_at hl 2 rfl) ?_
    refine lv_icmp_ge (tgt := 169) hx hb dX2_lays_30 (by decide) (fun c2 => ?_) (fun c2 => ?_)
    · have hw := hw.1 c2
      exact wRetv hC hS hw (Nat.le_refl _) (Nat.le_refl _) dX2_lays_169
    · have hw := hw.2 c2
      refine lv_iload_n hx hb dX2_lays_33 rfl (lv_at hl 3 rfl) ?_
      refine lv_iconst (v := 2) hx hb dX2_lays_34 (by decide) ?_
      refine lv_idiv hx hb dX2_lays_35 (by decide) ?_
      refine lv_topi (fun v3 ev3 => ?_)
      have hw := hw v3 ev3
      refine lv_istore (lv' := [(4, .int v3), (0, .ref (a 22)), (1, .int p1), (2, .int p2), (3, .int x3)]) hx hb dX2_lays_36 hl (by decide) rfl (fun ls hl => ?_)
      refine lv_iload_n hx hb dX2_lays_38 rfl (lv_at hl 4 rfl) ?_
      refine lv_iconst (v := 2) hx hb dX2_lays_39 (by decide) ?_
      refine lv_irem hx hb dX2_lays_40 (by decide) ?_
      refine lv_topi (fun v4 ev4 => ?_)
      have hw := hw v4 ev4
      refine lv_istore (lv' := [(5, .int v4), (4, .int v3), (0, .ref (a 22)), (1, .int p1), (2, .int p2), (3, .int x3)]) hx hb dX2_lays_41 hl (by decide) rfl (fun ls hl => ?_)
      refine lv_aload_n hx hb dX2_lays_43 rfl (lv_at hl 2 rfl) ?_
      refine ld_q163 hC hS dX2_lays_44 ?_
      refine ld_q194 hC hS dX2_lays_47 ?_
      refine lv_iload hx hb dX2_lays_50 (lv_at hl 1 rfl) ?_
      have hi5 := hw.1
      have hw := hw.2
      refine aa_PA hC hS hi5 dX2_lays_52 ?_
      refine lv_iload hx hb dX2_lays_53 (lv_at hl 0 rfl) ?_
      refine inv_q377 hC hA hS (vp_lt hi5) hl.1 hw ⟨Nat.le_of_ble_eq_true rfl, Nat.le_of_ble_eq_true rfl⟩ (Nat.le_of_ble_eq_true rfl) ⟨Nat.zero_le _, Nat.zero_le _⟩ dX2_lays_55 (fun r6 H locs hw hS => ?_)
      refine lv_if_eq (tgt := 64) hx hb dX2_lays_58 (by decide) (fun c7 => ?_) (fun c7 => ?_)
      · have hw := hw.1 c7
        refine lv_iconst (v := 0) hx hb dX2_lays_64 (by decide) ?_
        refine lv_istore (lv' := [(6, .int 0), (5, .int v4), (4, .int v3), (0, .ref (a 22)), (1, .int p1), (2, .int p2), (3, .int x3)]) hx hb dX2_lays_65 hl (by decide) rfl (fun ls hl => ?_)
        obtain ⟨n, hw⟩ := hw
        exact k_X2_lays_67 hC hA hK12 _ _ _ _ _ n hS (lv_sub hl [3, 4, 5, 6, 2, 1, 0] rfl) hw
      · have hw := hw.2 c7
        refine lv_goto (tgt := 163) hx hb dX2_lays_61 (by decide) ?_
        obtain ⟨v8, ev8⟩ : ∃ y : Int32, y = x3 + 1 := ⟨_, rfl⟩
        have hw := hw v8 ev8
        refine lv_iinc (v := v8) (lv' := [(3, .int v8), (5, .int v4), (4, .int v3), (0, .ref (a 22)), (1, .int p1), (2, .int p2)]) hx hb dX2_lays_163 hl (k := 5) rfl (by rw [ev8]; rfl) (by decide) rfl (fun ls hl => ?_)
        refine lv_goto (tgt := 12) hx hb dX2_lays_166 (by decide) ?_
        exact hK12 _ _ hw hS (lv_sub hl [3, 4, 5, 0] rfl)
set_option maxHeartbeats 4000000 in
set_option maxRecDepth 100000 in
theorem k_X2_lays_12 {p : Program} {l : Launch} {e : Env} {s : State} {m : MethodId} {args : Array Value} {below : List Frame} {meth : Method} {c : Code} {D : va_G} {dT : Nat → ClassId} {a : Nat → Nat} {A : Nat → Prop} {vs0 : XE} {p1 : Int32} {p2 : Int32} {post : XS → Prop} (hC : wCx RX2 cX2_lays 7 (none) D dT p s m args meth c) (hA : wAz A s) : ∀ (X : XS) (x3 : Int32) (n : Nat), ∀ {vs : XE} {H : Heap} {locs : List Loc} {ls : Array Slot}, StX D dT a A s vs0 X vs H locs → lv_has ls 7 [(0, .ref (a 22)), (1, .int p1), (2, .int p2), (3, .int x3)] → w_X2_lays_12 p1 p2 post n X x3 → W p l e rmX2_lays s m args below meth c H locs 0 0 (MQ below (va_Qv (fun u9 => post u9.1) (wB D (XW dT a) (XI vs0) A) A) args s 0 0 A) (F0 m 12 ls []) := by
  intro X x3 n
  induction n generalizing X x3 with
  | zero => intro vs H locs ls  hS hl hw; exact hw.elim
  | succ n ih =>
    intro vs H locs ls  hS hl hw
    exact k_X2_lays_12b hC hA (fun X x3 hk {vs} {H} {locs} {ls}  hS hl => ih X x3  hS hl hk) X x3  hS hl hw
set_option maxHeartbeats 4000000 in
set_option maxRecDepth 100000 in
theorem k_X2_lays_0 {p : Program} {l : Launch} {e : Env} {s : State} {m : MethodId} {args : Array Value} {below : List Frame} {meth : Method} {c : Code} {D : va_G} {dT : Nat → ClassId} {a : Nat → Nat} {A : Nat → Prop} {vs0 : XE} {p1 : Int32} {p2 : Int32} {post : XS → Prop} (hC : wCx RX2 cX2_lays 7 (none) D dT p s m args meth c) (hA : wAz A s) (X : XS) {vs : XE} {H : Heap} {locs : List Loc} {ls : Array Slot} (hS : StX D dT a A s vs0 X vs H locs) (hl : lv_has ls 7 [(0, .ref (a 22)), (1, .int p1), (2, .int p2)])  (hw : w_X2_lays p1 p2 post X) : W p l e rmX2_lays s m args below meth c H locs 0 0 (MQ below (va_Qv (fun u9 => post u9.1) (wB D (XW dT a) (XI vs0) A) A) args s 0 0 A) (F0 m 0 ls []) := by
  have hx := hC.1
  have hb := hC.2.1
  have hown := hC.2.2.2.1
  have hts := hC.2.2.2.2.1
  unfold w_X2_lays at hw
  refine lv_aload_n hx hb dX2_lays_0 rfl (lv_at hl 0 rfl) ?_
  refine lv_iconst (v := 0) hx hb dX2_lays_1 (by decide) ?_
  refine st_q159 hC hS dX2_lays_2 (fun H locs hS => ?_)
  have hw := hw (sX_high X 0) rfl
  generalize sX_high X 0 = X1 at hS hw
  refine lv_aload_n hx hb dX2_lays_5 rfl (lv_at hl 0 rfl) ?_
  refine lv_lconst (v := 1) hx hb dX2_lays_6 (by decide) ?_
  refine st_q161 hC hS dX2_lays_7 (fun H locs hS => ?_)
  have hw := hw (sX_below X1 1) rfl
  generalize sX_below X1 1 = X2 at hS hw
  refine lv_iconst (v := 0) hx hb dX2_lays_10 (by decide) ?_
  refine lv_istore_n (lv' := [(3, .int 0), (0, .ref (a 22)), (1, .int p1), (2, .int p2)]) hx hb dX2_lays_11 rfl hl (by decide) rfl (fun ls hl => ?_)
  obtain ⟨n, hw⟩ := hw
  exact k_X2_lays_12 hC hA _ _ n hS (lv_sub hl [1, 2, 3, 0] rfl) hw
abbrev v_X2_lays (X : XS) (p1 : Int32) (p2 : Int32) (post : XS → Prop) : Prop := w_X2_lays p1 p2 post X
set_option maxHeartbeats 4000000 in
set_option maxRecDepth 100000 in
theorem met_X2_lays (l : Launch) (D : va_G) (dT : Nat → ClassId) (a : Nat → Nat) (sz : Nat) (X : XS) (vs0 : XE) (p1 : Int32) (p2 : Int32) (post : XS → Prop) (hw : v_X2_lays X p1 p2 post) : Met l yX2_lays (ws_ yX2_lays cX2_lays 7 (none)) rmX2_lays (wPc D dT (XW dT a) (XI vs0) sz (X, vs0) [.ref (a 22), .int p1, .int p2]) (va_Qv (fun u9 => post u9.1) (wB D (XW dT a) (XI vs0) (va_A ((XW dT a) (X, vs0)) sz)) (va_A ((XW dT a) (X, vs0)) sz)) 0 0 (va_A ((XW dT a) (X, vs0)) sz) :=
  wEnt (Q := fun A => (va_Qv (fun u9 => post u9.1) (wB D (XW dT a) (XI vs0) A) A)) (by decide) (Nat.le_of_ble_eq_true rfl) (fun p e s m below meth c A ls hC _ hA hS hl => k_X2_lays_0 hC hA _ hS hl hw) sz
theorem hd_X2_lays : yX2_lays.cls ≠ "java/lang/invoke/MethodHandle" ∧ yX2_lays.cls ≠ "java/lang/invoke/VarHandle" ∧ (parseMethodDescriptor yX2_lays.desc).map (fun d => d.parameters.length) = some 2 := by decide +kernel
section
variable {p : Program} {l : Launch} {e : Env} {R : Room} {s : State} {m : MethodId} {args : Array Value} {below : List Frame} {meth : Method} {c : Code} {H : Heap} {locs : List Loc} {cells slots : Nat} {Q : State → Prop} {cc : ByteArray} {nL : Nat} {ret : Option FieldType} {pc : Nat} {ls : Array Slot} {rest : List Value}
set_option maxHeartbeats 4000000 in
set_option maxRecDepth 100000 in
theorem inv_q373 {D : va_G} {dT : Nat → ClassId} {a : Nat → Nat} {A : Nat → Prop} {vs0 : XE} {vs : XE} {X : XS} {p1 : Int32} {p2 : Int32} {post : XS → Prop} (hC : wCx RX2 cc nL ret D dT p s m args meth c) (hA : wAz A s) (hS : StX D dT a A s vs0 X vs H locs) (hl : ls.size = nL) (hw : v_X2_lays X p1 p2 post) (hR : rmX2_lays.frames + 1 ≤ R.frames ∧ 8 + (7 + 11) + rmX2_lays.locals ≤ R.locals) (hrest : (rest.map fun v => v.category).sum ≤ 8) (hf : cells ≤ R.cells ∧ slots ≤ R.slots) (hdg : decode cc pc = .ok (.invokevirtual 77, 3)) (kk : ∀ (X1 : XS) (vs1 : XE) (H1 : Heap) (locs1 : List Loc), post X1 → (∀ v ∈ vs, v ∈ vs1) → StX D dT a A s vs0 X1 vs1 H1 locs1 → W p l e R s m args below meth c H1 locs1 cells slots Q (F0 m (pc + 3) ls rest)) : W p l e R s m args below meth c H locs cells slots Q (F0 m pc ls (.int p2 :: .int p1 :: .ref (a 22) :: rest)) := by
  exact wCallVv (As := [.int p1, .int p2]) (rest := rest) (mc := 0) (ms := 0) 22 hC (met_X2_lays l D dT a H.size X vs p1 p2 post hw) (lw_V q373 q375 qs11 q87 q376) ⟨⟨rfl, rfl⟩, hd_X2_lays, hR, hf⟩ XW_22 rfl rfl hA hS.self hl rfl hrest hdg (fun  u H1 locs1 hp hS1 => kk  u.1 u.2 H1 locs1 hp hS1.2.2.2.2 (hS.back hS1))
end
/-! LeastFrames_Program.pivots -/
def w_X2_pivots_44b (p1 : Int32) (p2 : Int32) (K12 : XS → Int64 → Int32 → Prop) (K44 : XS → Int64 → Int32 → Int64 → Int32 → Prop) (post : XS → Prop) (X : XS) (x3 : Int64) (x5 : Int32) (x6 : Int64) (x8 : Int32) : Prop :=
  ((10 : Int32) < x8 → (∀ v2 : Int32, v2 = x5 + 1 → (K12 X x3 v2))) ∧ (¬ (10 : Int32) < x8 → (vp_in x5 10 ∧ (vp_in x5 10 ∧ (vp_in x8 11 ∧ (vp_in p1 10 ∧ (vp_in x8 11 ∧ ((¬ (X_below X) = 0) ∧ (vp_in x8 11 ∧ (∀ X6 : XS, X6 = sX_rows X (updL2 (X_rows X) x5.toNatClampNeg x8.toNatClampNeg ((((X_rows X x5.toNatClampNeg x8.toNatClampNeg) * x3) - (x6 * (X_rows X p1.toNatClampNeg x8.toNatClampNeg))) / (X_below X))) → (∀ v7 : Int32, v7 = x8 + 1 → (K44 X6 x3 x5 x6 v7)))))))))))
def w_X2_pivots_44 (p1 : Int32) (p2 : Int32) (K12 : XS → Int64 → Int32 → Prop) (post : XS → Prop) : Nat → XS → Int64 → Int32 → Int64 → Int32 → Prop
  | 0, _, _, _, _, _ => False
  | n + 1, X, x3, x5, x6, x8 => w_X2_pivots_44b p1 p2 K12 (w_X2_pivots_44 p1 p2 K12 post n) post X x3 x5 x6 x8
def w_X2_pivots_149b (p1 : Int32) (p2 : Int32) (K137 : XS → Int32 → Prop) (K149 : XS → Int32 → Int32 → Prop) (post : XS → Prop) (X : XS) (x5 : Int32) (x6 : Int32) : Prop :=
  ((10 : Int32) < x6 → (∀ v2 : Int32, v2 = x5 + 1 → (K137 X v2))) ∧ (¬ (10 : Int32) < x6 → (vp_in x5 10 ∧ (vp_in x5 10 ∧ (vp_in x6 11 ∧ (vp_in x6 11 ∧ (∀ X5 : XS, X5 = sX_rows X (updL2 (X_rows X) x5.toNatClampNeg x6.toNatClampNeg (-(X_rows X x5.toNatClampNeg x6.toNatClampNeg))) → (∀ v6 : Int32, v6 = x6 + 1 → (K149 X5 x5 v6))))))))
def w_X2_pivots_149 (p1 : Int32) (p2 : Int32) (K137 : XS → Int32 → Prop) (post : XS → Prop) : Nat → XS → Int32 → Int32 → Prop
  | 0, _, _, _ => False
  | n + 1, X, x5, x6 => w_X2_pivots_149b p1 p2 K137 (w_X2_pivots_149 p1 p2 K137 post n) post X x5 x6
def w_X2_pivots_137b (p1 : Int32) (p2 : Int32) (K137 : XS → Int32 → Prop) (post : XS → Prop) (X : XS) (x5 : Int32) : Prop :=
  ((X_high X) ≤ x5 → (post X)) ∧ (¬ (X_high X) ≤ x5 → (∃ n, w_X2_pivots_149 p1 p2 K137 post n X x5 0))
def w_X2_pivots_137 (p1 : Int32) (p2 : Int32) (post : XS → Prop) : Nat → XS → Int32 → Prop
  | 0, _, _ => False
  | n + 1, X, x5 => w_X2_pivots_137b p1 p2 (w_X2_pivots_137 p1 p2 post n) post X x5
def w_X2_pivots_12b (p1 : Int32) (p2 : Int32) (K12 : XS → Int64 → Int32 → Prop) (post : XS → Prop) (X : XS) (x3 : Int64) (x5 : Int32) : Prop :=
  ((X_high X) ≤ x5 → (∀ X2 : XS, X2 = sX_below X x3 → (vp_in p1 10 ∧ (∀ X3 : XS, X3 = sX_basis X2 (upd (X_basis X2) p1.toNatClampNeg p2) → (((X_below X3) ≤ (0 : Int64) → (∀ X5 : XS, X5 = sX_below X3 (-(X_below X3)) → (∃ n, w_X2_pivots_137 p1 p2 post n X5 0))) ∧ (¬ (X_below X3) ≤ (0 : Int64) → (post X3))))))) ∧ (¬ (X_high X) ≤ x5 → ((x5 = p1 → (∀ v9 : Int32, v9 = x5 + 1 → (K12 X x3 v9))) ∧ (¬ x5 = p1 → (vp_in x5 10 ∧ (vp_in p2 11 ∧ (∀ v8 : Int64, v8 = X_rows X x5.toNatClampNeg p2.toNatClampNeg → (∃ n, w_X2_pivots_44 p1 p2 K12 post n X x3 x5 v8 0)))))))
def w_X2_pivots_12 (p1 : Int32) (p2 : Int32) (post : XS → Prop) : Nat → XS → Int64 → Int32 → Prop
  | 0, _, _, _ => False
  | n + 1, X, x3, x5 => w_X2_pivots_12b p1 p2 (w_X2_pivots_12 p1 p2 post n) post X x3 x5
def w_X2_pivots (p1 : Int32) (p2 : Int32) (post : XS → Prop) (X : XS) : Prop :=
  vp_in p1 10 ∧ (vp_in p2 11 ∧ (∀ v2 : Int64, v2 = X_rows X p1.toNatClampNeg p2.toNatClampNeg → (∃ n, w_X2_pivots_12 p1 p2 post n X v2 0)))
abbrev rmX2_pivots : Room := { frames := 0, cells := 0, slots := 0, locals := 0 }
set_option maxHeartbeats 4000000 in
set_option maxRecDepth 100000 in
theorem k_X2_pivots_44b {p : Program} {l : Launch} {e : Env} {s : State} {m : MethodId} {args : Array Value} {below : List Frame} {meth : Method} {c : Code} {D : va_G} {dT : Nat → ClassId} {a : Nat → Nat} {A : Nat → Prop} {vs0 : XE} {p1 : Int32} {p2 : Int32} {K12 : XS → Int64 → Int32 → Prop} {K44 : XS → Int64 → Int32 → Int64 → Int32 → Prop} {post : XS → Prop} (hC : wCx RX2 cX2_pivots 9 (none) D dT p s m args meth c) (hA : wAz A s) (hK12 : ∀ (X : XS) (x3 : Int64) (x5 : Int32), K12 X x3 x5 → ∀ {vs : XE} {H : Heap} {locs : List Loc} {ls : Array Slot}, StX D dT a A s vs0 X vs H locs → lv_has ls 9 [(0, .ref (a 22)), (1, .int p1), (2, .int p2), (3, .long x3), (5, .int x5)] → W p l e rmX2_pivots s m args below meth c H locs 0 0 (MQ below (va_Qv (fun u9 => post u9.1) (wB D (XW dT a) (XI vs0) A) A) args s 0 0 A) (F0 m 12 ls [])) (hK44 : ∀ (X : XS) (x3 : Int64) (x5 : Int32) (x6 : Int64) (x8 : Int32), K44 X x3 x5 x6 x8 → ∀ {vs : XE} {H : Heap} {locs : List Loc} {ls : Array Slot}, StX D dT a A s vs0 X vs H locs → lv_has ls 9 [(0, .ref (a 22)), (1, .int p1), (2, .int p2), (3, .long x3), (5, .int x5), (6, .long x6), (8, .int x8)] → W p l e rmX2_pivots s m args below meth c H locs 0 0 (MQ below (va_Qv (fun u9 => post u9.1) (wB D (XW dT a) (XI vs0) A) A) args s 0 0 A) (F0 m 44 ls [])) (X : XS) (x3 : Int64) (x5 : Int32) (x6 : Int64) (x8 : Int32) {vs : XE} {H : Heap} {locs : List Loc} {ls : Array Slot} (hS : StX D dT a A s vs0 X vs H locs) (hl : lv_has ls 9 [(0, .ref (a 22)), (1, .int p1), (2, .int p2), (3, .long x3), (5, .int x5), (6, .long x6), (8, .int x8)])  (hw : w_X2_pivots_44b p1 p2 K12 K44 post X x3 x5 x6 x8) : W p l e rmX2_pivots s m args below meth c H locs 0 0 (MQ below (va_Qv (fun u9 => post u9.1) (wB D (XW dT a) (XI vs0) A) A) args s 0 0 A) (F0 m 44 ls []) := by
  have hx := hC.1
  have hb := hC.2.1
  have hown := hC.2.2.2.1
  have hts := hC.2.2.2.2.1
  unfold w_X2_pivots_44b at hw
  refine lv_iload hx hb dX2_pivots_44 (lv_at hl 6 rfl) ?_
  refine lv_bipush (v := 10) hx hb dX2_pivots_46 (by decide) ?_
  refine lv_icmp_gt (tgt := 97) hx hb dX2_pivots_48 (by decide) (fun c1 => ?_) (fun c1 => ?_)
  · have hw := hw.1 c1
    obtain ⟨v2, ev2⟩ : ∃ y : Int32, y = x5 + 1 := ⟨_, rfl⟩
    have hw := hw v2 ev2
    refine lv_iinc (v := v2) (lv' := [(5, .int v2), (0, .ref (a 22)), (1, .int p1), (2, .int p2), (3, .long x3), (6, .long x6), (8, .int x8)]) hx hb dX2_pivots_97 hl (k := 4) rfl (by rw [ev2]; rfl) (by decide) rfl (fun ls hl => ?_)
    refine lv_goto (tgt := 12) hx hb dX2_pivots_100 (by decide) ?_
    exact hK12 _ _ _ hw hS (lv_sub hl [1, 2, 3, 4, 0] rfl)
  · have hw := hw.2 c1
    refine lv_aload_n hx hb dX2_pivots_51 rfl (lv_at hl 0 rfl) ?_
    refine ld_q153 hC hS dX2_pivots_52 ?_
    refine lv_iload hx hb dX2_pivots_55 (lv_at hl 4 rfl) ?_
    have hi3 := hw.1
    have hw := hw.2
    refine aa_RS hC hS hi3 dX2_pivots_57 ?_
    refine lv_iload hx hb dX2_pivots_58 (lv_at hl 6 rfl) ?_
    refine lv_aload_n hx hb dX2_pivots_60 rfl (lv_at hl 0 rfl) ?_
    refine ld_q153 hC hS dX2_pivots_61 ?_
    refine lv_iload hx hb dX2_pivots_64 (lv_at hl 4 rfl) ?_
    have hi4 := hw.1
    have hw := hw.2
    refine aa_RS hC hS hi4 dX2_pivots_66 ?_
    refine lv_iload hx hb dX2_pivots_67 (lv_at hl 6 rfl) ?_
    refine al_ROW hC hS (vp_lt hi4) hw.1 dX2_pivots_69 ?_
    have hw := hw.2
    refine lv_lload_n hx hb dX2_pivots_70 rfl (lv_at hl 3 rfl) ?_
    refine lv_lmul hx hb dX2_pivots_71 ?_
    refine lv_lload hx hb dX2_pivots_72 (lv_at hl 5 rfl) ?_
    refine lv_aload_n hx hb dX2_pivots_74 rfl (lv_at hl 0 rfl) ?_
    refine ld_q153 hC hS dX2_pivots_75 ?_
    refine lv_iload_n hx hb dX2_pivots_78 rfl (lv_at hl 1 rfl) ?_
    have hi5 := hw.1
    have hw := hw.2
    refine aa_RS hC hS hi5 dX2_pivots_79 ?_
    refine lv_iload hx hb dX2_pivots_80 (lv_at hl 6 rfl) ?_
    refine al_ROW hC hS (vp_lt hi5) hw.1 dX2_pivots_82 ?_
    have hw := hw.2
    refine lv_lmul hx hb dX2_pivots_83 ?_
    refine lv_lsub hx hb dX2_pivots_84 ?_
    refine lv_aload_n hx hb dX2_pivots_85 rfl (lv_at hl 0 rfl) ?_
    refine ld_q161 hC hS dX2_pivots_86 ?_
    refine lv_ldiv hx hb dX2_pivots_89 hw.1 ?_
    have hw := hw.2
    have hi := hw.1
    have hw := hw.2
    refine as_ROW hC hS (vp_lt hi3) hi dX2_pivots_90 (fun H locs hS => ?_)
    have hw := hw (sX_rows X (updL2 (X_rows X) x5.toNatClampNeg x8.toNatClampNeg ((((X_rows X x5.toNatClampNeg x8.toNatClampNeg) * x3) - (x6 * (X_rows X p1.toNatClampNeg x8.toNatClampNeg))) / (X_below X)))) rfl
    generalize sX_rows X (updL2 (X_rows X) x5.toNatClampNeg x8.toNatClampNeg ((((X_rows X x5.toNatClampNeg x8.toNatClampNeg) * x3) - (x6 * (X_rows X p1.toNatClampNeg x8.toNatClampNeg))) / (X_below X))) = X6 at hS hw
    obtain ⟨v7, ev7⟩ : ∃ y : Int32, y = x8 + 1 := ⟨_, rfl⟩
    have hw := hw v7 ev7
    refine lv_iinc (v := v7) (lv' := [(8, .int v7), (0, .ref (a 22)), (1, .int p1), (2, .int p2), (3, .long x3), (5, .int x5), (6, .long x6)]) hx hb dX2_pivots_91 hl (k := 6) rfl (by rw [ev7]; rfl) (by decide) rfl (fun ls hl => ?_)
    refine lv_goto (tgt := 44) hx hb dX2_pivots_94 (by decide) ?_
    exact hK44 _ _ _ _ _ hw hS (lv_sub hl [1, 2, 3, 4, 5, 6, 0] rfl)
set_option maxHeartbeats 4000000 in
set_option maxRecDepth 100000 in
theorem k_X2_pivots_44 {p : Program} {l : Launch} {e : Env} {s : State} {m : MethodId} {args : Array Value} {below : List Frame} {meth : Method} {c : Code} {D : va_G} {dT : Nat → ClassId} {a : Nat → Nat} {A : Nat → Prop} {vs0 : XE} {p1 : Int32} {p2 : Int32} {K12 : XS → Int64 → Int32 → Prop} {post : XS → Prop} (hC : wCx RX2 cX2_pivots 9 (none) D dT p s m args meth c) (hA : wAz A s) (hK12 : ∀ (X : XS) (x3 : Int64) (x5 : Int32), K12 X x3 x5 → ∀ {vs : XE} {H : Heap} {locs : List Loc} {ls : Array Slot}, StX D dT a A s vs0 X vs H locs → lv_has ls 9 [(0, .ref (a 22)), (1, .int p1), (2, .int p2), (3, .long x3), (5, .int x5)] → W p l e rmX2_pivots s m args below meth c H locs 0 0 (MQ below (va_Qv (fun u9 => post u9.1) (wB D (XW dT a) (XI vs0) A) A) args s 0 0 A) (F0 m 12 ls [])) : ∀ (X : XS) (x3 : Int64) (x5 : Int32) (x6 : Int64) (x8 : Int32) (n : Nat), ∀ {vs : XE} {H : Heap} {locs : List Loc} {ls : Array Slot}, StX D dT a A s vs0 X vs H locs → lv_has ls 9 [(0, .ref (a 22)), (1, .int p1), (2, .int p2), (3, .long x3), (5, .int x5), (6, .long x6), (8, .int x8)] → w_X2_pivots_44 p1 p2 K12 post n X x3 x5 x6 x8 → W p l e rmX2_pivots s m args below meth c H locs 0 0 (MQ below (va_Qv (fun u9 => post u9.1) (wB D (XW dT a) (XI vs0) A) A) args s 0 0 A) (F0 m 44 ls []) := by
  intro X x3 x5 x6 x8 n
  induction n generalizing X x3 x5 x6 x8 with
  | zero => intro vs H locs ls  hS hl hw; exact hw.elim
  | succ n ih =>
    intro vs H locs ls  hS hl hw
    exact k_X2_pivots_44b hC hA hK12 (fun X x3 x5 x6 x8 hk {vs} {H} {locs} {ls}  hS hl => ih X x3 x5 x6 x8  hS hl hk) X x3 x5 x6 x8  hS hl hw
set_option maxHeartbeats 4000000 in
set_option maxRecDepth 100000 in
theorem k_X2_pivots_149b {p : Program} {l : Launch} {e : Env} {s : State} {m : MethodId} {args : Array Value} {below : List Frame} {meth : Method} {c : Code} {D : va_G} {dT : Nat → ClassId} {a : Nat → Nat} {A : Nat → Prop} {vs0 : XE} {p1 : Int32} {p2 : Int32} {K137 : XS → Int32 → Prop} {K149 : XS → Int32 → Int32 → Prop} {post : XS → Prop} (hC : wCx RX2 cX2_pivots 9 (none) D dT p s m args meth c) (hA : wAz A s) (hK137 : ∀ (X : XS) (x5 : Int32), K137 X x5 → ∀ {vs : XE} {H : Heap} {locs : List Loc} {ls : Array Slot}, StX D dT a A s vs0 X vs H locs → lv_has ls 9 [(0, .ref (a 22)), (5, .int x5)] → W p l e rmX2_pivots s m args below meth c H locs 0 0 (MQ below (va_Qv (fun u9 => post u9.1) (wB D (XW dT a) (XI vs0) A) A) args s 0 0 A) (F0 m 137 ls [])) (hK149 : ∀ (X : XS) (x5 : Int32) (x6 : Int32), K149 X x5 x6 → ∀ {vs : XE} {H : Heap} {locs : List Loc} {ls : Array Slot}, StX D dT a A s vs0 X vs H locs → lv_has ls 9 [(0, .ref (a 22)), (5, .int x5), (6, .int x6)] → W p l e rmX2_pivots s m args below meth c H locs 0 0 (MQ below (va_Qv (fun u9 => post u9.1) (wB D (XW dT a) (XI vs0) A) A) args s 0 0 A) (F0 m 149 ls [])) (X : XS) (x5 : Int32) (x6 : Int32) {vs : XE} {H : Heap} {locs : List Loc} {ls : Array Slot} (hS : StX D dT a A s vs0 X vs H locs) (hl : lv_has ls 9 [(0, .ref (a 22)), (5, .int x5), (6, .int x6)])  (hw : w_X2_pivots_149b p1 p2 K137 K149 post X x5 x6) : W p l e rmX2_pivots s m args below meth c H locs 0 0 (MQ below (va_Qv (fun u9 => post u9.1) (wB D (XW dT a) (XI vs0) A) A) args s 0 0 A) (F0 m 149 ls []) := by
  have hx := hC.1
  have hb := hC.2.1
  have hown := hC.2.2.2.1
  have hts := hC.2.2.2.2.1
  unfold w_X2_pivots_149b at hw
  refine lv_iload hx hb dX2_pivots_149 (lv_at hl 2 rfl) ?_
  refine lv_bipush (v := 10) hx hb dX2_pivots_151 (by decide) ?_
  refine lv_icmp_gt (tgt := 183) hx hb dX2_pivots_153 (by decide) (fun c1 => ?_) (fun c1 => ?_)
  · have hw := hw.1 c1
    obtain ⟨v2, ev2⟩ : ∃ y : Int32, y = x5 + 1 := ⟨_, rfl⟩
    have hw := hw v2 ev2
    refine lv_iinc (v := v2) (lv' := [(5, .int v2), (0, .ref (a 22)), (6, .int x6)]) hx hb dX2_pivots_183 hl (k := 1) rfl (by rw [ev2]; rfl) (by decide) rfl (fun ls hl => ?_)
    refine lv_goto (tgt := 137) hx hb dX2_pivots_186 (by decide) ?_
    exact hK137 _ _ hw hS (lv_sub hl [1, 0] rfl)
  · have hw := hw.2 c1
    refine lv_aload_n hx hb dX2_pivots_156 rfl (lv_at hl 0 rfl) ?_
    refine ld_q153 hC hS dX2_pivots_157 ?_
    refine lv_iload hx hb dX2_pivots_160 (lv_at hl 1 rfl) ?_
    have hi3 := hw.1
    have hw := hw.2
    refine aa_RS hC hS hi3 dX2_pivots_162 ?_
    refine lv_iload hx hb dX2_pivots_163 (lv_at hl 2 rfl) ?_
    refine lv_aload_n hx hb dX2_pivots_165 rfl (lv_at hl 0 rfl) ?_
    refine ld_q153 hC hS dX2_pivots_166 ?_
    refine lv_iload hx hb dX2_pivots_169 (lv_at hl 1 rfl) ?_
    have hi4 := hw.1
    have hw := hw.2
    refine aa_RS hC hS hi4 dX2_pivots_171 ?_
    refine lv_iload hx hb dX2_pivots_172 (lv_at hl 2 rfl) ?_
    refine al_ROW hC hS (vp_lt hi4) hw.1 dX2_pivots_174 ?_
    have hw := hw.2
    refine lv_lneg hx hb dX2_pivots_175 ?_
    have hi := hw.1
    have hw := hw.2
    refine as_ROW hC hS (vp_lt hi3) hi dX2_pivots_176 (fun H locs hS => ?_)
    have hw := hw (sX_rows X (updL2 (X_rows X) x5.toNatClampNeg x6.toNatClampNeg (-(X_rows X x5.toNatClampNeg x6.toNatClampNeg)))) rfl
    generalize sX_rows X (updL2 (X_rows X) x5.toNatClampNeg x6.toNatClampNeg (-(X_rows X x5.toNatClampNeg x6.toNatClampNeg))) = X5 at hS hw
    obtain ⟨v6, ev6⟩ : ∃ y : Int32, y = x6 + 1 := ⟨_, rfl⟩
    have hw := hw v6 ev6
    refine lv_iinc (v := v6) (lv' := [(6, .int v6), (0, .ref (a 22)), (5, .int x5)]) hx hb dX2_pivots_177 hl (k := 2) rfl (by rw [ev6]; rfl) (by decide) rfl (fun ls hl => ?_)
    refine lv_goto (tgt := 149) hx hb dX2_pivots_180 (by decide) ?_
    exact hK149 _ _ _ hw hS (lv_sub hl [1, 2, 0] rfl)
set_option maxHeartbeats 4000000 in
set_option maxRecDepth 100000 in
theorem k_X2_pivots_149 {p : Program} {l : Launch} {e : Env} {s : State} {m : MethodId} {args : Array Value} {below : List Frame} {meth : Method} {c : Code} {D : va_G} {dT : Nat → ClassId} {a : Nat → Nat} {A : Nat → Prop} {vs0 : XE} {p1 : Int32} {p2 : Int32} {K137 : XS → Int32 → Prop} {post : XS → Prop} (hC : wCx RX2 cX2_pivots 9 (none) D dT p s m args meth c) (hA : wAz A s) (hK137 : ∀ (X : XS) (x5 : Int32), K137 X x5 → ∀ {vs : XE} {H : Heap} {locs : List Loc} {ls : Array Slot}, StX D dT a A s vs0 X vs H locs → lv_has ls 9 [(0, .ref (a 22)), (5, .int x5)] → W p l e rmX2_pivots s m args below meth c H locs 0 0 (MQ below (va_Qv (fun u9 => post u9.1) (wB D (XW dT a) (XI vs0) A) A) args s 0 0 A) (F0 m 137 ls [])) : ∀ (X : XS) (x5 : Int32) (x6 : Int32) (n : Nat), ∀ {vs : XE} {H : Heap} {locs : List Loc} {ls : Array Slot}, StX D dT a A s vs0 X vs H locs → lv_has ls 9 [(0, .ref (a 22)), (5, .int x5), (6, .int x6)] → w_X2_pivots_149 p1 p2 K137 post n X x5 x6 → W p l e rmX2_pivots s m args below meth c H locs 0 0 (MQ below (va_Qv (fun u9 => post u9.1) (wB D (XW dT a) (XI vs0) A) A) args s 0 0 A) (F0 m 149 ls []) := by
  intro X x5 x6 n
  induction n generalizing X x5 x6 with
  | zero => intro vs H locs ls  hS hl hw; exact hw.elim
  | succ n ih =>
    intro vs H locs ls  hS hl hw
    exact k_X2_pivots_149b hC hA hK137 (fun X x5 x6 hk {vs} {H} {locs} {ls}  hS hl => ih X x5 x6  hS hl hk) X x5 x6  hS hl hw
set_option maxHeartbeats 4000000 in
set_option maxRecDepth 100000 in
theorem k_X2_pivots_137b {p : Program} {l : Launch} {e : Env} {s : State} {m : MethodId} {args : Array Value} {below : List Frame} {meth : Method} {c : Code} {D : va_G} {dT : Nat → ClassId} {a : Nat → Nat} {A : Nat → Prop} {vs0 : XE} {p1 : Int32} {p2 : Int32} {K137 : XS → Int32 → Prop} {post : XS → Prop} (hC : wCx RX2 cX2_pivots 9 (none) D dT p s m args meth c) (hA : wAz A s) (hK137 : ∀ (X : XS) (x5 : Int32), K137 X x5 → ∀ {vs : XE} {H : Heap} {locs : List Loc} {ls : Array Slot}, StX D dT a A s vs0 X vs H locs → lv_has ls 9 [(0, .ref (a 22)), (5, .int x5)] → W p l e rmX2_pivots s m args below meth c H locs 0 0 (MQ below (va_Qv (fun u9 => post u9.1) (wB D (XW dT a) (XI vs0) A) A) args s 0 0 A) (F0 m 137 ls [])) (X : XS) (x5 : Int32) {vs : XE} {H : Heap} {locs : List Loc} {ls : Array Slot} (hS : StX D dT a A s vs0 X vs H locs) (hl : lv_has ls 9 [(0, .ref (a 22)), (5, .int x5)])  (hw : w_X2_pivots_137b p1 p2 K137 post X x5) : W p l e rmX2_pivots s m args below meth c H locs 0 0 (MQ below (va_Qv (fun u9 => post u9.1) (wB D (XW dT a) (XI vs0) A) A) args s 0 0 A) (F0 m 137 ls []) := by
  have hx := hC.1
  have hb := hC.2.1
  have hown := hC.2.2.2.1
  have hts := hC.2.2.2.2.1
  unfold w_X2_pivots_137b at hw
  refine lv_iload hx hb dX2_pivots_137 (lv_at hl 1 rfl) ?_
  refine lv_aload_n hx hb dX2_pivots_139 rfl (lv_at hl 0 rfl) ?_
  refine ld_q159 hC hS dX2_pivots_140 ?_
  refine lv_icmp_ge (tgt := 189) hx hb dX2_pivots_143 (by decide) (fun c1 => ?_) (fun c1 => ?_)
  · have hw := hw.1 c1
    exact wRetv hC hS hw (Nat.le_refl _) (Nat.le_refl _) dX2_pivots_189
  · have hw := hw.2 c1
    refine lv_iconst (v := 0) hx hb dX2_pivots_146 (by decide) ?_
    refine lv_istore (lv' := [(6, .int 0), (0, .ref (a 22)), (5, .int x5)]) hx hb dX2_pivots_147 hl (by decide) rfl (fun ls hl => ?_)
    obtain ⟨n, hw⟩ := hw
    exact k_X2_pivots_149 hC hA hK137 _ _ _ n hS (lv_sub hl [1, 2, 0] rfl) hw
set_option maxHeartbeats 4000000 in
set_option maxRecDepth 100000 in
theorem k_X2_pivots_137 {p : Program} {l : Launch} {e : Env} {s : State} {m : MethodId} {args : Array Value} {below : List Frame} {meth : Method} {c : Code} {D : va_G} {dT : Nat → ClassId} {a : Nat → Nat} {A : Nat → Prop} {vs0 : XE} {p1 : Int32} {p2 : Int32} {post : XS → Prop} (hC : wCx RX2 cX2_pivots 9 (none) D dT p s m args meth c) (hA : wAz A s) : ∀ (X : XS) (x5 : Int32) (n : Nat), ∀ {vs : XE} {H : Heap} {locs : List Loc} {ls : Array Slot}, StX D dT a A s vs0 X vs H locs → lv_has ls 9 [(0, .ref (a 22)), (5, .int x5)] → w_X2_pivots_137 p1 p2 post n X x5 → W p l e rmX2_pivots s m args below meth c H locs 0 0 (MQ below (va_Qv (fun u9 => post u9.1) (wB D (XW dT a) (XI vs0) A) A) args s 0 0 A) (F0 m 137 ls []) := by
  intro X x5 n
  induction n generalizing X x5 with
  | zero => intro vs H locs ls  hS hl hw; exact hw.elim
  | succ n ih =>
    intro vs H locs ls  hS hl hw
    exact k_X2_pivots_137b hC hA (fun X x5 hk {vs} {H} {locs} {ls}  hS hl => ih X x5  hS hl hk) X x5  hS hl hw
set_option maxHeartbeats 4000000 in
set_option maxRecDepth 100000 in
theorem k_X2_pivots_12b {p : Program} {l : Launch} {e : Env} {s : State} {m : MethodId} {args : Array Value} {below : List Frame} {meth : Method} {c : Code} {D : va_G} {dT : Nat → ClassId} {a : Nat → Nat} {A : Nat → Prop} {vs0 : XE} {p1 : Int32} {p2 : Int32} {K12 : XS → Int64 → Int32 → Prop} {post : XS → Prop} (hC : wCx RX2 cX2_pivots 9 (none) D dT p s m args meth c) (hA : wAz A s) (hK12 : ∀ (X : XS) (x3 : Int64) (x5 : Int32), K12 X x3 x5 → ∀ {vs : XE} {H : Heap} {locs : List Loc} {ls : Array Slot}, StX D dT a A s vs0 X vs H locs → lv_has ls 9 [(0, .ref (a 22)), (1, .int p1), (2, .int p2), (3, .long x3), (5, .int x5)] → W p l e rmX2_pivots s m args below meth c H locs 0 0 (MQ below (va_Qv (fun u9 => post u9.1) (wB D (XW dT a) (XI vs0) A) A) args s 0 0 A) (F0 m 12 ls [])) (X : XS) (x3 : Int64) (x5 : Int32) {vs : XE} {H : Heap} {locs : List Loc} {ls : Array Slot} (hS : StX D dT a A s vs0 X vs H locs) (hl : lv_has ls 9 [(0, .ref (a 22)), (1, .int p1), (2, .int p2), (3, .long x3), (5, .int x5)])  (hw : w_X2_pivots_12b p1 p2 K12 post X x3 x5) : W p l e rmX2_pivots s m args below meth c H locs 0 0 (MQ below (va_Qv (fun u9 => post u9.1) (wB D (XW dT a) (XI vs0) A) A) args s 0 0 A) (F0 m 12 ls []) := by
  have hx := hC.1
  have hb := hC.2.1
  have hown := hC.2.2.2.1
  have hts := hC.2.2.2.2.1
  unfold w_X2_pivots_12b at hw
  refine lv_iload hx hb dX2_pivots_12 (lv_at hl 4 rfl) ?_
  refine lv_aload_n hx hb dX2_pivots_14 rfl (lv_at hl 0 rfl) ?_
  refine ld_q159 hC hS dX2_pivots_15 ?_
  refine lv_icmp_ge (tgt := 103) hx hb dX2_pivots_18 (by decide) (fun c1 => ?_) (fun c1 => ?_)
  · have hw := hw.1 c1
    refine lv_aload_n hx hb dX2_pivots_103 rfl (lv_at hl 0 rfl) ?_
    refine lv_lload_n hx hb dX2_pivots_104 rfl (lv_at hl 3 rfl) ?_
    refine st_q161 hC hS dX2_pivots_105 (fun H locs hS => ?_)
    have hw := hw (sX_below X x3) rfl
    generalize sX_below X x3 = X2 at hS hw
    refine lv_aload_n hx hb dX2_pivots_108 rfl (lv_at hl 0 rfl) ?_
    refine ld_q156 hC hS dX2_pivots_109 ?_
    refine lv_iload_n hx hb dX2_pivots_112 rfl (lv_at hl 1 rfl) ?_
    refine lv_iload_n hx hb dX2_pivots_113 rfl (lv_at hl 2 rfl) ?_
    have hi := hw.1
    have hw := hw.2
    refine as_BA hC hS hi dX2_pivots_114 (fun H locs hS => ?_)
    have hw := hw (sX_basis X2 (upd (X_basis X2) p1.toNatClampNeg p2)) rfl
    generalize sX_basis X2 (upd (X_basis X2) p1.toNatClampNeg p2) = X3 at hS hw
    refine lv_aload_n hx hb dX2_pivots_115 rfl (lv_at hl 0 rfl) ?_
    refine ld_q161 hC hS dX2_pivots_116 ?_
    refine lv_lconst (v := 0) hx hb dX2_pivots_119 (by decide) ?_
    refine lc_if_le (tgt := 125) hx hb dX2_pivots_120 dX2_pivots_121 (by decide) (fun c4 => ?_) (fun c4 => ?_)
    · have hw := hw.1 c4
      refine lv_aload_n hx hb dX2_pivots_125 rfl (lv_at hl 0 rfl) ?_
      refine lv_aload_n hx hb dX2_pivots_126 rfl (lv_at hl 0 rfl) ?_
      refine ld_q161 hC hS dX2_pivots_127 ?_
      refine lv_lneg hx hb dX2_pivots_130 ?_
      refine st_q161 hC hS dX2_pivots_131 (fun H locs hS => ?_)
      have hw := hw (sX_below X3 (-(X_below X3))) rfl
      generalize sX_below X3 (-(X_below X3)) = X5 at hS hw
      refine lv_iconst (v := 0) hx hb dX2_pivots_134 (by decide) ?_
      refine lv_istore (lv' := [(5, .int 0), (0, .ref (a 22)), (1, .int p1), (2, .int p2), (3, .long x3)]) hx hb dX2_pivots_135 hl (by decide) rfl (fun ls hl => ?_)
      obtain ⟨n, hw⟩ := hw
      exact k_X2_pivots_137 hC hA _ _ n hS (lv_sub hl [1, 0] rfl) hw
    · have hw := hw.2 c4
      exact wRetv hC hS hw (Nat.le_refl _) (Nat.le_refl _) dX2_pivots_124
  · have hw := hw.2 c1
    refine lv_iload hx hb dX2_pivots_21 (lv_at hl 4 rfl) ?_
    refine lv_iload_n hx hb dX2_pivots_23 rfl (lv_at hl 1 rfl) ?_
    refine lv_icmp_ne (tgt := 30) hx hb dX2_pivots_24 (by decide) (fun c6 => ?_) (fun c6 => ?_)
    · have hw := hw.2 c6
      refine lv_aload_n hx hb dX2_pivots_30 rfl (lv_at hl 0 rfl) ?_
      refine ld_q153 hC hS dX2_pivots_31 ?_
      refine lv_iload hx hb dX2_pivots_34 (lv_at hl 4 rfl) ?_
      have hi7 := hw.1
      have hw := hw.2
      refine aa_RS hC hS hi7 dX2_pivots_36 ?_
      refine lv_iload_n hx hb dX2_pivots_37 rfl (lv_at hl 2 rfl) ?_
      refine al_ROW hC hS (vp_lt hi7) hw.1 dX2_pivots_38 ?_
      have hw := hw.2
      refine lv_topl (fun v8 ev8 => ?_)
      have hw := hw v8 ev8
      refine lv_lstore (lv' := [(6, .long v8), (0, .ref (a 22)), (1, .int p1), (2, .int p2), (3, .long x3), (5, .int x5)]) hx hb dX2_pivots_39 hl (by decide) rfl (fun ls hl => ?_)
      refine lv_iconst (v := 0) hx hb dX2_pivots_41 (by decide) ?_
      refine lv_istore (lv' := [(8, .int 0), (6, .long v8), (0, .ref (a 22)), (1, .int p1), (2, .int p2), (3, .long x3), (5, .int x5)]) hx hb dX2_pivots_42 hl (by decide) rfl (fun ls hl => ?_)
      obtain ⟨n, hw⟩ := hw
      exact k_X2_pivots_44 hC hA hK12 _ _ _ _ _ n hS (lv_sub hl [2, 3, 4, 5, 6, 1, 0] rfl) hw
    · have hw := hw.1 c6
      refine lv_goto (tgt := 97) hx hb dX2_pivots_27 (by decide) ?_
      obtain ⟨v9, ev9⟩ : ∃ y : Int32, y = x5 + 1 := ⟨_, rfl⟩
      have hw := hw v9 ev9
      refine lv_iinc (v := v9) (lv' := [(5, .int v9), (0, .ref (a 22)), (1, .int p1), (2, .int p2), (3, .long x3)]) hx hb dX2_pivots_97 hl (k := 4) rfl (by rw [ev9]; rfl) (by decide) rfl (fun ls hl => ?_)
      refine lv_goto (tgt := 12) hx hb dX2_pivots_100 (by decide) ?_
      exact hK12 _ _ _ hw hS (lv_sub hl [1, 2, 3, 4, 0] rfl)
set_option maxHeartbeats 4000000 in
set_option maxRecDepth 100000 in
theorem k_X2_pivots_12 {p : Program} {l : Launch} {e : Env} {s : State} {m : MethodId} {args : Array Value} {below : List Frame} {meth : Method} {c : Code} {D : va_G} {dT : Nat → ClassId} {a : Nat → Nat} {A : Nat → Prop} {vs0 : XE} {p1 : Int32} {p2 : Int32} {post : XS → Prop} (hC : wCx RX2 cX2_pivots 9 (none) D dT p s m args meth c) (hA : wAz A s) : ∀ (X : XS) (x3 : Int64) (x5 : Int32) (n : Nat), ∀ {vs : XE} {H : Heap} {locs : List Loc} {ls : Array Slot}, StX D dT a A s vs0 X vs H locs → lv_has ls 9 [(0, .ref (a 22)), (1, .int p1), (2, .int p2), (3, .long x3), (5, .int x5)] → w_X2_pivots_12 p1 p2 post n X x3 x5 → W p l e rmX2_pivots s m args below meth c H locs 0 0 (MQ below (va_Qv (fun u9 => post u9.1) (wB D (XW dT a) (XI vs0) A) A) args s 0 0 A) (F0 m 12 ls []) := by
  intro X x3 x5 n
  induction n generalizing X x3 x5 with
  | zero => intro vs H locs ls  hS hl hw; exact hw.elim
  | succ n ih =>
    intro vs H locs ls  hS hl hw
    exact k_X2_pivots_12b hC hA (fun X x3 x5 hk {vs} {H} {locs} {ls}  hS hl => ih X x3 x5  hS hl hk) X x3 x5  hS hl hw
set_option maxHeartbeats 4000000 in
set_option maxRecDepth 100000 in
theorem k_X2_pivots_0 {p : Program} {l : Launch} {e : Env} {s : State} {m : MethodId} {args : Array Value} {below : List Frame} {meth : Method} {c : Code} {D : va_G} {dT : Nat → ClassId} {a : Nat → Nat} {A : Nat → Prop} {vs0 : XE} {p1 : Int32} {p2 : Int32} {post : XS → Prop} (hC : wCx RX2 cX2_pivots 9 (none) D dT p s m args meth c) (hA : wAz A s) (X : XS) {vs : XE} {H : Heap} {locs : List Loc} {ls : Array Slot} (hS : StX D dT a A s vs0 X vs H locs) (hl : lv_has ls 9 [(0, .ref (a 22)), (1, .int p1), (2, .int p2)])  (hw : w_X2_pivots p1 p2 post X) : W p l e rmX2_pivots s m args below meth c H locs 0 0 (MQ below (va_Qv (fun u9 => post u9.1) (wB D (XW dT a) (XI vs0) A) A) args s 0 0 A) (F0 m 0 ls []) := by
  have hx := hC.1
  have hb := hC.2.1
  have hown := hC.2.2.2.1
  have hts := hC.2.2.2.2.1
  unfold w_X2_pivots at hw
  refine lv_aload_n hx hb dX2_pivots_0 rfl (lv_at hl 0 rfl) ?_
  refine ld_q153 hC hS dX2_pivots_1 ?_
  refine lv_iload_n hx hb dX2_pivots_4 rfl (lv_at hl 1 rfl) ?_
  have hi1 := hw.1
  have hw := hw.2
  refine aa_RS hC hS hi1 dX2_pivots_5 ?_
  refine lv_iload_n hx hb dX2_pivots_6 rfl (lv_at hl 2 rfl) ?_
  refine al_ROW hC hS (vp_lt hi1) hw.1 dX2_pivots_7 ?_
  have hw := hw.2
  refine lv_topl (fun v2 ev2 => ?_)
  have hw := hw v2 ev2
  refine lv_lstore_n (lv' := [(3, .long v2), (0, .ref (a 22)), (1, .int p1), (2, .int p2)]) hx hb dX2_pivots_8 rfl hl (by decide) rfl (fun ls hl => ?_)
  refine lv_iconst (v := 0) hx hb dX2_pivots_9 (by decide) ?_
  refine lv_istore (lv' := [(5, .int 0), (3, .long v2), (0, .ref (a 22)), (1, .int p1), (2, .int p2)]) hx hb dX2_pivots_10 hl (by decide) rfl (fun ls hl => ?_)
  obtain ⟨n, hw⟩ := hw
  exact k_X2_pivots_12 hC hA _ _ _ n hS (lv_sub hl [2, 3, 4, 1, 0] rfl) hw
abbrev v_X2_pivots (X : XS) (p1 : Int32) (p2 : Int32) (post : XS → Prop) : Prop := w_X2_pivots p1 p2 post X
set_option maxHeartbeats 4000000 in
set_option maxRecDepth 100000 in
theorem met_X2_pivots (l : Launch) (D : va_G) (dT : Nat → ClassId) (a : Nat → Nat) (sz : Nat) (X : XS) (vs0 : XE) (p1 : Int32) (p2 : Int32) (post : XS → Prop) (hw : v_X2_pivots X p1 p2 post) : Met l yX2_pivots (ws_ yX2_pivots cX2_pivots 9 (none)) rmX2_pivots (wPc D dT (XW dT a) (XI vs0) sz (X, vs0) [.ref (a 22), .int p1, .int p2]) (va_Qv (fun u9 => post u9.1) (wB D (XW dT a) (XI vs0) (va_A ((XW dT a) (X, vs0)) sz)) (va_A ((XW dT a) (X, vs0)) sz)) 0 0 (va_A ((XW dT a) (X, vs0)) sz) :=
  wEnt (Q := fun A => (va_Qv (fun u9 => post u9.1) (wB D (XW dT a) (XI vs0) A) A)) (by decide) (Nat.le_of_ble_eq_true rfl) (fun p e s m below meth c A ls hC _ hA hS hl => k_X2_pivots_0 hC hA _ hS hl hw) sz
theorem hd_X2_pivots : yX2_pivots.cls ≠ "java/lang/invoke/MethodHandle" ∧ yX2_pivots.cls ≠ "java/lang/invoke/VarHandle" ∧ (parseMethodDescriptor yX2_pivots.desc).map (fun d => d.parameters.length) = some 2 := by decide +kernel
section
variable {p : Program} {l : Launch} {e : Env} {R : Room} {s : State} {m : MethodId} {args : Array Value} {below : List Frame} {meth : Method} {c : Code} {H : Heap} {locs : List Loc} {cells slots : Nat} {Q : State → Prop} {cc : ByteArray} {nL : Nat} {ret : Option FieldType} {pc : Nat} {ls : Array Slot} {rest : List Value}
set_option maxHeartbeats 4000000 in
set_option maxRecDepth 100000 in
theorem inv_q391 {D : va_G} {dT : Nat → ClassId} {a : Nat → Nat} {A : Nat → Prop} {vs0 : XE} {vs : XE} {X : XS} {p1 : Int32} {p2 : Int32} {post : XS → Prop} (hC : wCx RX2 cc nL ret D dT p s m args meth c) (hA : wAz A s) (hS : StX D dT a A s vs0 X vs H locs) (hl : ls.size = nL) (hw : v_X2_pivots X p1 p2 post) (hR : rmX2_pivots.frames + 1 ≤ R.frames ∧ 8 + (9 + 11) + rmX2_pivots.locals ≤ R.locals) (hrest : (rest.map fun v => v.category).sum ≤ 8) (hf : cells ≤ R.cells ∧ slots ≤ R.slots) (hdg : decode cc pc = .ok (.invokevirtual 81, 3)) (kk : ∀ (X1 : XS) (vs1 : XE) (H1 : Heap) (locs1 : List Loc), post X1 → (∀ v ∈ vs, v ∈ vs1) → StX D dT a A s vs0 X1 vs1 H1 locs1 → W p l e R s m args below meth c H1 locs1 cells slots Q (F0 m (pc + 3) ls rest)) : W p l e R s m args below meth c H locs cells slots Q (F0 m pc ls (.int p2 :: .int p1 :: .ref (a 22) :: rest)) := by
  exact wCallVv (As := [.int p1, .int p2]) (rest := rest) (mc := 0) (ms := 0) 22 hC (met_X2_pivots l D dT a H.size X vs p1 p2 post hw) (lw_V q391 q393 qs13 q87 q394) ⟨⟨rfl, rfl⟩, hd_X2_pivots, hR, hf⟩ XW_22 rfl rfl hA hS.self hl rfl hrest hdg (fun  u H1 locs1 hp hS1 => kk  u.1 u.2 H1 locs1 hp hS1.2.2.2.2 (hS.back hS1))
end
/-! LeastFrames_Program.clears -/
def w_X2_clears_57 (p1 : Int32) (p2 : Int32) (K8 : XS → Int32 → Prop) (post : Int32 → XS → Prop) (X : XS) (x3 : Int32) (x4 : Int32) : Prop :=
  ((X_high X) ≤ x4 → (∀ v2 : Int32, v2 = x3 + 1 → (K8 X v2))) ∧ (¬ (X_high X) ≤ x4 → (v_X2_pivots X x4 x3 (fun  X3 => ∀ v4 : Int32, v4 = x3 + 1 → (K8 X3 v4))))
def w_X2_clears_17b (p1 : Int32) (p2 : Int32) (K8 : XS → Int32 → Prop) (K17 : XS → Int32 → Int32 → Prop) (post : Int32 → XS → Prop) (X : XS) (x3 : Int32) (x4 : Int32) : Prop :=
  ((X_high X) ≤ x4 → (w_X2_clears_57 p1 p2 K8 post X x3 x4)) ∧ (¬ (X_high X) ≤ x4 → (vp_in x4 10 ∧ (((X_basis X x4.toNatClampNeg) = ((-1) : Int32) → (vp_in x4 10 ∧ (vp_in x3 11 ∧ (((X_rows X x4.toNatClampNeg x3.toNatClampNeg) = (0 : Int64) → (∀ v6 : Int32, v6 = x4 + 1 → (K17 X x3 v6))) ∧ (¬ (X_rows X x4.toNatClampNeg x3.toNatClampNeg) = (0 : Int64) → (w_X2_clears_57 p1 p2 K8 post X x3 x4)))))) ∧ (¬ (X_basis X x4.toNatClampNeg) = ((-1) : Int32) → (∀ v3 : Int32, v3 = x4 + 1 → (K17 X x3 v3))))))
def w_X2_clears_17 (p1 : Int32) (p2 : Int32) (K8 : XS → Int32 → Prop) (post : Int32 → XS → Prop) : Nat → XS → Int32 → Int32 → Prop
  | 0, _, _, _ => False
  | n + 1, X, x3, x4 => w_X2_clears_17b p1 p2 K8 (w_X2_clears_17 p1 p2 K8 post n) post X x3 x4
def w_X2_clears_81b (p1 : Int32) (p2 : Int32) (K81 : XS → Int32 → Prop) (post : Int32 → XS → Prop) (X : XS) (x3 : Int32) : Prop :=
  ((X_high X) ≤ x3 → (post (1 : Int32) X)) ∧ (¬ (X_high X) ≤ x3 → (vp_in x3 10 ∧ (((X_basis X x3.toNatClampNeg) = ((-1) : Int32) → (vp_in x3 10 ∧ (((X_rows X x3.toNatClampNeg (10 : Int32).toNatClampNeg) = (0 : Int64) → (∀ v6 : Int32, v6 = x3 + 1 → (K81 X v6))) ∧ (¬ (X_rows X x3.toNatClampNeg (10 : Int32).toNatClampNeg) = (0 : Int64) → (post (0 : Int32) X))))) ∧ (¬ (X_basis X x3.toNatClampNeg) = ((-1) : Int32) → (∀ v3 : Int32, v3 = x3 + 1 → (K81 X v3))))))
def w_X2_clears_81 (p1 : Int32) (p2 : Int32) (post : Int32 → XS → Prop) : Nat → XS → Int32 → Prop
  | 0, _, _ => False
  | n + 1, X, x3 => w_X2_clears_81b p1 p2 (w_X2_clears_81 p1 p2 post n) post X x3
def w_X2_clears_8b (p1 : Int32) (p2 : Int32) (K8 : XS → Int32 → Prop) (post : Int32 → XS → Prop) (X : XS) (x3 : Int32) : Prop :=
  ((10 : Int32) ≤ x3 → (∃ n, w_X2_clears_81 p1 p2 post n X 0)) ∧ (¬ (10 : Int32) ≤ x3 → (∃ n, w_X2_clears_17 p1 p2 K8 post n X x3 0))
def w_X2_clears_8 (p1 : Int32) (p2 : Int32) (post : Int32 → XS → Prop) : Nat → XS → Int32 → Prop
  | 0, _, _ => False
  | n + 1, X, x3 => w_X2_clears_8b p1 p2 (w_X2_clears_8 p1 p2 post n) post X x3
def w_X2_clears (p1 : Int32) (p2 : Int32) (post : Int32 → XS → Prop) (X : XS) : Prop :=
  v_X2_lays X p1 p2 (fun  X1 => ∃ n, w_X2_clears_8 p1 p2 post n X1 0)
abbrev rmX2_clears : Room := { frames := 5, cells := 0, slots := 0, locals := 114 }
set_option maxHeartbeats 4000000 in
set_option maxRecDepth 100000 in
theorem k_X2_clears_57 {p : Program} {l : Launch} {e : Env} {s : State} {m : MethodId} {args : Array Value} {below : List Frame} {meth : Method} {c : Code} {D : va_G} {dT : Nat → ClassId} {a : Nat → Nat} {A : Nat → Prop} {vs0 : XE} {p1 : Int32} {p2 : Int32} {K8 : XS → Int32 → Prop} {post : Int32 → XS → Prop} (hC : wCx RX2 cX2_clears 5 (some .boolean) D dT p s m args meth c) (hA : wAz A s) (hK8 : ∀ (X : XS) (x3 : Int32), K8 X x3 → ∀ {vs : XE} {H : Heap} {locs : List Loc} {ls : Array Slot}, StX D dT a A s vs0 X vs H locs → lv_has ls 5 [(0, .ref (a 22)), (3, .int x3)] → W p l e rmX2_clears s m args below meth c H locs 0 0 (MQ below (va_Qi (fun r u9 => post r u9.1) (wB D (XW dT a) (XI vs0) A) A) args s 0 0 A) (F0 m 8 ls [])) (X : XS) (x3 : Int32) (x4 : Int32) {vs : XE} {H : Heap} {locs : List Loc} {ls : Array Slot} (hS : StX D dT a A s vs0 X vs H locs) (hl : lv_has ls 5 [(0, .ref (a 22)), (3, .int x3), (4, .int x4)])  (hw : w_X2_clears_57 p1 p2 K8 post X x3 x4) : W p l e rmX2_clears s m args below meth c H locs 0 0 (MQ below (va_Qi (fun r u9 => post r u9.1) (wB D (XW dT a) (XI vs0) A) A) args s 0 0 A) (F0 m 57 ls []) := by
  have hx := hC.1
  have hb := hC.2.1
  have hown := hC.2.2.2.1
  have hts := hC.2.2.2.2.1
  unfold w_X2_clears_57 at hw
  refine lv_iload hx hb dX2_clears_57 (lv_at hl 2 rfl) ?_
  refine lv_aload_n hx hb dX2_clears_59 rfl (lv_at hl 0 rfl) ?_
  refine ld_q159 hC hS dX2_clears_60 ?_
  refine lv_icmp_ge (tgt := 73) hx hb dX2_clears_63 (by decide) (fun c1 => ?_) (fun c1 => ?_)
  · have hw := hw.1 c1
    obtain ⟨v2, ev2⟩ : ∃ y : Int32, y = x3 + 1 := ⟨_, rfl⟩
    have hw := hw v2 ev2
    refine lv_iinc (v := v2) (lv' := [(3, .int v2), (0, .ref (a 22)), (4, .int x4)]) hx hb dX2_clears_73 hl (k := 1) rfl (by rw [ev2]; rfl) (by decide) rfl (fun ls hl => ?_)
    refine lv_goto (tgt := 8) hx hb dX2_clears_76 (by decide) ?_
    exact hK8 _ _ hw hS (lv_sub hl [1, 0] rfl)
  · have hw := hw.2 c1
    refine lv_aload_n hx hb dX2_clears_66 rfl (lv_at hl 0 rfl) ?_
    refine lv_iload hx hb dX2_clears_67 (lv_at hl 2 rfl) ?_
    refine lv_iload_n hx hb dX2_clears_69 rfl (lv_at hl 1 rfl) ?_
    refine inv_q391 hC hA hS hl.1 hw ⟨Nat.le_of_ble_eq_true rfl, Nat.le_of_ble_eq_true rfl⟩ (Nat.le_of_ble_eq_true rfl) ⟨Nat.zero_le _, Nat.zero_le _⟩ dX2_clears_70 (fun  X3 vs H locs hw hv9 hS => ?_)
    obtain ⟨v4, ev4⟩ : ∃ y : Int32, y = x3 + 1 := ⟨_, rfl⟩
    have hw := hw v4 ev4
    refine lv_iinc (v := v4) (lv' := [(3, .int v4), (0, .ref (a 22)), (4, .int x4)]) hx hb dX2_clears_73 hl (k := 1) rfl (by rw [ev4]; rfl) (by decide) rfl (fun ls hl => ?_)
    refine lv_goto (tgt := 8) hx hb dX2_clears_76 (by decide) ?_
    exact hK8 _ _ hw hS (lv_sub hl [1, 0] rfl)
set_option maxHeartbeats 4000000 in
set_option maxRecDepth 100000 in
theorem k_X2_clears_17b {p : Program} {l : Launch} {e : Env} {s : State} {m : MethodId} {args : Array Value} {below : List Frame} {meth : Method} {c : Code} {D : va_G} {dT : Nat → ClassId} {a : Nat → Nat} {A : Nat → Prop} {vs0 : XE} {p1 : Int32} {p2 : Int32} {K8 : XS → Int32 → Prop} {K17 : XS → Int32 → Int32 → Prop} {post : Int32 → XS → Prop} (hC : wCx RX2 cX2_clears 5 (some .boolean) D dT p s m args meth c) (hA : wAz A s) (hK8 : ∀ (X : XS) (x3 : Int32), K8 X x3 → ∀ {vs : XE} {H : Heap} {locs : List Loc} {ls : Array Slot}, StX D dT a A s vs0 X vs H locs → lv_has ls 5 [(0, .ref (a 22)), (3, .int x3)] → W p l e rmX2_clears s m args below meth c H locs 0 0 (MQ below (va_Qi (fun r u9 => post r u9.1) (wB D (XW dT a) (XI vs0) A) A) args s 0 0 A) (F0 m 8 ls [])) (hK17 : ∀ (X : XS) (x3 : Int32) (x4 : Int32), K17 X x3 x4 → ∀ {vs : XE} {H : Heap} {locs : List Loc} {ls : Array Slot}, StX D dT a A s vs0 X vs H locs → lv_has ls 5 [(0, .ref (a 22)), (3, .int x3), (4, .int x4)] → W p l e rmX2_clears s m args below meth c H locs 0 0 (MQ below (va_Qi (fun r u9 => post r u9.1) (wB D (XW dT a) (XI vs0) A) A) args s 0 0 A) (F0 m 17 ls [])) (X : XS) (x3 : Int32) (x4 : Int32) {vs : XE} {H : Heap} {locs : List Loc} {ls : Array Slot} (hS : StX D dT a A s vs0 X vs H locs) (hl : lv_has ls 5 [(0, .ref (a 22)), (3, .int x3), (4, .int x4)])  (hw : w_X2_clears_17b p1 p2 K8 K17 post X x3 x4) : W p l e rmX2_clears s m args below meth c H locs 0 0 (MQ below (va_Qi (fun r u9 => post r u9.1) (wB D (XW dT a) (XI vs0) A) A) args s 0 0 A) (F0 m 17 ls []) := by
  have hx := hC.1
  have hb := hC.2.1
  have hown := hC.2.2.2.1
  have hts := hC.2.2.2.2.1
  unfold w_X2_clears_17b at hw
  refine lv_iload hx hb dX2_clears_17 (lv_at hl 2 rfl) ?_
  refine lv_aload_n hx hb dX2_clears_19 rfl (lv_at hl 0 rfl) ?_
  refine ld_q159 hC hS dX2_clears_20 ?_
  refine lv_icmp_ge (tgt := 57) hx hb dX2_clears_23 (by decide) (fun c1 => ?_) (fun c1 => ?_)
  · have hw := hw.1 c1
    exact k_X2_clears_57 hC hA hK8 _ _ _ hS (lv_sub hl [0, 1, 2] rfl) hw
  · have hw := hw.2 c1
    refine lv_aload_n hx hb dX2_clears_26 rfl (lv_at hl 0 rfl) ?_
    refine ld_q156 hC hS dX2_clears_27 ?_
    refine lv_iload hx hb dX2_clears_30 (lv_at hl 2 rfl) ?_
    refine al_BA hC hS hw.1 dX2_clears_32 ?_
    have hw := hw.2
    refine lv_iconst (v := (-1)) hx hb dX2_clears_33 (by decide) ?_
    refine lv_icmp_ne (tgt := 51) hx hb dX2_clears_34 (by decide) (fun c2 => ?_) (fun c2 => ?_)
    · have hw := hw.2 c2
      obtain ⟨v3, ev3⟩ : ∃ y : Int32, y = x4 + 1 := ⟨_, rfl⟩
      have hw := hw v3 ev3
      refine lv_iinc (v := v3) (lv' := [(4, .int v3), (0, .ref (a 22)), (3, .int x3)]) hx hb dX2_clears_51 hl (k := 2) rfl (by rw [ev3]; rfl) (by decide) rfl (fun ls hl => ?_)
      refine lv_goto (tgt := 17) hx hb dX2_clears_54 (by decide) ?_
      exact hK17 _ _ _ hw hS (lv_sub hl [1, 2, 0] rfl)
    · have hw := hw.1 c2
      refine lv_aload_n hx hb dX2_clears_37 rfl (lv_at hl 0 rfl) ?_
      refine ld_q153 hC hS dX2_clears_38 ?_
      refine lv_iload hx hb dX2_clears_41 (lv_at hl 2 rfl) ?_
      have hi4 := hw.1
      have hw := hw.2
      refine aa_RS hC hS hi4 dX2_clears_43 ?_
      refine lv_iload_n hx hb dX2_clears_44 rfl (lv_at hl 1 rfl) ?_
      refine al_ROW hC hS (vp_lt hi4) hw.1 dX2_clears_45 ?_
      have hw := hw.2
      refine lv_lconst (v := 0) hx hb dX2_clears_46 (by decide) ?_
      refine lc_if_ne (tgt := 57) hx hb dX2_clears_47 dX2_clears_48 (by decide) (fun c5 => ?_) (fun c5 => ?_)
      · have hw := hw.2 c5
        exact k_X2_clears_57 hC hA hK8 _ _ _ hS (lv_sub hl [0, 1, 2] rfl) hw
      · have hw := hw.1 c5
        obtain ⟨v6, ev6⟩ : ∃ y : Int32, y = x4 + 1 := ⟨_, rfl⟩
        have hw := hw v6 ev6
        refine lv_iinc (v := v6) (lv' := [(4, .int v6), (0, .ref (a 22)), (3, .int x3)]) hx hb dX2_clears_51 hl (k := 2) rfl (by rw [ev6]; rfl) (by decide) rfl (fun ls hl => ?_)
        refine lv_goto (tgt := 17) hx hb dX2_clears_54 (by decide) ?_
        exact hK17 _ _ _ hw hS (lv_sub hl [1, 2, 0] rfl)
set_option maxHeartbeats 4000000 in
set_option maxRecDepth 100000 in
theorem k_X2_clears_17 {p : Program} {l : Launch} {e : Env} {s : State} {m : MethodId} {args : Array Value} {below : List Frame} {meth : Method} {c : Code} {D : va_G} {dT : Nat → ClassId} {a : Nat → Nat} {A : Nat → Prop} {vs0 : XE} {p1 : Int32} {p2 : Int32} {K8 : XS → Int32 → Prop} {post : Int32 → XS → Prop} (hC : wCx RX2 cX2_clears 5 (some .boolean) D dT p s m args meth c) (hA : wAz A s) (hK8 : ∀ (X : XS) (x3 : Int32), K8 X x3 → ∀ {vs : XE} {H : Heap} {locs : List Loc} {ls : Array Slot}, StX D dT a A s vs0 X vs H locs → lv_has ls 5 [(0, .ref (a 22)), (3, .int x3)] → W p l e rmX2_clears s m args below meth c H locs 0 0 (MQ below (va_Qi (fun r u9 => post r u9.1) (wB D (XW dT a) (XI vs0) A) A) args s 0 0 A) (F0 m 8 ls [])) : ∀ (X : XS) (x3 : Int32) (x4 : Int32) (n : Nat), ∀ {vs : XE} {H : Heap} {locs : List Loc} {ls : Array Slot}, StX D dT a A s vs0 X vs H locs → lv_has ls 5 [(0, .ref (a 22)), (3, .int x3), (4, .int x4)] → w_X2_clears_17 p1 p2 K8 post n X x3 x4 → W p l e rmX2_clears s m args below meth c H locs 0 0 (MQ below (va_Qi (fun r u9 => post r u9.1) (wB D (XW dT a) (XI vs0) A) A) args s 0 0 A) (F0 m 17 ls []) := by
  intro X x3 x4 n
  induction n generalizing X x3 x4 with
  | zero => intro vs H locs ls  hS hl hw; exact hw.elim
  | succ n ih =>
    intro vs H locs ls  hS hl hw
    exact k_X2_clears_17b hC hA hK8 (fun X x3 x4 hk {vs} {H} {locs} {ls}  hS hl => ih X x3 x4  hS hl hk) X x3 x4  hS hl hw
set_option maxHeartbeats 4000000 in
set_option maxRecDepth 100000 in
theorem k_X2_clears_81b {p : Program} {l : Launch} {e : Env} {s : State} {m : MethodId} {args : Array Value} {below : List Frame} {meth : Method} {c : Code} {D : va_G} {dT : Nat → ClassId} {a : Nat → Nat} {A : Nat → Prop} {vs0 : XE} {p1 : Int32} {p2 : Int32} {K81 : XS → Int32 → Prop} {post : Int32 → XS → Prop} (hC : wCx RX2 cX2_clears 5 (some .boolean) D dT p s m args meth c) (hA : wAz A s) (hK81 : ∀ (X : XS) (x3 : Int32), K81 X x3 → ∀ {vs : XE} {H : Heap} {locs : List Loc} {ls : Array Slot}, StX D dT a A s vs0 X vs H locs → lv_has ls 5 [(0, .ref (a 22)), (3, .int x3)] → W p l e rmX2_clears s m args below meth c H locs 0 0 (MQ below (va_Qi (fun r u9 => post r u9.1) (wB D (XW dT a) (XI vs0) A) A) args s 0 0 A) (F0 m 81 ls [])) (X : XS) (x3 : Int32) {vs : XE} {H : Heap} {locs : List Loc} {ls : Array Slot} (hS : StX D dT a A s vs0 X vs H locs) (hl : lv_has ls 5 [(0, .ref (a 22)), (3, .int x3)])  (hw : w_X2_clears_81b p1 p2 K81 post X x3) : W p l e rmX2_clears s m args below meth c H locs 0 0 (MQ below (va_Qi (fun r u9 => post r u9.1) (wB D (XW dT a) (XI vs0) A) A) args s 0 0 A) (F0 m 81 ls []) := by
  have hx := hC.1
  have hb := hC.2.1
  have hown := hC.2.2.2.1
  have hts := hC.2.2.2.2.1
  unfold w_X2_clears_81b at hw
  refine lv_iload_n hx hb dX2_clears_81 rfl (lv_at hl 1 rfl) ?_
  refine lv_aload_n hx hb dX2_clears_82 rfl (lv_at hl 0 rfl) ?_
  refine ld_q159 hC hS dX2_clears_83 ?_
  refine lv_icmp_ge (tgt := 121) hx hb dX2_clears_86 (by decide) (fun c1 => ?_) (fun c1 => ?_)
  · have hw := hw.1 c1
    refine lv_iconst (v := 1) hx hb dX2_clears_121 (by decide) ?_
    exact wRetz hC hS (by decide) hw (Nat.le_refl _) (Nat.le_refl _) dX2_clears_122
  · have hw := hw.2 c1
    refine lv_aload_n hx hb dX2_clears_89 rfl (lv_at hl 0 rfl) ?_
    refine ld_q156 hC hS dX2_clears_90 ?_
    refine lv_iload_n hx hb dX2_clears_93 rfl (lv_at hl 1 rfl) ?_
    refine al_BA hC hS hw.1 dX2_clears_94 ?_
    have hw := hw.2
    refine lv_iconst (v := (-1)) hx hb dX2_clears_95 (by decide) ?_
    refine lv_icmp_ne (tgt := 115) hx hb dX2_clears_96 (by decide) (fun c2 => ?_) (fun c2 => ?_)
    · have hw := hw.2 c2
      obtain ⟨v3, ev3⟩ : ∃ y : Int32, y = x3 + 1 := ⟨_, rfl⟩
      have hw := hw v3 ev3
      refine lv_iinc (v := v3) (lv' := [(3, .int v3), (0, .ref (a 22))]) hx hb dX2_clears_115 hl (k := 1) rfl (by rw [ev3]; rfl) (by decide) rfl (fun ls hl => ?_)
      refine lv_goto (tgt := 81) hx hb dX2_clears_118 (by decide) ?_
      exact hK81 _ _ hw hS (lv_sub hl [1, 0] rfl)
    · have hw := hw.1 c2
      refine lv_aload_n hx hb dX2_clears_99 rfl (lv_at hl 0 rfl) ?_
      refine ld_q153 hC hS dX2_clears_100 ?_
      refine lv_iload_n hx hb dX2_clears_103 rfl (lv_at hl 1 rfl) ?_
      have hi4 := hw.1
      have hw := hw.2
      refine aa_RS hC hS hi4 dX2_clears_104 ?_
      refine lv_bipush (v := 10) hx hb dX2_clears_105 (by decide) ?_
      refine al_ROW hC hS (vp_lt hi4) (by unfold vp_in; decide) dX2_clears_107 ?_
      refine lv_lconst (v := 0) hx hb dX2_clears_108 (by decide) ?_
      refine lc_if_eq (tgt := 115) hx hb dX2_clears_109 dX2_clears_110 (by decide) (fun c5 => ?_) (fun c5 => ?_)
      · have hw := hw.1 c5
        obtain ⟨v6, ev6⟩ : ∃ y : Int32, y = x3 + 1 := ⟨_, rfl⟩
        have hw := hw v6 ev6
        refine lv_iinc (v := v6) (lv' := [(3, .int v6), (0, .ref (a 22))]) hx hb dX2_clears_115 hl (k := 1) rfl (by rw [ev6]; rfl) (by decide) rfl (fun ls hl => ?_)
        refine lv_goto (tgt := 81) hx hb dX2_clears_118 (by decide) ?_
        exact hK81 _ _ hw hS (lv_sub hl [1, 0] rfl)
      · have hw := hw.2 c5
        refine lv_iconst (v := 0) hx hb dX2_clears_113 (by decide) ?_
        exact wRetz hC hS (by decide) hw (Nat.le_refl _) (Nat.le_refl _) dX2_clears_114
set_option maxHeartbeats 4000000 in
set_option maxRecDepth 100000 in
theorem k_X2_clears_81 {p : Program} {l : Launch} {e : Env} {s : State} {m : MethodId} {args : Array Value} {below : List Frame} {meth : Method} {c : Code} {D : va_G} {dT : Nat → ClassId} {a : Nat → Nat} {A : Nat → Prop} {vs0 : XE} {p1 : Int32} {p2 : Int32} {post : Int32 → XS → Prop} (hC : wCx RX2 cX2_clears 5 (some .boolean) D dT p s m args meth c) (hA : wAz A s) : ∀ (X : XS) (x3 : Int32) (n : Nat), ∀ {vs : XE} {H : Heap} {locs : List Loc} {ls : Array Slot}, StX D dT a A s vs0 X vs H locs → lv_has ls 5 [(0, .ref (a 22)), (3, .int x3)] → w_X2_clears_81 p1 p2 post n X x3 → W p l e rmX2_clears s m args below meth c H locs 0 0 (MQ below (va_Qi (fun r u9 => post r u9.1) (wB D (XW dT a) (XI vs0) A) A) args s 0 0 A) (F0 m 81 ls []) := by
  intro X x3 n
  induction n generalizing X x3 with
  | zero => intro vs H locs ls  hS hl hw; exact hw.elim
  | succ n ih =>
    intro vs H locs ls  hS hl hw
    exact k_X2_clears_81b hC hA (fun X x3 hk {vs} {H} {locs} {ls}  hS hl => ih X x3  hS hl hk) X x3  hS hl hw
set_option maxHeartbeats 4000000 in
set_option maxRecDepth 100000 in
theorem k_X2_clears_8b {p : Program} {l : Launch} {e : Env} {s : State} {m : MethodId} {args : Array Value} {below : List Frame} {meth : Method} {c : Code} {D : va_G} {dT : Nat → ClassId} {a : Nat → Nat} {A : Nat → Prop} {vs0 : XE} {p1 : Int32} {p2 : Int32} {K8 : XS → Int32 → Prop} {post : Int32 → XS → Prop} (hC : wCx RX2 cX2_clears 5 (some .boolean) D dT p s m args meth c) (hA : wAz A s) (hK8 : ∀ (X : XS) (x3 : Int32), K8 X x3 → ∀ {vs : XE} {H : Heap} {locs : List Loc} {ls : Array Slot}, StX D dT a A s vs0 X vs H locs → lv_has ls 5 [(0, .ref (a 22)), (3, .int x3)] → W p l e rmX2_clears s m args below meth c H locs 0 0 (MQ below (va_Qi (fun r u9 => post r u9.1) (wB D (XW dT a) (XI vs0) A) A) args s 0 0 A) (F0 m 8 ls [])) (X : XS) (x3 : Int32) {vs : XE} {H : Heap} {locs : List Loc} {ls : Array Slot} (hS : StX D dT a A s vs0 X vs H locs) (hl : lv_has ls 5 [(0, .ref (a 22)), (3, .int x3)])  (hw : w_X2_clears_8b p1 p2 K8 post X x3) : W p l e rmX2_clears s m args below meth c H locs 0 0 (MQ below (va_Qi (fun r u9 => post r u9.1) (wB D (XW dT a) (XI vs0) A) A) args s 0 0 A) (F0 m 8 ls []) := by
  have hx := hC.1
  have hb := hC.2.1
  have hown := hC.2.2.2.1
  have hts := hC.2.2.2.2.1
  unfold w_X2_clears_8b at hw
  refine lv_iload_n hx hb dX2_clears_8 rfl (lv_at hl 1 rfl) ?_
  refine lv_bipush (v := 10) hx hb dX2_clears_9 (by decide) ?_
  refine lv_icmp_ge (tgt := 79) hx hb dX2_clears_11 (by decide) (fun c1 => ?_) (fun c1 => ?_)
  · have hw := hw.1 c1
    refine lv_iconst (v := 0) hx hb dX2_clears_79 (by decide) ?_
    refine lv_istore_n (lv' := [(3, .int 0), (0, .ref (a 22))]) hx hb dX2_clears_80 rfl hl (by decide) rfl (fun ls hl => ?_)
    obtain ⟨n, hw⟩ := hw
    exact k_X2_clears_81 hC hA _ _ n hS (lv_sub hl [1, 0] rfl) hw
  · have hw := hw.2 c1
    refine lv_iconst (v := 0) hx hb dX2_clears_14 (by decide) ?_
    refine lv_istore (lv' := [(4, .int 0), (0, .ref (a 22)), (3, .int x3)]) hx hb dX2_clears_15 hl (by decide) rfl (fun ls hl => ?_)
    obtain ⟨n, hw⟩ := hw
    exact k_X2_clears_17 hC hA hK8 _ _ _ n hS (lv_sub hl [1, 2, 0] rfl) hw
set_option maxHeartbeats 4000000 in
set_option maxRecDepth 100000 in
theorem k_X2_clears_8 {p : Program} {l : Launch} {e : Env} {s : State} {m : MethodId} {args : Array Value} {below : List Frame} {meth : Method} {c : Code} {D : va_G} {dT : Nat → ClassId} {a : Nat → Nat} {A : Nat → Prop} {vs0 : XE} {p1 : Int32} {p2 : Int32} {post : Int32 → XS → Prop} (hC : wCx RX2 cX2_clears 5 (some .boolean) D dT p s m args meth c) (hA : wAz A s) : ∀ (X : XS) (x3 : Int32) (n : Nat), ∀ {vs : XE} {H : Heap} {locs : List Loc} {ls : Array Slot}, StX D dT a A s vs0 X vs H locs → lv_has ls 5 [(0, .ref (a 22)), (3, .int x3)] → w_X2_clears_8 p1 p2 post n X x3 → W p l e rmX2_clears s m args below meth c H locs 0 0 (MQ below (va_Qi (fun r u9 => post r u9.1) (wB D (XW dT a) (XI vs0) A) A) args s 0 0 A) (F0 m 8 ls []) := by
  intro X x3 n
  induction n generalizing X x3 with
  | zero => intro vs H locs ls  hS hl hw; exact hw.elim
  | succ n ih =>
    intro vs H locs ls  hS hl hw
    exact k_X2_clears_8b hC hA (fun X x3 hk {vs} {H} {locs} {ls}  hS hl => ih X x3  hS hl hk) X x3  hS hl hw
set_option maxHeartbeats 4000000 in
set_option maxRecDepth 100000 in
theorem k_X2_clears_0 {p : Program} {l : Launch} {e : Env} {s : State} {m : MethodId} {args : Array Value} {below : List Frame} {meth : Method} {c : Code} {D : va_G} {dT : Nat → ClassId} {a : Nat → Nat} {A : Nat → Prop} {vs0 : XE} {p1 : Int32} {p2 : Int32} {post : Int32 → XS → Prop} (hC : wCx RX2 cX2_clears 5 (some .boolean) D dT p s m args meth c) (hA : wAz A s) (X : XS) {vs : XE} {H : Heap} {locs : List Loc} {ls : Array Slot} (hS : StX D dT a A s vs0 X vs H locs) (hl : lv_has ls 5 [(0, .ref (a 22)), (1, .int p1), (2, .int p2)])  (hw : w_X2_clears p1 p2 post X) : W p l e rmX2_clears s m args below meth c H locs 0 0 (MQ below (va_Qi (fun r u9 => post r u9.1) (wB D (XW dT a) (XI vs0) A) A) args s 0 0 A) (F0 m 0 ls []) := by
  have hx := hC.1
  have hb := hC.2.1
  have hown := hC.2.2.2.1
  have hts := hC.2.2.2.2.1
  unfold w_X2_clears at hw
  refine lv_aload_n hx hb dX2_clears_0 rfl (lv_at hl 0 rfl) ?_
  refine lv_iload_n hx hb dX2_clears_1 rfl (lv_at hl 1 rfl) ?_
  refine lv_iload_n hx hb dX2_clears_2 rfl (lv_at hl 2 rfl) ?_
  refine inv_q373 hC hA hS hl.1 hw ⟨Nat.le_of_ble_eq_true rfl, Nat.le_of_ble_eq_true rfl⟩ (Nat.le_of_ble_eq_true rfl) ⟨Nat.zero_le _, Nat.zero_le _⟩ dX2_clears_3 (fun  X1 vs H locs hw hv9 hS => ?_)
  refine lv_iconst (v := 0) hx hb dX2_clears_6 (by decide) ?_
  refine lv_istore_n (lv' := [(3, .int 0), (0, .ref (a 22)), (1, .int p1), (2, .int p2)]) hx hb dX2_clears_7 rfl hl (by decide) rfl (fun ls hl => ?_)
  obtain ⟨n, hw⟩ := hw
  exact k_X2_clears_8 hC hA _ _ n hS (lv_sub hl [1, 0] rfl) hw
abbrev v_X2_clears (X : XS) (p1 : Int32) (p2 : Int32) (post : Int32 → XS → Prop) : Prop := w_X2_clears p1 p2 post X
set_option maxHeartbeats 4000000 in
set_option maxRecDepth 100000 in
theorem met_X2_clears (l : Launch) (D : va_G) (dT : Nat → ClassId) (a : Nat → Nat) (sz : Nat) (X : XS) (vs0 : XE) (p1 : Int32) (p2 : Int32) (post : Int32 → XS → Prop) (hw : v_X2_clears X p1 p2 post) : Met l yX2_clears (ws_ yX2_clears cX2_clears 5 (some .boolean)) rmX2_clears (wPc D dT (XW dT a) (XI vs0) sz (X, vs0) [.ref (a 22), .int p1, .int p2]) (va_Qi (fun r u9 => post r u9.1) (wB D (XW dT a) (XI vs0) (va_A ((XW dT a) (X, vs0)) sz)) (va_A ((XW dT a) (X, vs0)) sz)) 0 0 (va_A ((XW dT a) (X, vs0)) sz) :=
  wEnt (Q := fun A => (va_Qi (fun r u9 => post r u9.1) (wB D (XW dT a) (XI vs0) A) A)) (by decide) (Nat.le_of_ble_eq_true rfl) (fun p e s m below meth c A ls hC _ hA hS hl => k_X2_clears_0 hC hA _ hS hl hw) sz
theorem hd_X2_clears : yX2_clears.cls ≠ "java/lang/invoke/MethodHandle" ∧ yX2_clears.cls ≠ "java/lang/invoke/VarHandle" ∧ (parseMethodDescriptor yX2_clears.desc).map (fun d => d.parameters.length) = some 2 := by decide +kernel
section
variable {p : Program} {l : Launch} {e : Env} {R : Room} {s : State} {m : MethodId} {args : Array Value} {below : List Frame} {meth : Method} {c : Code} {H : Heap} {locs : List Loc} {cells slots : Nat} {Q : State → Prop} {cc : ByteArray} {nL : Nat} {ret : Option FieldType} {pc : Nat} {ls : Array Slot} {rest : List Value}
set_option maxHeartbeats 4000000 in
set_option maxRecDepth 100000 in
theorem inv_q369 {D : va_G} {dT : Nat → ClassId} {a : Nat → Nat} {A : Nat → Prop} {vs0 : XE} {vs : XE} {X : XS} {p1 : Int32} {p2 : Int32} {post : Int32 → XS → Prop} (hC : wCx RX2 cc nL ret D dT p s m args meth c) (hA : wAz A s) (hS : StX D dT a A s vs0 X vs H locs) (hl : ls.size = nL) (hw : v_X2_clears X p1 p2 post) (hR : rmX2_clears.frames + 1 ≤ R.frames ∧ 8 + (5 + 11) + rmX2_clears.locals ≤ R.locals) (hrest : (rest.map fun v => v.category).sum ≤ 8) (hf : cells ≤ R.cells ∧ slots ≤ R.slots) (hdg : decode cc pc = .ok (.invokevirtual 84, 3)) (kk : ∀ (r : Int32) (X1 : XS) (vs1 : XE) (H1 : Heap) (locs1 : List Loc), post r X1 → (∀ v ∈ vs, v ∈ vs1) → StX D dT a A s vs0 X1 vs1 H1 locs1 → W p l e R s m args below meth c H1 locs1 cells slots Q (F0 m (pc + 3) ls (.int r :: rest))) : W p l e R s m args below meth c H locs cells slots Q (F0 m pc ls (.int p2 :: .int p1 :: .ref (a 22) :: rest)) := by
  exact wCallVi (As := [.int p1, .int p2]) (rest := rest) (mc := 0) (ms := 0) 22 hC (met_X2_clears l D dT a H.size X vs p1 p2 post hw) (lw_V q369 q371 qs10 q87 q372) ⟨⟨rfl, rfl⟩, hd_X2_clears, hR, hf⟩ XW_22 rfl rfl hA hS.self hl rfl hrest hdg (fun r u H1 locs1 hp hS1 => kk r u.1 u.2 H1 locs1 hp hS1.2.2.2.2 (hS.back hS1))
end
/-! LeastFrames_Program.fault -/
def w_X2_fault_2b (p1 : Int32) (K2 : XS → Int32 → Prop) (post : Int32 → XS → Prop) (X : XS) (x2 : Int32) : Prop :=
  v_X2_clears X p1 x2 (fun r1 X2 => (r1 = (0 : Int32) → (vp_in (x2 - 1) 10 ∧ (post (X_ways X2 (x2 - 1).toNatClampNeg) X2))) ∧ (¬ r1 = (0 : Int32) → (∀ v4 : Int32, v4 = x2 + 1 → (K2 X2 v4))))
def w_X2_fault_2 (p1 : Int32) (post : Int32 → XS → Prop) : Nat → XS → Int32 → Prop
  | 0, _, _ => False
  | n + 1, X, x2 => w_X2_fault_2b p1 (w_X2_fault_2 p1 post n) post X x2
def w_X2_fault (p1 : Int32) (post : Int32 → XS → Prop) (X : XS) : Prop :=
  ∃ n, w_X2_fault_2 p1 post n X 1
abbrev rmX2_fault : Room := { frames := 6, cells := 0, slots := 0, locals := 138 }
set_option maxHeartbeats 4000000 in
set_option maxRecDepth 100000 in
theorem k_X2_fault_2b {p : Program} {l : Launch} {e : Env} {s : State} {m : MethodId} {args : Array Value} {below : List Frame} {meth : Method} {c : Code} {D : va_G} {dT : Nat → ClassId} {a : Nat → Nat} {A : Nat → Prop} {vs0 : XE} {p1 : Int32} {K2 : XS → Int32 → Prop} {post : Int32 → XS → Prop} (hC : wCx RX2 cX2_fault 3 (some .int) D dT p s m args meth c) (hA : wAz A s) (hK2 : ∀ (X : XS) (x2 : Int32), K2 X x2 → ∀ {vs : XE} {H : Heap} {locs : List Loc} {ls : Array Slot}, StX D dT a A s vs0 X vs H locs → lv_has ls 3 [(0, .ref (a 22)), (1, .int p1), (2, .int x2)] → W p l e rmX2_fault s m args below meth c H locs 0 0 (MQ below (va_Qi (fun r u9 => post r u9.1) (wB D (XW dT a) (XI vs0) A) A) args s 0 0 A) (F0 m 2 ls [])) (X : XS) (x2 : Int32) {vs : XE} {H : Heap} {locs : List Loc} {ls : Array Slot} (hS : StX D dT a A s vs0 X vs H locs) (hl : lv_has ls 3 [(0, .ref (a 22)), (1, .int p1), (2, .int x2)])  (hw : w_X2_fault_2b p1 K2 post X x2) : W p l e rmX2_fault s m args below meth c H locs 0 0 (MQ below (va_Qi (fun r u9 => post r u9.1) (wB D (XW dT a) (XI vs0) A) A) args s 0 0 A) (F0 m 2 ls []) := by
  have hx := hC.1
  have hb := hC.2.1
  have hown := hC.2.2.2.1
  have hts := hC.2.2.2.2.1
  unfold w_X2_fault_2b at hw
  refine lv_aload_n hx hb dX2_fault_2 rfl (lv_at hl 0 rfl) ?_
  refine lv_iload_n hx hb dX2_fault_3 rfl (lv_at hl 1 rfl) ?_
  refine lv_iload_n hx hb dX2_fault_4 rfl (lv_at hl 2 rfl) ?_
  refine inv_q369 hC hA hS hl.1 hw ⟨Nat.le_of_ble_eq_true rfl, Nat.le_of_ble_eq_true rfl⟩ (Nat.le_of_ble_eq_true rfl) ⟨Nat.zero_le _, Nat.zero_le _⟩ dX2_fault_5 (fun r1 X2 vs H locs hw hv9 hS => ?_)
  refine lv_if_eq (tgt := 17) hx hb dX2_fault_8 (by decide) (fun c3 => ?_) (fun c3 => ?_)
  · have hw := hw.1 c3
    refine lv_aload_n hx hb dX2_fault_17 rfl (lv_at hl 0 rfl) ?_
    refine ld_q155 hC hS dX2_fault_18 ?_
    refine lv_iload_n hx hb dX2_fault_21 rfl (lv_at hl 2 rfl) ?_
    refine lv_iconst (v := 1) hx hb dX2_fault_22 (by decide) ?_
    refine lv_isub hx hb dX2_fault_23 ?_
    refine al_WY hC hS hw.1 dX2_fault_24 ?_
    have hw := hw.2
    exact wReti hC hS hw (Nat.le_refl _) (Nat.le_refl _) dX2_fault_25
  · have hw := hw.2 c3
    obtain ⟨v4, ev4⟩ : ∃ y : Int32, y = x2 + 1 := ⟨_, rfl⟩
    have hw := hw v4 ev4
    refine lv_iinc (v := v4) (lv' := [(2, .int v4), (0, .ref (a 22)), (1, .int p1)]) hx hb dX2_fault_11 hl (k := 2) rfl (by rw [ev4]; rfl) (by decide) rfl (fun ls hl => ?_)
    refine lv_goto (tgt := 2) hx hb dX2_fault_14 (by decide) ?_
    exact hK2 _ _ hw hS (lv_sub hl [1, 2, 0] rfl)
set_option maxHeartbeats 4000000 in
set_option maxRecDepth 100000 in
theorem k_X2_fault_2 {p : Program} {l : Launch} {e : Env} {s : State} {m : MethodId} {args : Array Value} {below : List Frame} {meth : Method} {c : Code} {D : va_G} {dT : Nat → ClassId} {a : Nat → Nat} {A : Nat → Prop} {vs0 : XE} {p1 : Int32} {post : Int32 → XS → Prop} (hC : wCx RX2 cX2_fault 3 (some .int) D dT p s m args meth c) (hA : wAz A s) : ∀ (X : XS) (x2 : Int32) (n : Nat), ∀ {vs : XE} {H : Heap} {locs : List Loc} {ls : Array Slot}, StX D dT a A s vs0 X vs H locs → lv_has ls 3 [(0, .ref (a 22)), (1, .int p1), (2, .int x2)] → w_X2_fault_2 p1 post n X x2 → W p l e rmX2_fault s m args below meth c H locs 0 0 (MQ below (va_Qi (fun r u9 => post r u9.1) (wB D (XW dT a) (XI vs0) A) A) args s 0 0 A) (F0 m 2 ls []) := by
  intro X x2 n
  induction n generalizing X x2 with
  | zero => intro vs H locs ls  hS hl hw; exact hw.elim
  | succ n ih =>
    intro vs H locs ls  hS hl hw
    exact k_X2_fault_2b hC hA (fun X x2 hk {vs} {H} {locs} {ls}  hS hl => ih X x2  hS hl hk) X x2  hS hl hw
set_option maxHeartbeats 4000000 in
set_option maxRecDepth 100000 in
theorem k_X2_fault_0 {p : Program} {l : Launch} {e : Env} {s : State} {m : MethodId} {args : Array Value} {below : List Frame} {meth : Method} {c : Code} {D : va_G} {dT : Nat → ClassId} {a : Nat → Nat} {A : Nat → Prop} {vs0 : XE} {p1 : Int32} {post : Int32 → XS → Prop} (hC : wCx RX2 cX2_fault 3 (some .int) D dT p s m args meth c) (hA : wAz A s) (X : XS) {vs : XE} {H : Heap} {locs : List Loc} {ls : Array Slot} (hS : StX D dT a A s vs0 X vs H locs) (hl : lv_has ls 3 [(0, .ref (a 22)), (1, .int p1)])  (hw : w_X2_fault p1 post X) : W p l e rmX2_fault s m args below meth c H locs 0 0 (MQ below (va_Qi (fun r u9 => post r u9.1) (wB D (XW dT a) (XI vs0) A) A) args s 0 0 A) (F0 m 0 ls []) := by
  have hx := hC.1
  have hb := hC.2.1
  have hown := hC.2.2.2.1
  have hts := hC.2.2.2.2.1
  unfold w_X2_fault at hw
  refine lv_iconst (v := 1) hx hb dX2_fault_0 (by decide) ?_
  refine lv_istore_n (lv' := [(2, .int 1), (0, .ref (a 22)), (1, .int p1)]) hx hb dX2_fault_1 rfl hl (by decide) rfl (fun ls hl => ?_)
  obtain ⟨n, hw⟩ := hw
  exact k_X2_fault_2 hC hA _ _ n hS (lv_sub hl [1, 2, 0] rfl) hw
abbrev v_X2_fault (X : XS) (p1 : Int32) (post : Int32 → XS → Prop) : Prop := w_X2_fault p1 post X
set_option maxHeartbeats 4000000 in
set_option maxRecDepth 100000 in
theorem met_X2_fault (l : Launch) (D : va_G) (dT : Nat → ClassId) (a : Nat → Nat) (sz : Nat) (X : XS) (vs0 : XE) (p1 : Int32) (post : Int32 → XS → Prop) (hw : v_X2_fault X p1 post) : Met l yX2_fault (ws_ yX2_fault cX2_fault 3 (some .int)) rmX2_fault (wPc D dT (XW dT a) (XI vs0) sz (X, vs0) [.ref (a 22), .int p1]) (va_Qi (fun r u9 => post r u9.1) (wB D (XW dT a) (XI vs0) (va_A ((XW dT a) (X, vs0)) sz)) (va_A ((XW dT a) (X, vs0)) sz)) 0 0 (va_A ((XW dT a) (X, vs0)) sz) :=
  wEnt (Q := fun A => (va_Qi (fun r u9 => post r u9.1) (wB D (XW dT a) (XI vs0) A) A)) (by decide) (Nat.le_of_ble_eq_true rfl) (fun p e s m below meth c A ls hC _ hA hS hl => k_X2_fault_0 hC hA _ hS hl hw) sz
theorem hd_X2_fault : yX2_fault.cls ≠ "java/lang/invoke/MethodHandle" ∧ yX2_fault.cls ≠ "java/lang/invoke/VarHandle" ∧ (parseMethodDescriptor yX2_fault.desc).map (fun d => d.parameters.length) = some 1 := by decide +kernel
section
variable {p : Program} {l : Launch} {e : Env} {R : Room} {s : State} {m : MethodId} {args : Array Value} {below : List Frame} {meth : Method} {c : Code} {H : Heap} {locs : List Loc} {cells slots : Nat} {Q : State → Prop} {cc : ByteArray} {nL : Nat} {ret : Option FieldType} {pc : Nat} {ls : Array Slot} {rest : List Value}
set_option maxHeartbeats 4000000 in
set_option maxRecDepth 100000 in
theorem inv_q452 {D : va_G} {dT : Nat → ClassId} {a : Nat → Nat} {A : Nat → Prop} {vs0 : XE} {vs : XE} {X : XS} {p1 : Int32} {post : Int32 → XS → Prop} (hC : wCx RX2 cc nL ret D dT p s m args meth c) (hA : wAz A s) (hS : StX D dT a A s vs0 X vs H locs) (hl : ls.size = nL) (hw : v_X2_fault X p1 post) (hR : rmX2_fault.frames + 1 ≤ R.frames ∧ 8 + (3 + 11) + rmX2_fault.locals ≤ R.locals) (hrest : (rest.map fun v => v.category).sum ≤ 8) (hf : cells ≤ R.cells ∧ slots ≤ R.slots) (hdg : decode cc pc = .ok (.invokevirtual 108, 3)) (kk : ∀ (r : Int32) (X1 : XS) (vs1 : XE) (H1 : Heap) (locs1 : List Loc), post r X1 → (∀ v ∈ vs, v ∈ vs1) → StX D dT a A s vs0 X1 vs1 H1 locs1 → W p l e R s m args below meth c H1 locs1 cells slots Q (F0 m (pc + 3) ls (.int r :: rest))) : W p l e R s m args below meth c H locs cells slots Q (F0 m pc ls (.int p1 :: .ref (a 22) :: rest)) := by
  exact wCallVi (As := [.int p1]) (rest := rest) (mc := 0) (ms := 0) 22 hC (met_X2_fault l D dT a H.size X vs p1 post hw) (lw_V q452 q454 qs16 q87 q455) ⟨⟨rfl, rfl⟩, hd_X2_fault, hR, hf⟩ XW_22 rfl rfl hA hS.self hl rfl hrest hdg (fun r u H1 locs1 hp hS1 => kk r u.1 u.2 H1 locs1 hp hS1.2.2.2.2 (hS.back hS1))
end
/-! LeastFrames_Program.isBasic -/
def w_X2_isBasic_2b (X : XS) (p1 : Int32) (K2 : Int32 → Prop) (post : Int32 → Prop) (x2 : Int32) : Prop :=
  ((X_high X) ≤ x2 → (post (0 : Int32))) ∧ (¬ (X_high X) ≤ x2 → (vp_in x2 10 ∧ (((X_basis X x2.toNatClampNeg) = p1 → (post (1 : Int32))) ∧ (¬ (X_basis X x2.toNatClampNeg) = p1 → (∀ v3 : Int32, v3 = x2 + 1 → (K2 v3))))))
def w_X2_isBasic_2 (X : XS) (p1 : Int32) (post : Int32 → Prop) : Nat → Int32 → Prop
  | 0, _ => False
  | n + 1, x2 => w_X2_isBasic_2b X p1 (w_X2_isBasic_2 X p1 post n) post x2
def w_X2_isBasic (X : XS) (p1 : Int32) (post : Int32 → Prop) : Prop :=
  ∃ n, w_X2_isBasic_2 X p1 post n 0
abbrev rmX2_isBasic : Room := { frames := 0, cells := 0, slots := 0, locals := 0 }
set_option maxHeartbeats 4000000 in
set_option maxRecDepth 100000 in
theorem k_X2_isBasic_2b {p : Program} {l : Launch} {e : Env} {s : State} {m : MethodId} {args : Array Value} {below : List Frame} {meth : Method} {c : Code} {D : va_G} {dT : Nat → ClassId} {a : Nat → Nat} {A : Nat → Prop} {vs0 : XE} {X : XS} {p1 : Int32} {K2 : Int32 → Prop} {post : Int32 → Prop} (hC : wCx RX2 cX2_isBasic 3 (some .boolean) D dT p s m args meth c) (hA : wAz A s) (hK2 : ∀ (x2 : Int32), K2 x2 → ∀ {H : Heap} {locs : List Loc} {ls : Array Slot}, StX D dT a A s vs0 X vs0 H locs → lv_has ls 3 [(0, .ref (a 22)), (1, .int p1), (2, .int x2)] → W p l e rmX2_isBasic s m args below meth c H locs 0 0 (MQ below (va_Qi (fun r u9 => u9 = (X, vs0) ∧ post r) (wB D (XW dT a) (XI vs0) A) A) args s 0 0 A) (F0 m 2 ls [])) (x2 : Int32) {H : Heap} {locs : List Loc} {ls : Array Slot} (hS : StX D dT a A s vs0 X vs0 H locs) (hl : lv_has ls 3 [(0, .ref (a 22)), (1, .int p1), (2, .int x2)])  (hw : w_X2_isBasic_2b X p1 K2 post x2) : W p l e rmX2_isBasic s m args below meth c H locs 0 0 (MQ below (va_Qi (fun r u9 => u9 = (X, vs0) ∧ post r) (wB D (XW dT a) (XI vs0) A) A) args s 0 0 A) (F0 m 2 ls []) := by
  have hx := hC.1
  have hb := hC.2.1
  have hown := hC.2.2.2.1
  have hts := hC.2.2.2.2.1
  unfold w_X2_isBasic_2b at hw
  refine lv_iload_n hx hb dX2_isBasic_2 rfl (lv_at hl 2 rfl) ?_
  refine lv_aload_n hx hb dX2_isBasic_3 rfl (lv_at hl 0 rfl) ?_
  refine ld_q159 hC hS dX2_isBasic_4 ?_
  refine lv_icmp_ge (tgt := 28) hx hb dX2_isBasic_7 (by decide) (fun c1 => ?_) (fun c1 => ?_)
  · have hw := hw.1 c1
    refine lv_iconst (v := 0) hx hb dX2_isBasic_28 (by decide) ?_
    exact wRetz hC hS (by decide) ⟨rfl, hw⟩ (Nat.le_refl _) (Nat.le_refl _) dX2_isBasic_29
  · have hw := hw.2 c1
    refine lv_aload_n hx hb dX2_isBasic_10 rfl (lv_at hl 0 rfl) ?_
    refine ld_q156 hC hS dX2_isBasic_11 ?_
    refine lv_iload_n hx hb dX2_isBasic_14 rfl (lv_at hl 2 rfl) ?_
    refine al_BA hC hS hw.1 dX2_isBasic_15 ?_
    have hw := hw.2
    refine lv_iload_n hx hb dX2_isBasic_16 rfl (lv_at hl 1 rfl) ?_
    refine lv_icmp_ne (tgt := 22) hx hb dX2_isBasic_17 (by decide) (fun c2 => ?_) (fun c2 => ?_)
    · have hw := hw.2 c2
      obtain ⟨v3, ev3⟩ : ∃ y : Int32, y = x2 + 1 := ⟨_, rfl⟩
      have hw := hw v3 ev3
      refine lv_iinc (v := v3) (lv' := [(2, .int v3), (0, .ref (a 22)), (1, .int p1)]) hx hb dX2_isBasic_22 hl (k := 2) rfl (by rw [ev3]; rfl) (by decide) rfl (fun ls hl => ?_)
      refine lv_goto (tgt := 2) hx hb dX2_isBasic_25 (by decide) ?_
      exact hK2 _ hw hS (lv_sub hl [1, 2, 0] rfl)
    · have hw := hw.1 c2
      refine lv_iconst (v := 1) hx hb dX2_isBasic_20 (by decide) ?_
      exact wRetz hC hS (by decide) ⟨rfl, hw⟩ (Nat.le_refl _) (Nat.le_refl _) dX2_isBasic_21
set_option maxHeartbeats 4000000 in
set_option maxRecDepth 100000 in
theorem k_X2_isBasic_2 {p : Program} {l : Launch} {e : Env} {s : State} {m : MethodId} {args : Array Value} {below : List Frame} {meth : Method} {c : Code} {D : va_G} {dT : Nat → ClassId} {a : Nat → Nat} {A : Nat → Prop} {vs0 : XE} {X : XS} {p1 : Int32} {post : Int32 → Prop} (hC : wCx RX2 cX2_isBasic 3 (some .boolean) D dT p s m args meth c) (hA : wAz A s) : ∀ (x2 : Int32) (n : Nat), ∀ {H : Heap} {locs : List Loc} {ls : Array Slot}, StX D dT a A s vs0 X vs0 H locs → lv_has ls 3 [(0, .ref (a 22)), (1, .int p1), (2, .int x2)] → w_X2_isBasic_2 X p1 post n x2 → W p l e rmX2_isBasic s m args below meth c H locs 0 0 (MQ below (va_Qi (fun r u9 => u9 = (X, vs0) ∧ post r) (wB D (XW dT a) (XI vs0) A) A) args s 0 0 A) (F0 m 2 ls []) := by
  intro x2 n
  induction n generalizing x2 with
  | zero => intro H locs ls  hS hl hw; exact hw.elim
  | succ n ih =>
    intro H locs ls  hS hl hw
    exact k_X2_isBasic_2b hC hA (fun x2 hk {H} {locs} {ls}  hS hl => ih x2  hS hl hk) x2  hS hl hw
set_option maxHeartbeats 4000000 in
set_option maxRecDepth 100000 in
theorem k_X2_isBasic_0 {p : Program} {l : Launch} {e : Env} {s : State} {m : MethodId} {args : Array Value} {below : List Frame} {meth : Method} {c : Code} {D : va_G} {dT : Nat → ClassId} {a : Nat → Nat} {A : Nat → Prop} {vs0 : XE} {X : XS} {p1 : Int32} {post : Int32 → Prop} (hC : wCx RX2 cX2_isBasic 3 (some .boolean) D dT p s m args meth c) (hA : wAz A s) {H : Heap} {locs : List Loc} {ls : Array Slot} (hS : StX D dT a A s vs0 X vs0 H locs) (hl : lv_has ls 3 [(0, .ref (a 22)), (1, .int p1)])  (hw : w_X2_isBasic X p1 post) : W p l e rmX2_isBasic s m args below meth c H locs 0 0 (MQ below (va_Qi (fun r u9 => u9 = (X, vs0) ∧ post r) (wB D (XW dT a) (XI vs0) A) A) args s 0 0 A) (F0 m 0 ls []) := by
  have hx := hC.1
  have hb := hC.2.1
  have hown := hC.2.2.2.1
  have hts := hC.2.2.2.2.1
  unfold w_X2_isBasic at hw
  refine lv_iconst (v := 0) hx hb dX2_isBasic_0 (by decide) ?_
  refine lv_istore_n (lv' := [(2, .int 0), (0, .ref (a 22)), (1, .int p1)]) hx hb dX2_isBasic_1 rfl hl (by decide) rfl (fun ls hl => ?_)
  obtain ⟨n, hw⟩ := hw
  exact k_X2_isBasic_2 hC hA _ n hS (lv_sub hl [1, 2, 0] rfl) hw
abbrev v_X2_isBasic (X : XS) (p1 : Int32) (post : Int32 → Prop) : Prop := w_X2_isBasic X p1 post
set_option maxHeartbeats 4000000 in
set_option maxRecDepth 100000 in
theorem met_X2_isBasic (l : Launch) (D : va_G) (dT : Nat → ClassId) (a : Nat → Nat) (sz : Nat) (X : XS) (vs0 : XE) (p1 : Int32) (post : Int32 → Prop) (hw : v_X2_isBasic X p1 post) : Met l yX2_isBasic (ws_ yX2_isBasic cX2_isBasic 3 (some .boolean)) rmX2_isBasic (wPc D dT (XW dT a) (XI vs0) sz (X, vs0) [.ref (a 22), .int p1]) (va_Qi (fun r u9 => u9 = (X, vs0) ∧ post r) (wB D (XW dT a) (XI vs0) (va_A ((XW dT a) (X, vs0)) sz)) (va_A ((XW dT a) (X, vs0)) sz)) 0 0 (va_A ((XW dT a) (X, vs0)) sz) :=
  wEnt (Q := fun A => (va_Qi (fun r u9 => u9 = (X, vs0) ∧ post r) (wB D (XW dT a) (XI vs0) A) A)) (by decide) (Nat.le_of_ble_eq_true rfl) (fun p e s m below meth c A ls hC _ hA hS hl => k_X2_isBasic_0 hC hA  hS hl hw) sz
theorem hd_X2_isBasic : yX2_isBasic.cls ≠ "java/lang/invoke/MethodHandle" ∧ yX2_isBasic.cls ≠ "java/lang/invoke/VarHandle" ∧ (parseMethodDescriptor yX2_isBasic.desc).map (fun d => d.parameters.length) = some 1 := by decide +kernel
section
variable {p : Program} {l : Launch} {e : Env} {R : Room} {s : State} {m : MethodId} {args : Array Value} {below : List Frame} {meth : Method} {c : Code} {H : Heap} {locs : List Loc} {cells slots : Nat} {Q : State → Prop} {cc : ByteArray} {nL : Nat} {ret : Option FieldType} {pc : Nat} {ls : Array Slot} {rest : List Value}
set_option maxHeartbeats 4000000 in
set_option maxRecDepth 100000 in
theorem inv_q485 {D : va_G} {dT : Nat → ClassId} {a : Nat → Nat} {A : Nat → Prop} {vs0 : XE} {vs : XE} {X : XS} {p1 : Int32} {post : Int32 → Prop} (hC : wCx RX2 cc nL ret D dT p s m args meth c) (hA : wAz A s) (hS : StX D dT a A s vs0 X vs H locs) (hl : ls.size = nL) (hw : v_X2_isBasic X p1 post) (hR : rmX2_isBasic.frames + 1 ≤ R.frames ∧ 8 + (3 + 11) + rmX2_isBasic.locals ≤ R.locals) (hrest : (rest.map fun v => v.category).sum ≤ 8) (hf : cells ≤ R.cells ∧ slots ≤ R.slots) (hdg : decode cc pc = .ok (.invokevirtual 96, 3)) (kk : ∀ (r : Int32) (H1 : Heap) (locs1 : List Loc), post r → StX D dT a A s vs0 X vs H1 locs1 → W p l e R s m args below meth c H1 locs1 cells slots Q (F0 m (pc + 3) ls (.int r :: rest))) : W p l e R s m args below meth c H locs cells slots Q (F0 m pc ls (.int p1 :: .ref (a 22) :: rest)) := by
  exact wCallVi (As := [.int p1]) (rest := rest) (mc := 0) (ms := 0) 22 hC (met_X2_isBasic l D dT a H.size X vs p1 post hw) (lw_V q485 q487 qs18 q87 q488) ⟨⟨rfl, rfl⟩, hd_X2_isBasic, hR, hf⟩ XW_22 rfl rfl hA hS.self hl rfl hrest hdg (fun r u H1 locs1 hp hS1 => kk r H1 locs1 hp.2 (by have h9 := hS.back hS1; rw [hp.1] at h9; exact h9))
end
/-! LeastFrames_Program.price -/
def w_X2_price_18b (X : XS) (p1 : Int32) (p2 : Int32) (K18 : Int64 → Int32 → Prop) (post : Int64 → Prop) (x3 : Int64) (x5 : Int32) : Prop :=
  ((X_high X) ≤ x5 → (post x3)) ∧ (¬ (X_high X) ≤ x5 → (vp_in x5 10 ∧ (((X_basis X x5.toNatClampNeg) = ((-1) : Int32) → (∀ v3 : Int32, v3 = x5 + 1 → (K18 x3 v3))) ∧ (¬ (X_basis X x5.toNatClampNeg) = ((-1) : Int32) → (vp_in x5 10 ∧ (vp_in x5 10 ∧ (v_X0_quad X (X_basis X x5.toNatClampNeg) (fun r4 => vp_in x5 10 ∧ (vp_in p1 11 ∧ (∀ v6 : Int64, v6 = x3 - (((((X_signs X x5.toNatClampNeg) * p2) * r4).toInt64) * (X_rows X x5.toNatClampNeg p1.toNatClampNeg)) → (∀ v7 : Int32, v7 = x5 + 1 → (K18 v6 v7))))))))))))
def w_X2_price_18 (X : XS) (p1 : Int32) (p2 : Int32) (post : Int64 → Prop) : Nat → Int64 → Int32 → Prop
  | 0, _, _ => False
  | n + 1, x3, x5 => w_X2_price_18b X p1 p2 (w_X2_price_18 X p1 p2 post n) post x3 x5
def w_X2_price (X : XS) (p1 : Int32) (p2 : Int32) (post : Int64 → Prop) : Prop :=
  v_X0_quad X p1 (fun r1 => ∀ v2 : Int64, v2 = r1.toInt64 * (X_below X) → (∃ n, w_X2_price_18 X p1 p2 post n v2 0))
abbrev rmX2_price : Room := { frames := 4, cells := 0, slots := 0, locals := 85 }
set_option maxHeartbeats 4000000 in
set_option maxRecDepth 100000 in
theorem k_X2_price_18b {p : Program} {l : Launch} {e : Env} {s : State} {m : MethodId} {args : Array Value} {below : List Frame} {meth : Method} {c : Code} {D : va_G} {dT : Nat → ClassId} {a : Nat → Nat} {A : Nat → Prop} {vs0 : XE} {X : XS} {p1 : Int32} {p2 : Int32} {K18 : Int64 → Int32 → Prop} {post : Int64 → Prop} (hC : wCx RX2 cX2_price 6 (some .long) D dT p s m args meth c) (hA : wAz A s) (hK18 : ∀ (x3 : Int64) (x5 : Int32), K18 x3 x5 → ∀ {H : Heap} {locs : List Loc} {ls : Array Slot}, StX D dT a A s vs0 X vs0 H locs → lv_has ls 6 [(0, .ref (a 22)), (1, .int p1), (2, .int p2), (3, .long x3), (5, .int x5)] → W p l e rmX2_price s m args below meth c H locs 0 0 (MQ below (va_Ql (fun r u9 => u9 = (X, vs0) ∧ post r) (wB D (XW dT a) (XI vs0) A) A) args s 0 0 A) (F0 m 18 ls [])) (x3 : Int64) (x5 : Int32) {H : Heap} {locs : List Loc} {ls : Array Slot} (hS : StX D dT a A s vs0 X vs0 H locs) (hl : lv_has ls 6 [(0, .ref (a 22)), (1, .int p1), (2, .int p2), (3, .long x3), (5, .int x5)])  (hw : w_X2_price_18b X p1 p2 K18 post x3 x5) : W p l e rmX2_price s m args below meth c H locs 0 0 (MQ below (va_Ql (fun r u9 => u9 = (X, vs0) ∧ post r) (wB D (XW dT a) (XI vs0) A) A) args s 0 0 A) (F0 m 18 ls []) := by
  have hx := hC.1
  have hb := hC.2.1
  have hown := hC.2.2.2.1
  have hts := hC.2.2.2.2.1
  unfold w_X2_price_18b at hw
  refine lv_iload hx hb dX2_price_18 (lv_at hl 4 rfl) ?_
  refine lv_aload_n hx hb dX2_price_20 rfl (lv_at hl 0 rfl) ?_
  refine ld_q159 hC hS dX2_price_21 ?_
  refine lv_icmp_ge (tgt := 82) hx hb dX2_price_24 (by decide) (fun c1 => ?_) (fun c1 => ?_)
  · have hw := hw.1 c1
    refine lv_lload_n hx hb dX2_price_82 rfl (lv_at hl 3 rfl) ?_
    exact wRetl hC hS ⟨rfl, hw⟩ (Nat.le_refl _) (Nat.le_refl _) dX2_price_83
  · have hw := hw.2 c1
    refine lv_aload_n hx hb dX2_price_27 rfl (lv_at hl 0 rfl) ?_
    refine ld_q156 hC hS dX2_price_28 ?_
    refine lv_iload hx hb dX2_price_31 (lv_at hl 4 rfl) ?_
    refine al_BA hC hS hw.1 dX2_price_33 ?_
    have hw := hw.2
    refine lv_iconst (v := (-1)) hx hb dX2_price_34 (by decide) ?_
    refine lv_icmp_eq (tgt := 76) hx hb dX2_price_35 (by decide) (fun c2 => ?_) (fun c2 => ?_)
    · have hw := hw.1 c2
      obtain ⟨v3, ev3⟩ : ∃ y : Int32, y = x5 + 1 := ⟨_, rfl⟩
      have hw := hw v3 ev3
      refine lv_iinc (v := v3) (lv' := [(5, .int v3), (0, .ref (a 22)), (1, .int p1), (2, .int p2), (3, .long x3)]) hx hb dX2_price_76 hl (k := 4) rfl (by rw [ev3]; rfl) (by decide) rfl (fun ls hl => ?_)
      refine lv_goto (tgt := 18) hx hb dX2_price_79 (by decide) ?_
      exact hK18 _ _ hw hS (lv_sub hl [1, 2, 3, 4, 0] rfl)
    · have hw := hw.2 c2
      refine lv_lload_n hx hb dX2_price_38 rfl (lv_at hl 3 rfl) ?_
      refine lv_aload_n hx hb dX2_price_39 rfl (lv_at hl 0 rfl) ?_
      refine ld_q158 hC hS dX2_price_40 ?_
      refine lv_iload hx hb dX2_price_43 (lv_at hl 4 rfl) ?_
      refine al_SG hC hS hw.1 dX2_price_45 ?_
      have hw := hw.2
      refine lv_iload_n hx hb dX2_price_46 rfl (lv_at hl 2 rfl) ?_
      refine lv_imul hx hb dX2_price_47 ?_
      refine lv_aload_n hx hb dX2_price_48 rfl (lv_at hl 0 rfl) ?_
      refine ld_q163 hC hS dX2_price_49 ?_
      refine lv_aload_n hx hb dX2_price_52 rfl (lv_at hl 0 rfl) ?_
      refine ld_q156 hC hS dX2_price_53 ?_
      refine lv_iload hx hb dX2_price_56 (lv_at hl 4 rfl) ?_
      refine al_BA hC hS hw.1 dX2_price_58 ?_
      have hw := hw.2
      refine inv_q493 hC hA hS hl.1 hw ⟨Nat.le_of_ble_eq_true rfl, Nat.le_of_ble_eq_true rfl⟩ (Nat.le_of_ble_eq_true rfl) ⟨Nat.zero_le _, Nat.zero_le _⟩ dX2_price_59 (fun r4 H locs hw hS => ?_)
      refine lv_imul hx hb dX2_price_62 ?_
      refine lv_i2l hx hb dX2_price_63 rfl ?_
      refine lv_aload_n hx hb dX2_price_64 rfl (lv_at hl 0 rfl) ?_
      refine ld_q153 hC hS dX2_price_65 ?_
      refine lv_iload hx hb dX2_price_68 (lv_at hl 4 rfl) ?_
      have hi5 := hw.1
      have hw := hw.2
      refine aa_RS hC hS hi5 dX2_price_70 ?_
      refine lv_iload_n hx hb dX2_price_71 rfl (lv_at hl 1 rfl) ?_
      refine al_ROW hC hS (vp_lt hi5) hw.1 dX2_price_72 ?_
      have hw := hw.2
      refine lv_lmul hx hb dX2_price_73 ?_
      refine lv_lsub hx hb dX2_price_74 ?_
      refine lv_topl (fun v6 ev6 => ?_)
      have hw := hw v6 ev6
      refine lv_lstore_n (lv' := [(3, .long v6), (0, .ref (a 22)), (1, .int p1), (2, .int p2), (5, .int x5)]) hx hb dX2_price_75 rfl hl (by decide) rfl (fun ls hl => ?_)
      obtain ⟨v7, ev7⟩ : ∃ y : Int32, y = x5 + 1 := ⟨_, rfl⟩
      have hw := hw v7 ev7
      refine lv_iinc (v := v7) (lv' := [(5, .int v7), (3, .long v6), (0, .ref (a 22)), (1, .int p1), (2, .int p2)]) hx hb dX2_price_76 hl (k := 4) rfl (by rw [ev7]; rfl) (by decide) rfl (fun ls hl => ?_)
      refine lv_goto (tgt := 18) hx hb dX2_price_79 (by decide) ?_
      exact hK18 _ _ hw hS (lv_sub hl [2, 3, 4, 1, 0] rfl)
set_option maxHeartbeats 4000000 in
set_option maxRecDepth 100000 in
theorem k_X2_price_18 {p : Program} {l : Launch} {e : Env} {s : State} {m : MethodId} {args : Array Value} {below : List Frame} {meth : Method} {c : Code} {D : va_G} {dT : Nat → ClassId} {a : Nat → Nat} {A : Nat → Prop} {vs0 : XE} {X : XS} {p1 : Int32} {p2 : Int32} {post : Int64 → Prop} (hC : wCx RX2 cX2_price 6 (some .long) D dT p s m args meth c) (hA : wAz A s) : ∀ (x3 : Int64) (x5 : Int32) (n : Nat), ∀ {H : Heap} {locs : List Loc} {ls : Array Slot}, StX D dT a A s vs0 X vs0 H locs → lv_has ls 6 [(0, .ref (a 22)), (1, .int p1), (2, .int p2), (3, .long x3), (5, .int x5)] → w_X2_price_18 X p1 p2 post n x3 x5 → W p l e rmX2_price s m args below meth c H locs 0 0 (MQ below (va_Ql (fun r u9 => u9 = (X, vs0) ∧ post r) (wB D (XW dT a) (XI vs0) A) A) args s 0 0 A) (F0 m 18 ls []) := by
  intro x3 x5 n
  induction n generalizing x3 x5 with
  | zero => intro H locs ls  hS hl hw; exact hw.elim
  | succ n ih =>
    intro H locs ls  hS hl hw
    exact k_X2_price_18b hC hA (fun x3 x5 hk {H} {locs} {ls}  hS hl => ih x3 x5  hS hl hk) x3 x5  hS hl hw
set_option maxHeartbeats 4000000 in
set_option maxRecDepth 100000 in
theorem k_X2_price_0 {p : Program} {l : Launch} {e : Env} {s : State} {m : MethodId} {args : Array Value} {below : List Frame} {meth : Method} {c : Code} {D : va_G} {dT : Nat → ClassId} {a : Nat → Nat} {A : Nat → Prop} {vs0 : XE} {X : XS} {p1 : Int32} {p2 : Int32} {post : Int64 → Prop} (hC : wCx RX2 cX2_price 6 (some .long) D dT p s m args meth c) (hA : wAz A s) {H : Heap} {locs : List Loc} {ls : Array Slot} (hS : StX D dT a A s vs0 X vs0 H locs) (hl : lv_has ls 6 [(0, .ref (a 22)), (1, .int p1), (2, .int p2)])  (hw : w_X2_price X p1 p2 post) : W p l e rmX2_price s m args below meth c H locs 0 0 (MQ below (va_Ql (fun r u9 => u9 = (X, vs0) ∧ post r) (wB D (XW dT a) (XI vs0) A) A) args s 0 0 A) (F0 m 0 ls []) := by
  have hx := hC.1
  have hb := hC.2.1
  have hown := hC.2.2.2.1
  have hts := hC.2.2.2.2.1
  unfold w_X2_price at hw
  refine lv_aload_n hx hb dX2_price_0 rfl (lv_at hl 0 rfl) ?_
  refine ld_q163 hC hS dX2_price_1 ?_
  refine lv_iload_n hx hb dX2_price_4 rfl (lv_at hl 1 rfl) ?_
  refine inv_q493 hC hA hS hl.1 hw ⟨Nat.le_of_ble_eq_true rfl, Nat.le_of_ble_eq_true rfl⟩ (Nat.le_of_ble_eq_true rfl) ⟨Nat.zero_le _, Nat.zero_le _⟩ dX2_price_5 (fun r1 H locs hw hS => ?_)
  refine lv_i2l hx hb dX2_price_8 rfl ?_
  refine lv_aload_n hx hb dX2_price_9 rfl (lv_at hl 0 rfl) ?_
  refine ld_q161 hC hS dX2_price_10 ?_
  refine lv_lmul hx hb dX2_price_13 ?_
  refine lv_topl (fun v2 ev2 => ?_)
  have hw := hw v2 ev2
  refine lv_lstore_n (lv' := [(3, .long v2), (0, .ref (a 22)), (1, .int p1), (2, .int p2)]) hx hb dX2_price_14 rfl hl (by decide) rfl (fun ls hl => ?_)
  refine lv_iconst (v := 0) hx hb dX2_price_15 (by decide) ?_
  refine lv_istore (lv' := [(5, .int 0), (3, .long v2), (0, .ref (a 22)), (1, .int p1), (2, .int p2)]) hx hb dX2_price_16 hl (by decide) rfl (fun ls hl => ?_)
  obtain ⟨n, hw⟩ := hw
  exact k_X2_price_18 hC hA _ _ n hS (lv_sub hl [2, 3, 4, 1, 0] rfl) hw
abbrev v_X2_price (X : XS) (p1 : Int32) (p2 : Int32) (post : Int64 → Prop) : Prop := w_X2_price X p1 p2 post
set_option maxHeartbeats 4000000 in
set_option maxRecDepth 100000 in
theorem met_X2_price (l : Launch) (D : va_G) (dT : Nat → ClassId) (a : Nat → Nat) (sz : Nat) (X : XS) (vs0 : XE) (p1 : Int32) (p2 : Int32) (post : Int64 → Prop) (hw : v_X2_price X p1 p2 post) : Met l yX2_price (ws_ yX2_price cX2_price 6 (some .long)) rmX2_price (wPc D dT (XW dT a) (XI vs0) sz (X, vs0) [.ref (a 22), .int p1, .int p2]) (va_Ql (fun r u9 => u9 = (X, vs0) ∧ post r) (wB D (XW dT a) (XI vs0) (va_A ((XW dT a) (X, vs0)) sz)) (va_A ((XW dT a) (X, vs0)) sz)) 0 0 (va_A ((XW dT a) (X, vs0)) sz) :=
  wEnt (Q := fun A => (va_Ql (fun r u9 => u9 = (X, vs0) ∧ post r) (wB D (XW dT a) (XI vs0) A) A)) (by decide) (Nat.le_of_ble_eq_true rfl) (fun p e s m below meth c A ls hC _ hA hS hl => k_X2_price_0 hC hA  hS hl hw) sz
theorem hd_X2_price : yX2_price.cls ≠ "java/lang/invoke/MethodHandle" ∧ yX2_price.cls ≠ "java/lang/invoke/VarHandle" ∧ (parseMethodDescriptor yX2_price.desc).map (fun d => d.parameters.length) = some 2 := by decide +kernel
section
variable {p : Program} {l : Launch} {e : Env} {R : Room} {s : State} {m : MethodId} {args : Array Value} {below : List Frame} {meth : Method} {c : Code} {H : Heap} {locs : List Loc} {cells slots : Nat} {Q : State → Prop} {cc : ByteArray} {nL : Nat} {ret : Option FieldType} {pc : Nat} {ls : Array Slot} {rest : List Value}
set_option maxHeartbeats 4000000 in
set_option maxRecDepth 100000 in
theorem inv_q489 {D : va_G} {dT : Nat → ClassId} {a : Nat → Nat} {A : Nat → Prop} {vs0 : XE} {vs : XE} {X : XS} {p1 : Int32} {p2 : Int32} {post : Int64 → Prop} (hC : wCx RX2 cc nL ret D dT p s m args meth c) (hA : wAz A s) (hS : StX D dT a A s vs0 X vs H locs) (hl : ls.size = nL) (hw : v_X2_price X p1 p2 post) (hR : rmX2_price.frames + 1 ≤ R.frames ∧ 8 + (6 + 11) + rmX2_price.locals ≤ R.locals) (hrest : (rest.map fun v => v.category).sum ≤ 8) (hf : cells ≤ R.cells ∧ slots ≤ R.slots) (hdg : decode cc pc = .ok (.invokevirtual 99, 3)) (kk : ∀ (r : Int64) (H1 : Heap) (locs1 : List Loc), post r → StX D dT a A s vs0 X vs H1 locs1 → W p l e R s m args below meth c H1 locs1 cells slots Q (F0 m (pc + 3) ls (.long r :: rest))) : W p l e R s m args below meth c H locs cells slots Q (F0 m pc ls (.int p2 :: .int p1 :: .ref (a 22) :: rest)) := by
  exact wCallVl (As := [.int p1, .int p2]) (rest := rest) (mc := 0) (ms := 0) 22 hC (met_X2_price l D dT a H.size X vs p1 p2 post hw) (lw_V q489 q491 qs19 q87 q492) ⟨⟨rfl, rfl⟩, hd_X2_price, hR, hf⟩ XW_22 rfl rfl hA hS.self hl rfl hrest hdg (fun r u H1 locs1 hp hS1 => kk r H1 locs1 hp.2 (by have h9 := hS.back hS1; rw [hp.1] at h9; exact h9))
end
/-! LeastFrames_Program.gives -/
def w_X2_gives_5b (X : XS) (p1 : Int32) (p2 : Int32) (K5 : Int32 → Int32 → Prop) (post : Int32 → Prop) (x3 : Int32) (x4 : Int32) : Prop :=
  ((X_high X) ≤ x4 → (post x3)) ∧ (¬ (X_high X) ≤ x4 → (vp_in x4 10 ∧ (vp_in x4 10 ∧ (vp_in p1 11 ∧ (∀ v3 : Int64, v3 = (((X_signs X x4.toNatClampNeg) * p2).toInt64) * (X_rows X x4.toNatClampNeg p1.toNatClampNeg) → (vp_in x4 10 ∧ (((X_basis X x4.toNatClampNeg) = ((-1) : Int32) → (∀ v5 : Int32, v5 = x4 + 1 → (K5 x3 v5))) ∧ (¬ (X_basis X x4.toNatClampNeg) = ((-1) : Int32) → (((0 : Int64) < v3 → ((x3 = ((-1) : Int32) → (∀ v22 : Int32, v22 = x4 + 1 → (K5 x4 v22))) ∧ (¬ x3 = ((-1) : Int32) → (vp_in x4 10 ∧ (v_J2_abs (X_rows X x4.toNatClampNeg (10 : Int32).toNatClampNeg) (fun r9 => vp_in x3 10 ∧ (vp_in x3 10 ∧ (vp_in p1 11 ∧ (∀ v11 : Int64, v11 = r9 * ((((X_signs X x3.toNatClampNeg) * p2).toInt64) * (X_rows X x3.toNatClampNeg p1.toNatClampNeg)) → (vp_in x3 10 ∧ (v_J2_abs (X_rows X x3.toNatClampNeg (10 : Int32).toNatClampNeg) (fun r13 => ∀ v14 : Int64, v14 = r13 * v3 → ((v11 < v14 → (∀ v16 : Int32, v16 = x4 + 1 → (K5 x4 v16))) ∧ (¬ v11 < v14 → ((v11 = v14 → (vp_in x4 10 ∧ (vp_in x3 10 ∧ (((X_basis X x3.toNatClampNeg) ≤ (X_basis X x4.toNatClampNeg) → (∀ v20 : Int32, v20 = x4 + 1 → (K5 x3 v20))) ∧ (¬ (X_basis X x3.toNatClampNeg) ≤ (X_basis X x4.toNatClampNeg) → (∀ v21 : Int32, v21 = x4 + 1 → (K5 x4 v21))))))) ∧ (¬ v11 = v14 → (∀ v18 : Int32, v18 = x4 + 1 → (K5 x3 v18)))))))))))))))))) ∧ (¬ (0 : Int64) < v3 → (∀ v23 : Int32, v23 = x4 + 1 → (K5 x3 v23))))))))))))
def w_X2_gives_5 (X : XS) (p1 : Int32) (p2 : Int32) (post : Int32 → Prop) : Nat → Int32 → Int32 → Prop
  | 0, _, _ => False
  | n + 1, x3, x4 => w_X2_gives_5b X p1 p2 (w_X2_gives_5 X p1 p2 post n) post x3 x4
def w_X2_gives (X : XS) (p1 : Int32) (p2 : Int32) (post : Int32 → Prop) : Prop :=
  ∃ n, w_X2_gives_5 X p1 p2 post n (-1) 0
abbrev rmX2_gives : Room := { frames := 1, cells := 0, slots := 0, locals := 21 }
set_option maxHeartbeats 4000000 in
set_option maxRecDepth 100000 in
theorem k_X2_gives_5b {p : Program} {l : Launch} {e : Env} {s : State} {m : MethodId} {args : Array Value} {below : List Frame} {meth : Method} {c : Code} {D : va_G} {dT : Nat → ClassId} {a : Nat → Nat} {A : Nat → Prop} {vs0 : XE} {X : XS} {p1 : Int32} {p2 : Int32} {K5 : Int32 → Int32 → Prop} {post : Int32 → Prop} (hC : wCx RX2 cX2_gives 11 (some .int) D dT p s m args meth c) (hA : wAz A s) (hK5 : ∀ (x3 : Int32) (x4 : Int32), K5 x3 x4 → ∀ {H : Heap} {locs : List Loc} {ls : Array Slot}, StX D dT a A s vs0 X vs0 H locs → lv_has ls 11 [(0, .ref (a 22)), (1, .int p1), (2, .int p2), (3, .int x3), (4, .int x4)] → W p l e rmX2_gives s m args below meth c H locs 0 0 (MQ below (va_Qi (fun r u9 => u9 = (X, vs0) ∧ post r) (wB D (XW dT a) (XI vs0) A) A) args s 0 0 A) (F0 m 5 ls [])) (x3 : Int32) (x4 : Int32) {H : Heap} {locs : List Loc} {ls : Array Slot} (hS : StX D dT a A s vs0 X vs0 H locs) (hl : lv_has ls 11 [(0, .ref (a 22)), (1, .int p1), (2, .int p2), (3, .int x3), (4, .int x4)])  (hw : w_X2_gives_5b X p1 p2 K5 post x3 x4) : W p l e rmX2_gives s m args below meth c H locs 0 0 (MQ below (va_Qi (fun r u9 => u9 = (X, vs0) ∧ post r) (wB D (XW dT a) (XI vs0) A) A) args s 0 0 A) (F0 m 5 ls []) := by
  have hx := hC.1
  have hb := hC.2.1
  have hown := hC.2.2.2.1
  have hts := hC.2.2.2.2.1
  unfold w_X2_gives_5b at hw
  refine lv_iload hx hb dX2_gives_5 (lv_at hl 4 rfl) ?_
  refine lv_aload_n hx hb dX2_gives_7 rfl (lv_at hl 0 rfl) ?_
  refine ld_q159 hC hS dX2_gives_8 ?_
  refine lv_icmp_ge (tgt := 160) hx hb dX2_gives_11 (by decide) (fun c1 => ?_) (fun c1 => ?_)
  · have hw := hw.1 c1
    refine lv_iload_n hx hb dX2_gives_160 rfl (lv_at hl 3 rfl) ?_
    exact wReti hC hS ⟨rfl, hw⟩ (Nat.le_refl _) (Nat.le_refl _) dX2_gives_161
  · have hw := hw.2 c1
    refine lv_aload_n hx hb dX2_gives_14 rfl (lv_at hl 0 rfl) ?_
    refine ld_q158 hC hS dX2_gives_15 ?_
    refine lv_iload hx hb dX2_gives_18 (lv_at hl 4 rfl) ?_
    refine al_SG hC hS hw.1 dX2_gives_20 ?_
    have hw := hw.2
    refine lv_iload_n hx hb dX2_gives_21 rfl (lv_at hl 2 rfl) ?_
    refine lv_imul hx hb dX2_gives_22 ?_
    refine lv_i2l hx hb dX2_gives_23 rfl ?_
    refine lv_aload_n hx hb dX2_gives_24 rfl (lv_at hl 0 rfl) ?_
    refine ld_q153 hC hS dX2_gives_25 ?_
    refine lv_iload hx hb dX2_gives_28 (lv_at hl 4 rfl) ?_
    have hi2 := hw.1
    have hw := hw.2
    refine aa_RS hC hS hi2 dX2_gives_30 ?_
    refine lv_iload_n hx hb dX2_gives_31 rfl (lv_at hl 1 rfl) ?_
    refine al_ROW hC hS (vp_lt hi2) hw.1 dX2_gives_32 ?_
    have hw := hw.2
    refine lv_lmul hx hb dX2_gives_33 ?_
    refine lv_topl (fun v3 ev3 => ?_)
    have hw := hw v3 ev3
    refine lv_lstore (lv' := [(5, .long v3), (0, .ref (a 22)), (1, .int p1), (2, .int p2), (3, .int x3), (4, .int x4)]) hx hb dX2_gives_34 hl (by decide) rfl (fun ls hl => ?_)
    refine lv_aload_n hx hb dX2_gives_36 rfl (lv_at hl 1 rfl) ?_
    refine ld_q156 hC hS dX2_gives_37 ?_
    refine lv_iload hx hb dX2_gives_40 (lv_at hl 5 rfl) ?_
    refine al_BA hC hS hw.1 dX2_gives_42 ?_
    have hw := hw.2
    refine lv_iconst (v := (-1)) hx hb dX2_gives_43 (by decide) ?_
    refine lv_icmp_eq (tgt := 154) hx hb dX2_gives_44 (by decide) (fun c4 => ?_) (fun c4 => ?_)
    · have hw := hw.1 c4
      obtain ⟨v5, ev5⟩ : ∃ y : Int32, y = x4 + 1 := ⟨_, rfl⟩
      have hw := hw v5 ev5
      refine lv_iinc (v := v5) (lv' := [(4, .int v5), (5, .long v3), (0, .ref (a 22)), (1, .int p1), (2, .int p2), (3, .int x3)]) hx hb dX2_gives_154 hl (k := 5) rfl (by rw [ev5]; rfl) (by decide) rfl (fun ls hl => ?_)
      refine lv_goto (tgt := 5) hx hb dX2_gives_157 (by decide) ?_
      exact hK5 _ _ hw hS (lv_sub hl [2, 3, 4, 5, 0] rfl)
    · have hw := hw.2 c4
      refine lv_lload hx hb dX2_gives_47 (lv_at hl 0 rfl) ?_
      refine lv_lconst (v := 0) hx hb dX2_gives_49 (by decide) ?_
      refine lc_if_gt (tgt := 57) hx hb dX2_gives_50 dX2_gives_51 (by decide) (fun c6 => ?_) (fun c6 => ?_)
      · have hw := hw.1 c6
        refine lv_iload_n hx hb dX2_gives_57 rfl (lv_at hl 4 rfl) ?_
        refine lv_iconst (v := (-1)) hx hb dX2_gives_58 (by decide) ?_
        refine lv_icmp_ne (tgt := 68) hx hb dX2_gives_59 (by decide) (fun c7 => ?_) (fun c7 => ?_)
        · have hw := hw.2 c7
          refine lv_aload_n hx hb dX2_gives_68 rfl (lv_at hl 1 rfl) ?_
          refine ld_q153 hC hS dX2_gives_69 ?_
          refine lv_iload hx hb dX2_gives_72 (lv_at hl 5 rfl) ?_
          have hi8 := hw.1
          have hw := hw.2
          refine aa_RS hC hS hi8 dX2_gives_74 ?_
          refine lv_bipush (v := 10) hx hb dX2_gives_75 (by decide) ?_
          refine al_ROW hC hS (vp_lt hi8) (by unfold vp_in; decide) dX2_gives_77 ?_
          refine inv_q498 hC hS hl.1 hw ⟨Nat.le_of_ble_eq_true rfl, Nat.le_of_ble_eq_true rfl⟩ (Nat.le_of_ble_eq_true rfl) ⟨Nat.zero_le _, Nat.zero_le _⟩ dX2_gives_78 (fun r9 H locs hw hS => ?_)
          refine lv_aload_n hx hb dX2_gives_81 rfl (lv_at hl 1 rfl) ?_
          refine ld_q158 hC hS dX2_gives_82 ?_
          refine lv_iload_n hx hb dX2_gives_85 rfl (lv_at hl 4 rfl) ?_
          refine al_SG hC hS hw.1 dX2_gives_86 ?_
          have hw := hw.2
          refine lv_iload_n hx hb dX2_gives_87 rfl (lv_at hl 3 rfl) ?_
          refine lv_imul hx hb dX2_gives_88 ?_
          refine lv_i2l hx hb dX2_gives_89 rfl ?_
          refine lv_aload_n hx hb dX2_gives_90 rfl (lv_at hl 1 rfl) ?_
          refine ld_q153 hC hS dX2_gives_91 ?_
          refine lv_iload_n hx hb dX2_gives_94 rfl (lv_at hl 4 rfl) ?_
          have hi10 := hw.1
          have hw := hw.2
          refine aa_RS hC hS hi10 dX2_gives_95 ?_
          refine lv_iload_n hx hb dX2_gives_96 rfl (lv_at hl 2 rfl) ?_
          refine al_ROW hC hS (vp_lt hi10) hw.1 dX2_gives_97 ?_
          have hw := hw.2
          refine lv_lmul hx hb dX2_gives_98 ?_
          refine lv_lmul hx hb dX2_gives_99 ?_
          refine lv_topl (fun v11 ev11 => ?_)
          have hw := hw v11 ev11
          refine lv_lstore (lv' := [(7, .long v11), (5, .long v3), (0, .ref (a 22)), (1, .int p1), (2, .int p2), (3, .int x3), (4, .int x4)]) hx hb dX2_gives_100 hl (by decide) rfl (fun ls hl => ?_)
          refine lv_aload_n hx hb dX2_gives_102 rfl (lv_at hl 2 rfl) ?_
          refine ld_q153 hC hS dX2_gives_103 ?_
          refine lv_iload_n hx hb dX2_gives_106 rfl (lv_at hl 5 rfl) ?_
          have hi12 := hw.1
          have hw := hw.2
          refine aa_RS hC hS hi12 dX2_gives_107 ?_
          refine lv_bipush (v := 10) hx hb dX2_gives_108 (by decide) ?_
          refine al_ROW hC hS (vp_lt hi12) (by unfold vp_in; decide) dX2_gives_110 ?_
          refine inv_q498 hC hS hl.1 hw ⟨Nat.le_of_ble_eq_true rfl, Nat.le_of_ble_eq_true rfl⟩ (Nat.le_of_ble_eq_true rfl) ⟨Nat.zero_le _, Nat.zero_le _⟩ dX2_gives_111 (fun r13 H locs hw hS => ?_)
          refine lv_lload hx hb dX2_gives_114 (lv_at hl 1 rfl) ?_
          refine lv_lmul hx hb dX2_gives_116 ?_
          refine lv_topl (fun v14 ev14 => ?_)
          have hw := hw v14 ev14
          refine lv_lstore (lv' := [(9, .long v14), (7, .long v11), (5, .long v3), (0, .ref (a 22)), (1, .int p1), (2, .int p2), (3, .int x3), (4, .int x4)]) hx hb dX2_gives_117 hl (by decide) rfl (fun ls hl => ?_)
          refine lv_lload hx hb dX2_gives_119 (lv_at hl 1 rfl) ?_
          refine lv_lload hx hb dX2_gives_121 (lv_at hl 0 rfl) ?_
          refine lc_if_lt (tgt := 151) hx hb dX2_gives_123 dX2_gives_124 (by decide) (fun c15 => ?_) (fun c15 => ?_)
          · have hw := hw.1 c15
            refine lv_iload hx hb dX2_gives_151 (lv_at hl 7 rfl) ?_
            refine lv_istore_n (lv' := [(3, .int x4), (9, .long v14), (7, .long v11), (5, .long v3), (0, .ref (a 22)), (1, .int p1), (2, .int p2), (4, .int x4)]) hx hb dX2_gives_153 rfl hl (by decide) rfl (fun ls hl => ?_)
            obtain ⟨v16, ev16⟩ : ∃ y : Int32, y = x4 + 1 := ⟨_, rfl⟩
            have hw := hw v16 ev16
            refine lv_iinc (v := v16) (lv' := [(4, .int v16), (3, .int x4), (9, .long v14), (7, .long v11), (5, .long v3), (0, .ref (a 22)), (1, .int p1), (2, .int p2)]) hx hb dX2_gives_154 hl (k := 7) rfl (by rw [ev16]; rfl) (by decide) rfl (fun ls hl => ?_)
            refine lv_goto (tgt := 5) hx hb dX2_gives_157 (by decide) ?_
            exact hK5 _ _ hw hS (lv_sub hl [5, 6, 7, 1, 0] rfl)
          · have hw := hw.2 c15
            refine lv_lload hx hb dX2_gives_127 (lv_at hl 1 rfl) ?_
            refine lv_lload hx hb dX2_gives_129 (lv_at hl 0 rfl) ?_
            refine lc_if_ne (tgt := 154) hx hb dX2_gives_131 dX2_gives_132 (by decide) (fun c17 => ?_) (fun c17 => ?_)
            · have hw := hw.2 c17
              obtain ⟨v18, ev18⟩ : ∃ y : Int32, y = x4 + 1 := ⟨_, rfl⟩
              have hw := hw v18 ev18
              refine lv_iinc (v := v18) (lv' := [(4, .int v18), (9, .long v14), (7, .long v11), (5, .long v3), (0, .ref (a 22)), (1, .int p1), (2, .int p2), (3, .int x3)]) hx hb dX2_gives_154 hl (k := 7) rfl (by rw [ev18]; rfl) (by decide) rfl (fun ls hl => ?_)
              refine lv_goto (tgt := 5) hx hb dX2_gives_157 (by decide) ?_
              exact hK5 _ _ hw hS (lv_sub hl [4, 5, 6, 7, 0] rfl)
            · have hw := hw.1 c17
              refine lv_aload_n hx hb dX2_gives_135 rfl (lv_at hl 3 rfl) ?_
              refine ld_q156 hC hS dX2_gives_136 ?_
              refine lv_iload hx hb dX2_gives_139 (lv_at hl 7 rfl) ?_
              refine al_BA hC hS hw.1 dX2_gives_141 ?_
              have hw := hw.2
              refine lv_aload_n hx hb dX2_gives_142 rfl (lv_at hl 3 rfl) ?_
              refine ld_q156 hC hS dX2_gives_143 ?_
              refine lv_iload_n hx hb dX2_gives_146 rfl (lv_at hl 6 rfl) ?_
              refine al_BA hC hS hw.1 dX2_gives_147 ?_
              have hw := hw.2
              refine lv_icmp_ge (tgt := 154) hx hb dX2_gives_148 (by decide) (fun c19 => ?_) (fun c19 => ?_)
              · have hw := hw.1 c19
                obtain ⟨v20, ev20⟩ : ∃ y : Int32, y = x4 + 1 := ⟨_, rfl⟩
                have hw := hw v20 ev20
                refine lv_iinc (v := v20) (lv' := [(4, .int v20), (9, .long v14), (7, .long v11), (5, .long v3), (0, .ref (a 22)), (1, .int p1), (2, .int p2), (3, .int x3)]) hx hb dX2_gives_154 hl (k := 7) rfl (by rw [ev20]; rfl) (by decide) rfl (fun ls hl => ?_)
                refine lv_goto (tgt := 5) hx hb dX2_gives_157 (by decide) ?_
                exact hK5 _ _ hw hS (lv_sub hl [4, 5, 6, 7, 0] rfl)
              · have hw := hw.2 c19
                refine lv_iload hx hb dX2_gives_151 (lv_at hl 7 rfl) ?_
                refine lv_istore_n (lv' := [(3, .int x4), (9, .long v14), (7, .long v11), (5, .long v3), (0, .ref (a 22)), (1, .int p1), (2, .int p2), (4, .int x4)]) hx hb dX2_gives_153 rfl hl (by decide) rfl (fun ls hl => ?_)
                obtain ⟨v21, ev21⟩ : ∃ y : Int32, y = x4 + 1 := ⟨_, rfl⟩
                have hw := hw v21 ev21
                refine lv_iinc (v := v21) (lv' := [(4, .int v21), (3, .int x4), (9, .long v14), (7, .long v11), (5, .long v3), (0, .ref (a 22)), (1, .int p1), (2, .int p2)]) hx hb dX2_gives_154 hl (k := 7) rfl (by rw [ev21]; rfl) (by decide) rfl (fun ls hl => ?_)
                refine lv_goto (tgt := 5) hx hb dX2_gives_157 (by decide) ?_
                exact hK5 _ _ hw hS (lv_sub hl [5, 6, 7, 1, 0] rfl)
        · have hw := hw.1 c7
          refine lv_iload hx hb dX2_gives_62 (lv_at hl 5 rfl) ?_
          refine lv_istore_n (lv' := [(3, .int x4), (5, .long v3), (0, .ref (a 22)), (1, .int p1), (2, .int p2), (4, .int x4)]) hx hb dX2_gives_64 rfl hl (by decide) rfl (fun ls hl => ?_)
          refine lv_goto (tgt := 154) hx hb dX2_gives_65 (by decide) ?_
          obtain ⟨v22, ev22⟩ : ∃ y : Int32, y = x4 + 1 := ⟨_, rfl⟩
          have hw := hw v22 ev22
          refine lv_iinc (v := v22) (lv' := [(4, .int v22), (3, .int x4), (5, .long v3), (0, .ref (a 22)), (1, .int p1), (2, .int p2)]) hx hb dX2_gives_154 hl (k := 5) rfl (by rw [ev22]; rfl) (by decide) rfl (fun ls hl => ?_)
          refine lv_goto (tgt := 5) hx hb dX2_gives_157 (by decide) ?_
          exact hK5 _ _ hw hS (lv_sub hl [3, 4, 5, 1, 0] rfl)
      · have hw := hw.2 c6
        refine lv_goto (tgt := 154) hx hb dX2_gives_54 (by decide) ?_
        obtain ⟨v23, ev23⟩ : ∃ y : Int32, y = x4 + 1 := ⟨_, rfl⟩
        have hw := hw v23 ev23
        refine lv_iinc (v := v23) (lv' := [(4, .int v23), (5, .long v3), (0, .ref (a 22)), (1, .int p1), (2, .int p2), (3, .int x3)]) hx hb dX2_gives_154 hl (k := 5) rfl (by rw [ev23]; rfl) (by decide) rfl (fun ls hl => ?_)
        refine lv_goto (tgt := 5) hx hb dX2_gives_157 (by decide) ?_
        exact hK5 _ _ hw hS (lv_sub hl [2, 3, 4, 5, 0] rfl)
set_option maxHeartbeats 4000000 in
set_option maxRecDepth 100000 in
theorem k_X2_gives_5 {p : Program} {l : Launch} {e : Env} {s : State} {m : MethodId} {args : Array Value} {below : List Frame} {meth : Method} {c : Code} {D : va_G} {dT : Nat → ClassId} {a : Nat → Nat} {A : Nat → Prop} {vs0 : XE} {X : XS} {p1 : Int32} {p2 : Int32} {post : Int32 → Prop} (hC : wCx RX2 cX2_gives 11 (some .int) D dT p s m args meth c) (hA : wAz A s) : ∀ (x3 : Int32) (x4 : Int32) (n : Nat), ∀ {H : Heap} {locs : List Loc} {ls : Array Slot}, StX D dT a A s vs0 X vs0 H locs → lv_has ls 11 [(0, .ref (a 22)), (1, .int p1), (2, .int p2), (3, .int x3), (4, .int x4)] → w_X2_gives_5 X p1 p2 post n x3 x4 → W p l e rmX2_gives s m args below meth c H locs 0 0 (MQ below (va_Qi (fun r u9 => u9 = (X, vs0) ∧ post r) (wB D (XW dT a) (XI vs0) A) A) args s 0 0 A) (F0 m 5 ls []) := by
  intro x3 x4 n
  induction n generalizing x3 x4 with
  | zero => intro H locs ls  hS hl hw; exact hw.elim
  | succ n ih =>
    intro H locs ls  hS hl hw
    exact k_X2_gives_5b hC hA (fun x3 x4 hk {H} {locs} {ls}  hS hl => ih x3 x4  hS hl hk) x3 x4  hS hl hw
set_option maxHeartbeats 4000000 in
set_option maxRecDepth 100000 in
theorem k_X2_gives_0 {p : Program} {l : Launch} {e : Env} {s : State} {m : MethodId} {args : Array Value} {below : List Frame} {meth : Method} {c : Code} {D : va_G} {dT : Nat → ClassId} {a : Nat → Nat} {A : Nat → Prop} {vs0 : XE} {X : XS} {p1 : Int32} {p2 : Int32} {post : Int32 → Prop} (hC : wCx RX2 cX2_gives 11 (some .int) D dT p s m args meth c) (hA : wAz A s) {H : Heap} {locs : List Loc} {ls : Array Slot} (hS : StX D dT a A s vs0 X vs0 H locs) (hl : lv_has ls 11 [(0, .ref (a 22)), (1, .int p1), (2, .int p2)])  (hw : w_X2_gives X p1 p2 post) : W p l e rmX2_gives s m args below meth c H locs 0 0 (MQ below (va_Qi (fun r u9 => u9 = (X, vs0) ∧ post r) (wB D (XW dT a) (XI vs0) A) A) args s 0 0 A) (F0 m 0 ls []) := by
  have hx := hC.1
  have hb := hC.2.1
  have hown := hC.2.2.2.1
  have hts := hC.2.2.2.2.1
  unfold w_X2_gives at hw
  refine lv_iconst (v := (-1)) hx hb dX2_gives_0 (by decide) ?_
  refine lv_istore_n (lv' := [(3, .int (-1)), (0, .ref (a 22)), (1, .int p1), (2, .int p2)]) hx hb dX2_gives_1 rfl hl (by decide) rfl (fun ls hl => ?_)
  refine lv_iconst (v := 0) hx hb dX2_gives_2 (by decide) ?_
  refine lv_istore (lv' := [(4, .int 0), (3, .int (-1)), (0, .ref (a 22)), (1, .int p1), (2, .int p2)]) hx hb dX2_gives_3 hl (by decide) rfl (fun ls hl => ?_)
  obtain ⟨n, hw⟩ := hw
  exact k_X2_gives_5 hC hA _ _ n hS (lv_sub hl [2, 3, 4, 1, 0] rfl) hw
abbrev v_X2_gives (X : XS) (p1 : Int32) (p2 : Int32) (post : Int32 → Prop) : Prop := w_X2_gives X p1 p2 post
set_option maxHeartbeats 4000000 in
set_option maxRecDepth 100000 in
theorem met_X2_gives (l : Launch) (D : va_G) (dT : Nat → ClassId) (a : Nat → Nat) (sz : Nat) (X : XS) (vs0 : XE) (p1 : Int32) (p2 : Int32) (post : Int32 → Prop) (hw : v_X2_gives X p1 p2 post) : Met l yX2_gives (ws_ yX2_gives cX2_gives 11 (some .int)) rmX2_gives (wPc D dT (XW dT a) (XI vs0) sz (X, vs0) [.ref (a 22), .int p1, .int p2]) (va_Qi (fun r u9 => u9 = (X, vs0) ∧ post r) (wB D (XW dT a) (XI vs0) (va_A ((XW dT a) (X, vs0)) sz)) (va_A ((XW dT a) (X, vs0)) sz)) 0 0 (va_A ((XW dT a) (X, vs0)) sz) :=
  wEnt (Q := fun A => (va_Qi (fun r u9 => u9 = (X, vs0) ∧ post r) (wB D (XW dT a) (XI vs0) A) A)) (by decide) (Nat.le_of_ble_eq_true rfl) (fun p e s m below meth c A ls hC _ hA hS hl => k_X2_gives_0 hC hA  hS hl hw) sz
theorem hd_X2_gives : yX2_gives.cls ≠ "java/lang/invoke/MethodHandle" ∧ yX2_gives.cls ≠ "java/lang/invoke/VarHandle" ∧ (parseMethodDescriptor yX2_gives.desc).map (fun d => d.parameters.length) = some 2 := by decide +kernel
section
variable {p : Program} {l : Launch} {e : Env} {R : Room} {s : State} {m : MethodId} {args : Array Value} {below : List Frame} {meth : Method} {c : Code} {H : Heap} {locs : List Loc} {cells slots : Nat} {Q : State → Prop} {cc : ByteArray} {nL : Nat} {ret : Option FieldType} {pc : Nat} {ls : Array Slot} {rest : List Value}
set_option maxHeartbeats 4000000 in
set_option maxRecDepth 100000 in
theorem inv_q494 {D : va_G} {dT : Nat → ClassId} {a : Nat → Nat} {A : Nat → Prop} {vs0 : XE} {vs : XE} {X : XS} {p1 : Int32} {p2 : Int32} {post : Int32 → Prop} (hC : wCx RX2 cc nL ret D dT p s m args meth c) (hA : wAz A s) (hS : StX D dT a A s vs0 X vs H locs) (hl : ls.size = nL) (hw : v_X2_gives X p1 p2 post) (hR : rmX2_gives.frames + 1 ≤ R.frames ∧ 8 + (11 + 11) + rmX2_gives.locals ≤ R.locals) (hrest : (rest.map fun v => v.category).sum ≤ 8) (hf : cells ≤ R.cells ∧ slots ≤ R.slots) (hdg : decode cc pc = .ok (.invokevirtual 103, 3)) (kk : ∀ (r : Int32) (H1 : Heap) (locs1 : List Loc), post r → StX D dT a A s vs0 X vs H1 locs1 → W p l e R s m args below meth c H1 locs1 cells slots Q (F0 m (pc + 3) ls (.int r :: rest))) : W p l e R s m args below meth c H locs cells slots Q (F0 m pc ls (.int p2 :: .int p1 :: .ref (a 22) :: rest)) := by
  exact wCallVi (As := [.int p1, .int p2]) (rest := rest) (mc := 0) (ms := 0) 22 hC (met_X2_gives l D dT a H.size X vs p1 p2 post hw) (lw_V q494 q496 qs20 q87 q497) ⟨⟨rfl, rfl⟩, hd_X2_gives, hR, hf⟩ XW_22 rfl rfl hA hS.self hl rfl hrest hdg (fun r u H1 locs1 hp hS1 => kk r H1 locs1 hp.2 (by have h9 := hS.back hS1; rw [hp.1] at h9; exact h9))
end
