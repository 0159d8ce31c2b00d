/-! LeastFramesModel.finds -/
def w_X4_finds_49 (K2 : MS → Int32 → Prop) (post : MS → Prop) (M : MS) (x1 : Int32) (y0 : Int32) (y1 : Int32) : Prop :=
  vp_in y1 1024 ∧ ((y0 &&& 1 = y0) ∧ (∀ M1 : MS, M1 = sM_bears M (upd (M_bears M) y1.toNatClampNeg y0) → (vp_in x1 1024 ∧ (((M_bears M1 x1.toNatClampNeg) = (0 : Int32) → (∀ v3 : Int32, v3 = x1 + 1 → (K2 M1 v3))) ∧ (¬ (M_bears M1 x1.toNatClampNeg) = (0 : Int32) → (v_X4_volumes M1 x1 (fun M4 => ∀ v5 : Int32, v5 = x1 + 1 → (K2 M4 v5))))))))
def w_X4_finds_70 (post : MS → Prop) (M : MS) : Prop :=
  ∀ M1 : MS, M1 = sM_isKnown M 1 → (post M1)
def w_X4_finds_2b (K2 : MS → Int32 → Prop) (post : MS → Prop) (M : MS) (x1 : Int32) : Prop :=
  v_X4_pairs M (fun r1 => ((1 <<< (r1 &&& 31)) ≤ x1 → (w_X4_finds_70 post M)) ∧ (¬ (1 <<< (r1 &&& 31)) ≤ x1 → (((M_isKnown M) = (0 : Int32) → (v_X4_faultOf M x1 (fun r4 M5 => (r4 = ((-1) : Int32) → (v_X4_size x1 (fun r7 => ((M_rank M5) = r7 → (w_X4_finds_49 K2 post M5 x1 1 x1)) ∧ (¬ (M_rank M5) = r7 → (w_X4_finds_49 K2 post M5 x1 0 x1))))) ∧ (¬ r4 = ((-1) : Int32) → (w_X4_finds_49 K2 post M5 x1 0 x1))))) ∧ (¬ (M_isKnown M) = (0 : Int32) → (w_X4_finds_70 post M)))))
def w_X4_finds_2 (post : MS → Prop) : Nat → MS → Int32 → Prop
  | 0, _, _ => False
  | n + 1, M, x1 => w_X4_finds_2b  (w_X4_finds_2 post n) post M x1
def w_X4_finds (post : MS → Prop) (M : MS) : Prop :=
  ∃ n, w_X4_finds_2 post n M 0
abbrev rmX4_finds : Room := { frames := 6, cells := 0, slots := 0, locals := 136 }
set_option maxHeartbeats 4000000 in
set_option maxRecDepth 100000 in
theorem k_X4_finds_49 {p : Program} {l : Launch} {e : Env} {s : State} {m : MethodId} {args : Array Value} {below : List Frame} {meth : Method} {c : Code} {D : va_G} {dT : Nat → ClassId} {a : Nat → Nat} {A : Nat → Prop}  {K2 : MS → Int32 → Prop} {post : MS → Prop} (hC : wCx RX4 cX4_finds 2 (none) D dT p s m args meth c) (hA : wAz A s) (hK2 : ∀ (M : MS) (x1 : Int32), K2 M x1 → ∀ {H : Heap} {locs : List Loc} {ls : Array Slot}, StM D dT a A s M H locs → lv_has ls 2 [(0, .ref (a 0)), (1, .int x1)] → W p l e rmX4_finds s m args below meth c H locs 0 0 (MQ below (va_Qv post (wB D (MW dT a) MI A) A) args s 0 0 A) (F0 m 2 ls [])) (M : MS) (x1 : Int32) (y0 : Int32) (y1 : Int32) {H : Heap} {locs : List Loc} {ls : Array Slot} (hS : StM D dT a A s M H locs) (hl : lv_has ls 2 [(0, .ref (a 0)), (1, .int x1)])  (hw : w_X4_finds_49 K2 post M x1 y0 y1) : W p l e rmX4_finds s m args below meth c H locs 0 0 (MQ below (va_Qv post (wB D (MW dT a) MI A) A) args s 0 0 A) (F0 m 49 ls [.int y0, .int y1, .ref (a 8)]) := by
  have hx := hC.1
  have hb := hC.2.1
  have hown := hC.2.2.2.1
  have hts := hC.2.2.2.2.1
  unfold w_X4_finds_49 at hw
  have hi := hw.1
  have hw := hw.2
  have hv := hw.1
  have hw := hw.2
  refine as_bears hC hS hv hi dX4_finds_49 (fun H locs hS => ?_)
  have hw := hw (sM_bears M (upd (M_bears M) y1.toNatClampNeg y0)) rfl
  generalize sM_bears M (upd (M_bears M) y1.toNatClampNeg y0) = M1 at hS hw
  refine lv_aload_n hx hb dX4_finds_50 rfl (lv_at hl 0 rfl) ?_
  refine ld_q945 hC hS dX4_finds_51 ?_
  refine lv_iload_n hx hb dX4_finds_54 rfl (lv_at hl 1 rfl) ?_
  refine al_bears hC hS hw.1 dX4_finds_55 ?_
  have hw := hw.2
  refine lv_if_eq (tgt := 64) hx hb dX4_finds_56 (by decide) (fun c2 => ?_) (fun c2 => ?_)
  · have hw := hw.1 c2
    obtain ⟨v3, ev3⟩ : ∃ y : Int32, y = x1 + 1 := ⟨_, rfl⟩
    have hw := hw v3 ev3
    refine lv_iinc (v := v3) (lv' := [(1, .int v3), (0, .ref (a 0))]) hx hb dX4_finds_64 hl (k := 1) rfl (by rw [ev3]; rfl) (by decide) rfl (fun ls hl => ?_)
    refine lv_goto (tgt := 2) hx hb dX4_finds_67 (by decide) ?_
    exact hK2 _ _ hw hS (lv_sub hl [1, 0] rfl)
  · have hw := hw.2 c2
    refine lv_aload_n hx hb dX4_finds_59 rfl (lv_at hl 0 rfl) ?_
    refine lv_iload_n hx hb dX4_finds_60 rfl (lv_at hl 1 rfl) ?_
    refine inv_q1132 hC hA hS hl.1 hw ⟨Nat.le_of_ble_eq_true rfl, Nat.le_of_ble_eq_true rfl⟩ (Nat.le_of_ble_eq_true rfl) ⟨Nat.zero_le _, Nat.zero_le _⟩ dX4_finds_61 (fun M4 H locs hw hS => ?_)
    obtain ⟨v5, ev5⟩ : ∃ y : Int32, y = x1 + 1 := ⟨_, rfl⟩
    have hw := hw v5 ev5
    refine lv_iinc (v := v5) (lv' := [(1, .int v5), (0, .ref (a 0))]) hx hb dX4_finds_64 hl (k := 1) rfl (by rw [ev5]; rfl) (by decide) rfl (fun ls hl => ?_)
    refine lv_goto (tgt := 2) hx hb dX4_finds_67 (by decide) ?_
    exact hK2 _ _ hw hS (lv_sub hl [1, 0] rfl)
set_option maxHeartbeats 4000000 in
set_option maxRecDepth 100000 in
theorem k_X4_finds_70 {p : Program} {l : Launch} {e : Env} {s : State} {m : MethodId} {args : Array Value} {below : List Frame} {meth : Method} {c : Code} {D : va_G} {dT : Nat → ClassId} {a : Nat → Nat} {A : Nat → Prop}  {post : MS → Prop} (hC : wCx RX4 cX4_finds 2 (none) D dT p s m args meth c) (hA : wAz A s) (M : MS) {H : Heap} {locs : List Loc} {ls : Array Slot} (hS : StM D dT a A s M H locs) (hl : lv_has ls 2 [(0, .ref (a 0))])  (hw : w_X4_finds_70 post M) : W p l e rmX4_finds s m args below meth c H locs 0 0 (MQ below (va_Qv post (wB D (MW dT a) MI A) A) args s 0 0 A) (F0 m 70 ls []) := by
  have hx := hC.1
  have hb := hC.2.1
  have hown := hC.2.2.2.1
  have hts := hC.2.2.2.2.1
  unfold w_X4_finds_70 at hw
  refine lv_aload_n hx hb dX4_finds_70 rfl (lv_at hl 0 rfl) ?_
  refine lv_iconst (v := 1) hx hb dX4_finds_71 (by decide) ?_
  refine st_q948 hC hS (by decide) dX4_finds_72 (fun H locs hS => ?_)
  have hw := hw (sM_isKnown M 1) rfl
  generalize sM_isKnown M 1 = M1 at hS hw
  exact wRetv hC hS hw (Nat.le_refl _) (Nat.le_refl _) dX4_finds_75
set_option maxHeartbeats 4000000 in
set_option maxRecDepth 100000 in
theorem k_X4_finds_2b {p : Program} {l : Launch} {e : Env} {s : State} {m : MethodId} {args : Array Value} {below : List Frame} {meth : Method} {c : Code} {D : va_G} {dT : Nat → ClassId} {a : Nat → Nat} {A : Nat → Prop}  {K2 : MS → Int32 → Prop} {post : MS → Prop} (hC : wCx RX4 cX4_finds 2 (none) D dT p s m args meth c) (hA : wAz A s) (hK2 : ∀ (M : MS) (x1 : Int32), K2 M x1 → ∀ {H : Heap} {locs : List Loc} {ls : Array Slot}, StM D dT a A s M H locs → lv_has ls 2 [(0, .ref (a 0)), (1, .int x1)] → W p l e rmX4_finds s m args below meth c H locs 0 0 (MQ below (va_Qv post (wB D (MW dT a) MI A) A) args s 0 0 A) (F0 m 2 ls [])) (M : MS) (x1 : Int32) {H : Heap} {locs : List Loc} {ls : Array Slot} (hS : StM D dT a A s M H locs) (hl : lv_has ls 2 [(0, .ref (a 0)), (1, .int x1)])  (hw : w_X4_finds_2b K2 post M x1) : W p l e rmX4_finds s m args below meth c H locs 0 0 (MQ below (va_Qv post (wB D (MW dT a) MI A) A) args s 0 0 A) (F0 m 2 ls []) := by
  have hx := hC.1
  have hb := hC.2.1
  have hown := hC.2.2.2.1
  have hts := hC.2.2.2.2.1
  unfold w_X4_finds_2b at hw
  refine lv_iload_n hx hb dX4_finds_2 rfl (lv_at hl 1 rfl) ?_
  refine lv_iconst (v := 1) hx hb dX4_finds_3 (by decide) ?_
  refine lv_aload_n hx hb dX4_finds_4 rfl (lv_at hl 0 rfl) ?_
  refine inv_q1014 hC hA hS hl.1 hw ⟨Nat.le_of_ble_eq_true rfl, Nat.le_of_ble_eq_true rfl⟩ (Nat.le_of_ble_eq_true rfl) ⟨Nat.zero_le _, Nat.zero_le _⟩ dX4_finds_5 (fun r1 H locs hw hS => ?_)
  refine lv_ishl hx hb dX4_finds_8 ?_
  refine lv_icmp_ge (tgt := 70) hx hb dX4_finds_9 (by decide) (fun c2 => ?_) (fun c2 => ?_)
  · have hw := hw.1 c2
    exact k_X4_finds_70 hC hA _ hS (lv_sub hl [0] rfl) hw
  · have hw := hw.2 c2
    refine lv_aload_n hx hb dX4_finds_12 rfl (lv_at hl 0 rfl) ?_
    refine ld_q948 hC hS dX4_finds_13 ?_
    refine lv_if_ne (tgt := 70) hx hb dX4_finds_16 (by decide) (fun c3 => ?_) (fun c3 => ?_)
    · have hw := hw.2 c3
      exact k_X4_finds_70 hC hA _ hS (lv_sub hl [0] rfl) hw
    · have hw := hw.1 c3
      refine lv_aload_n hx hb dX4_finds_19 rfl (lv_at hl 0 rfl) ?_
      refine ld_q945 hC hS dX4_finds_20 ?_
      refine lv_iload_n hx hb dX4_finds_23 rfl (lv_at hl 1 rfl) ?_
      refine lv_aload_n hx hb dX4_finds_24 rfl (lv_at hl 0 rfl) ?_
      refine lv_iload_n hx hb dX4_finds_25 rfl (lv_at hl 1 rfl) ?_
      refine inv_q1102 hC hA hS hl.1 hw ⟨Nat.le_of_ble_eq_true rfl, Nat.le_of_ble_eq_true rfl⟩ (Nat.le_of_ble_eq_true rfl) ⟨Nat.zero_le _, Nat.zero_le _⟩ dX4_finds_26 (fun r4 M5 H locs hw hS => ?_)
      refine lv_iconst (v := (-1)) hx hb dX4_finds_29 (by decide) ?_
      refine lv_icmp_ne (tgt := 48) hx hb dX4_finds_30 (by decide) (fun c6 => ?_) (fun c6 => ?_)
      · have hw := hw.2 c6
        refine lv_iconst (v := 0) hx hb dX4_finds_48 (by decide) ?_
        exact k_X4_finds_49 hC hA hK2 _ _ _ _ hS (lv_sub hl [0, 1] rfl) hw
      · have hw := hw.1 c6
        refine lv_aload_n hx hb dX4_finds_33 rfl (lv_at hl 0 rfl) ?_
        refine ld_q944 hC hS dX4_finds_34 ?_
        refine lv_iload_n hx hb dX4_finds_37 rfl (lv_at hl 1 rfl) ?_
        refine inv_q1129 hC hS hl.1 hw ⟨Nat.le_of_ble_eq_true rfl, Nat.le_of_ble_eq_true rfl⟩ (Nat.le_of_ble_eq_true rfl) ⟨Nat.zero_le _, Nat.zero_le _⟩ dX4_finds_38 (fun r7 H locs hw hS => ?_)
        refine lv_icmp_ne (tgt := 48) hx hb dX4_finds_41 (by decide) (fun c8 => ?_) (fun c8 => ?_)
        · have hw := hw.2 c8
          refine lv_iconst (v := 0) hx hb dX4_finds_48 (by decide) ?_
          exact k_X4_finds_49 hC hA hK2 _ _ _ _ hS (lv_sub hl [0, 1] rfl) hw
        · have hw := hw.1 c8
          refine lv_iconst (v := 1) hx hb dX4_finds_44 (by decide) ?_
          refine lv_goto (tgt := 49) hx hb dX4_finds_45 (by decide) ?_
          exact k_X4_finds_49 hC hA hK2 _ _ _ _ hS (lv_sub hl [0, 1] rfl) hw
set_option maxHeartbeats 4000000 in
set_option maxRecDepth 100000 in
theorem k_X4_finds_2 {p : Program} {l : Launch} {e : Env} {s : State} {m : MethodId} {args : Array Value} {below : List Frame} {meth : Method} {c : Code} {D : va_G} {dT : Nat → ClassId} {a : Nat → Nat} {A : Nat → Prop}  {post : MS → Prop} (hC : wCx RX4 cX4_finds 2 (none) D dT p s m args meth c) (hA : wAz A s) : ∀ (M : MS) (x1 : Int32) (n : Nat), ∀ {H : Heap} {locs : List Loc} {ls : Array Slot}, StM D dT a A s M H locs → lv_has ls 2 [(0, .ref (a 0)), (1, .int x1)] → w_X4_finds_2 post n M x1 → W p l e rmX4_finds s m args below meth c H locs 0 0 (MQ below (va_Qv post (wB D (MW dT a) MI A) A) args s 0 0 A) (F0 m 2 ls []) := by
  intro M x1 n
  induction n generalizing M x1 with
  | zero => intro H locs ls  hS hl hw; exact hw.elim
  | succ n ih =>
    intro H locs ls  hS hl hw
    exact k_X4_finds_2b hC hA (fun M x1 hk {H} {locs} {ls}  hS hl => ih M x1  hS hl hk) M x1  hS hl hw
set_option maxHeartbeats 4000000 in
set_option maxRecDepth 100000 in
theorem k_X4_finds_0 {p : Program} {l : Launch} {e : Env} {s : State} {m : MethodId} {args : Array Value} {below : List Frame} {meth : Method} {c : Code} {D : va_G} {dT : Nat → ClassId} {a : Nat → Nat} {A : Nat → Prop}  {post : MS → Prop} (hC : wCx RX4 cX4_finds 2 (none) D dT p s m args meth c) (hA : wAz A s) (M : MS) {H : Heap} {locs : List Loc} {ls : Array Slot} (hS : StM D dT a A s M H locs) (hl : lv_has ls 2 [(0, .ref (a 0))])  (hw : w_X4_finds post M) : W p l e rmX4_finds s m args below meth c H locs 0 0 (MQ below (va_Qv post (wB D (MW dT a) MI A) A) args s 0 0 A) (F0 m 0 ls []) := by
  have hx := hC.1
  have hb := hC.2.1
  have hown := hC.2.2.2.1
  have hts := hC.2.2.2.2.1
  unfold w_X4_finds at hw
  refine lv_iconst (v := 0) hx hb dX4_finds_0 (by decide) ?_
  refine lv_istore_n (lv' := [(1, .int 0), (0, .ref (a 0))]) hx hb dX4_finds_1 rfl hl (by decide) rfl (fun ls hl => ?_)
  obtain ⟨n, hw⟩ := hw
  exact k_X4_finds_2 hC hA _ _ n hS (lv_sub hl [1, 0] rfl) hw
abbrev v_X4_finds (M : MS) (post : MS → Prop) : Prop := w_X4_finds post M
set_option maxHeartbeats 4000000 in
set_option maxRecDepth 100000 in
theorem met_X4_finds (l : Launch) (D : va_G) (dT : Nat → ClassId) (a : Nat → Nat) (sz : Nat) (M : MS) (post : MS → Prop) (hw : v_X4_finds M post) : Met l yX4_finds (ws_ yX4_finds cX4_finds 2 (none)) rmX4_finds (wPc D dT (MW dT a) MI sz M [.ref (a 0)]) (va_Qv post (wB D (MW dT a) MI (va_A ((MW dT a) M) sz)) (va_A ((MW dT a) M) sz)) 0 0 (va_A ((MW dT a) M) sz) :=
  wEnt (Q := fun A => (va_Qv post (wB D (MW dT a) MI A) A)) (by decide) (Nat.le_of_ble_eq_true rfl) (fun p e s m below meth c A ls hC _ hA hS hl => k_X4_finds_0 hC hA _ hS hl hw) sz
theorem hd_X4_finds : yX4_finds.cls ≠ "java/lang/invoke/MethodHandle" ∧ yX4_finds.cls ≠ "java/lang/invoke/VarHandle" ∧ (parseMethodDescriptor yX4_finds.desc).map (fun d => d.parameters.length) = some 0 := by decide +kernel
section
variable {p : Program} {l : Launch} {e : Env} {R : Room} {s : State} {m : MethodId} {args : Array Value} {below : List Frame} {meth : Method} {c : Code} {H : Heap} {locs : List Loc} {cells slots : Nat} {Q : State → Prop} {cc : ByteArray} {nL : Nat} {ret : Option FieldType} {pc : Nat} {ls : Array Slot} {rest : List Value}
set_option maxHeartbeats 4000000 in
set_option maxRecDepth 100000 in
theorem inv_q1098 {D : va_G} {dT : Nat → ClassId} {a : Nat → Nat} {A : Nat → Prop} {M : MS} {post : MS → Prop} (hC : wCx RX4 cc nL ret D dT p s m args meth c) (hA : wAz A s) (hS : StM D dT a A s M H locs) (hl : ls.size = nL) (hw : v_X4_finds M post) (hR : rmX4_finds.frames + 1 ≤ R.frames ∧ 8 + (2 + 11) + rmX4_finds.locals ≤ R.locals) (hrest : (rest.map fun v => v.category).sum ≤ 8) (hf : cells ≤ R.cells ∧ slots ≤ R.slots) (hdg : decode cc pc = .ok (.invokevirtual 151, 3)) (kk : ∀ (u : MS) (H1 : Heap) (locs1 : List Loc), post u → StM D dT a A s u H1 locs1 → W p l e R s m args below meth c H1 locs1 cells slots Q (F0 m (pc + 3) ls rest)) : W p l e R s m args below meth c H locs cells slots Q (F0 m pc ls (.ref (a 0) :: rest)) := by
  exact wCallVv (As := []) (rest := rest) (mc := 0) (ms := 0) 0 hC (met_X4_finds l D dT a H.size M post hw) (lw_V q1098 q1100 qs56 q89 q1101) ⟨⟨rfl, rfl⟩, hd_X4_finds, hR, hf⟩ rfl rfl rfl hA hS hl rfl hrest hdg (fun  u H1 locs1 hp hS1 => kk  u H1 locs1 hp hS1)
end
/-! LeastFramesModel.isLess -/
def w_X4_isLess (M : MS) (p1 : Int32) (p2 : Int32) (post : Int32 → Prop) : Prop :=
  vp_in p1 1024 ∧ (vp_in p2 1024 ∧ (vp_in p2 1024 ∧ (vp_in p1 1024 ∧ ((((M_aboves M p2.toNatClampNeg) * (M_belows M p1.toNatClampNeg)) ≤ ((M_aboves M p1.toNatClampNeg) * (M_belows M p2.toNatClampNeg)) → (post (0 : Int32))) ∧ (¬ ((M_aboves M p2.toNatClampNeg) * (M_belows M p1.toNatClampNeg)) ≤ ((M_aboves M p1.toNatClampNeg) * (M_belows M p2.toNatClampNeg)) → (post (1 : Int32)))))))
abbrev rmX4_isLess : Room := { frames := 0, cells := 0, slots := 0, locals := 0 }
set_option maxHeartbeats 4000000 in
set_option maxRecDepth 100000 in
theorem k_X4_isLess_0 {p : Program} {l : Launch} {e : Env} {s : State} {m : MethodId} {args : Array Value} {below : List Frame} {meth : Method} {c : Code} {D : va_G} {dT : Nat → ClassId} {a : Nat → Nat} {A : Nat → Prop}  {M : MS} {p1 : Int32} {p2 : Int32} {post : Int32 → Prop} (hC : wCx RX4 cX4_isLess 3 (some .boolean) D dT p s m args meth c) (hA : wAz A s) {H : Heap} {locs : List Loc} {ls : Array Slot} (hS : StM D dT a A s M H locs) (hl : lv_has ls 3 [(0, .ref (a 0)), (1, .int p1), (2, .int p2)])  (hw : w_X4_isLess M p1 p2 post) : W p l e rmX4_isLess s m args below meth c H locs 0 0 (MQ below (va_Qi (fun r M9 => M9 = M ∧ post r) (wB D (MW dT a) MI A) A) args s 0 0 A) (F0 m 0 ls []) := by
  have hx := hC.1
  have hb := hC.2.1
  have hown := hC.2.2.2.1
  have hts := hC.2.2.2.2.1
  unfold w_X4_isLess at hw
  refine lv_aload_n hx hb dX4_isLess_0 rfl (lv_at hl 0 rfl) ?_
  refine ld_q946 hC hS dX4_isLess_1 ?_
  refine lv_iload_n hx hb dX4_isLess_4 rfl (lv_at hl 1 rfl) ?_
  refine al_aboves hC hS hw.1 dX4_isLess_5 ?_
  have hw := hw.2
  refine lv_aload_n hx hb dX4_isLess_6 rfl (lv_at hl 0 rfl) ?_
  refine ld_q947 hC hS dX4_isLess_7 ?_
  refine lv_iload_n hx hb dX4_isLess_10 rfl (lv_at hl 2 rfl) ?_
  refine al_belows hC hS hw.1 dX4_isLess_11 ?_
  have hw := hw.2
  refine lv_lmul hx hb dX4_isLess_12 ?_
  refine lv_aload_n hx hb dX4_isLess_13 rfl (lv_at hl 0 rfl) ?_
  refine ld_q946 hC hS dX4_isLess_14 ?_
  refine lv_iload_n hx hb dX4_isLess_17 rfl (lv_at hl 2 rfl) ?_
  refine al_aboves hC hS hw.1 dX4_isLess_18 ?_
  have hw := hw.2
  refine lv_aload_n hx hb dX4_isLess_19 rfl (lv_at hl 0 rfl) ?_
  refine ld_q947 hC hS dX4_isLess_20 ?_
  refine lv_iload_n hx hb dX4_isLess_23 rfl (lv_at hl 1 rfl) ?_
  refine al_belows hC hS hw.1 dX4_isLess_24 ?_
  have hw := hw.2
  refine lv_lmul hx hb dX4_isLess_25 ?_
  refine lc_if_ge (tgt := 34) hx hb dX4_isLess_26 dX4_isLess_27 (by decide) (fun c1 => ?_) (fun c1 => ?_)
  · have hw := hw.1 c1
    refine lv_iconst (v := 0) hx hb dX4_isLess_34 (by decide) ?_
    exact wRetz hC hS (by decide) ⟨rfl, hw⟩ (Nat.le_refl _) (Nat.le_refl _) dX4_isLess_35
  · have hw := hw.2 c1
    refine lv_iconst (v := 1) hx hb dX4_isLess_30 (by decide) ?_
    refine lv_goto (tgt := 35) hx hb dX4_isLess_31 (by decide) ?_
    exact wRetz hC hS (by decide) ⟨rfl, hw⟩ (Nat.le_refl _) (Nat.le_refl _) dX4_isLess_35
abbrev v_X4_isLess (M : MS) (p1 : Int32) (p2 : Int32) (post : Int32 → Prop) : Prop := w_X4_isLess M p1 p2 post
set_option maxHeartbeats 4000000 in
set_option maxRecDepth 100000 in
theorem met_X4_isLess (l : Launch) (D : va_G) (dT : Nat → ClassId) (a : Nat → Nat) (sz : Nat) (M : MS) (p1 : Int32) (p2 : Int32) (post : Int32 → Prop) (hw : v_X4_isLess M p1 p2 post) : Met l yX4_isLess (ws_ yX4_isLess cX4_isLess 3 (some .boolean)) rmX4_isLess (wPc D dT (MW dT a) MI sz M [.ref (a 0), .int p1, .int p2]) (va_Qi (fun r M9 => M9 = M ∧ post r) (wB D (MW dT a) MI (va_A ((MW dT a) M) sz)) (va_A ((MW dT a) M) sz)) 0 0 (va_A ((MW dT a) M) sz) :=
  wEnt (Q := fun A => (va_Qi (fun r M9 => M9 = M ∧ post r) (wB D (MW dT a) MI A) A)) (by decide) (Nat.le_of_ble_eq_true rfl) (fun p e s m below meth c A ls hC _ hA hS hl => k_X4_isLess_0 hC hA  hS hl hw) sz
theorem hd_X4_isLess : yX4_isLess.cls ≠ "java/lang/invoke/MethodHandle" ∧ yX4_isLess.cls ≠ "java/lang/invoke/VarHandle" ∧ (parseMethodDescriptor yX4_isLess.desc).map (fun d => d.parameters.length) = some 2 := by decide +kernel
section
variable {p : Program} {l : Launch} {e : Env} {R : Room} {s : State} {m : MethodId} {args : Array Value} {below : List Frame} {meth : Method} {c : Code} {H : Heap} {locs : List Loc} {cells slots : Nat} {Q : State → Prop} {cc : ByteArray} {nL : Nat} {ret : Option FieldType} {pc : Nat} {ls : Array Slot} {rest : List Value}
set_option maxHeartbeats 4000000 in
set_option maxRecDepth 100000 in
theorem inv_q1139 {D : va_G} {dT : Nat → ClassId} {a : Nat → Nat} {A : Nat → Prop} {M : MS} {p1 : Int32} {p2 : Int32} {post : Int32 → Prop} (hC : wCx RX4 cc nL ret D dT p s m args meth c) (hA : wAz A s) (hS : StM D dT a A s M H locs) (hl : ls.size = nL) (hw : v_X4_isLess M p1 p2 post) (hR : rmX4_isLess.frames + 1 ≤ R.frames ∧ 8 + (3 + 11) + rmX4_isLess.locals ≤ R.locals) (hrest : (rest.map fun v => v.category).sum ≤ 8) (hf : cells ≤ R.cells ∧ slots ≤ R.slots) (hdg : decode cc pc = .ok (.invokevirtual 154, 3)) (kk : ∀ (r : Int32) (H1 : Heap) (locs1 : List Loc), post r → StM D dT a A s M H1 locs1 → W p l e R s m args below meth c H1 locs1 cells slots Q (F0 m (pc + 3) ls (.int r :: rest))) : W p l e R s m args below meth c H locs cells slots Q (F0 m pc ls (.int p2 :: .int p1 :: .ref (a 0) :: rest)) := by
  exact wCallVi (As := [.int p1, .int p2]) (rest := rest) (mc := 0) (ms := 0) 0 hC (met_X4_isLess l D dT a H.size M p1 p2 post hw) (lw_V q1139 q1141 qs64 q89 q1142) ⟨⟨rfl, rfl⟩, hd_X4_isLess, hR, hf⟩ rfl rfl rfl hA hS hl rfl hrest hdg (fun r u H1 locs1 hp hS1 => kk r H1 locs1 hp.2 (hp.1 ▸ hS1))
end
/-! LeastFramesModel.bestOf -/
def w_X4_bestOf_66 (p1 : Int32) (K8 : MS → Int32 → Int32 → Prop) (post : Int32 → MS → Prop) (M : MS) (x3 : Int32) (y0 : Int32) : Prop :=
  ∀ v1 : Int32, v1 = x3 + 1 → (K8 M y0 v1)
def w_X4_bestOf_61 (p1 : Int32) (K8 : MS → Int32 → Int32 → Prop) (post : Int32 → MS → Prop) (M : MS) (x3 : Int32) : Prop :=
  w_X4_bestOf_66 p1 K8 post M x3 x3
def w_X4_bestOf_40 (p1 : Int32) (K8 : MS → Int32 → Int32 → Prop) (post : Int32 → MS → Prop) (M : MS) (x2 : Int32) (x3 : Int32) (y0 : Int32) : Prop :=
  (y0 = (0 : Int32) → (w_X4_bestOf_66 p1 K8 post M x3 x2)) ∧ (¬ y0 = (0 : Int32) → ((x2 = ((-1) : Int32) → (w_X4_bestOf_61 p1 K8 post M x3)) ∧ (¬ x2 = ((-1) : Int32) → (v_X4_isLess M x3 x2 (fun r3 => (r3 = (0 : Int32) → (w_X4_bestOf_66 p1 K8 post M x3 x2)) ∧ (¬ r3 = (0 : Int32) → (w_X4_bestOf_61 p1 K8 post M x3)))))))
def w_X4_bestOf_8b (p1 : Int32) (K8 : MS → Int32 → Int32 → Prop) (post : Int32 → MS → Prop) (M : MS) (x2 : Int32) (x3 : Int32) : Prop :=
  v_X4_pairs M (fun r1 => ((1 <<< (r1 &&& 31)) ≤ x3 → (post x2 M)) ∧ (¬ (1 <<< (r1 &&& 31)) ≤ x3 → (((x3 &&& (p1 ^^^ (-1))) = (0 : Int32) → (vp_in x3 1024 ∧ (((M_bears M x3.toNatClampNeg) = (0 : Int32) → (w_X4_bestOf_40 p1 K8 post M x2 x3 0)) ∧ (¬ (M_bears M x3.toNatClampNeg) = (0 : Int32) → (w_X4_bestOf_40 p1 K8 post M x2 x3 1))))) ∧ (¬ (x3 &&& (p1 ^^^ (-1))) = (0 : Int32) → (w_X4_bestOf_40 p1 K8 post M x2 x3 0)))))
def w_X4_bestOf_8 (p1 : Int32) (post : Int32 → MS → Prop) : Nat → MS → Int32 → Int32 → Prop
  | 0, _, _, _ => False
  | n + 1, M, x2, x3 => w_X4_bestOf_8b p1 (w_X4_bestOf_8 p1 post n) post M x2 x3
def w_X4_bestOf (p1 : Int32) (post : Int32 → MS → Prop) (M : MS) : Prop :=
  v_X4_finds M (fun M1 => ∃ n, w_X4_bestOf_8 p1 post n M1 (-1) 0)
abbrev rmX4_bestOf : Room := { frames := 7, cells := 0, slots := 0, locals := 157 }
set_option maxHeartbeats 4000000 in
set_option maxRecDepth 100000 in
theorem k_X4_bestOf_66 {p : Program} {l : Launch} {e : Env} {s : State} {m : MethodId} {args : Array Value} {below : List Frame} {meth : Method} {c : Code} {D : va_G} {dT : Nat → ClassId} {a : Nat → Nat} {A : Nat → Prop}  {p1 : Int32} {K8 : MS → Int32 → Int32 → Prop} {post : Int32 → MS → Prop} (hC : wCx RX4 cX4_bestOf 5 (some .int) D dT p s m args meth c) (hA : wAz A s) (hK8 : ∀ (M : MS) (x2 : Int32) (x3 : Int32), K8 M x2 x3 → ∀ {H : Heap} {locs : List Loc} {ls : Array Slot}, StM D dT a A s M H locs → lv_has ls 5 [(0, .ref (a 0)), (1, .int p1), (2, .int x2), (3, .int x3)] → W p l e rmX4_bestOf s m args below meth c H locs 0 0 (MQ below (va_Qi post (wB D (MW dT a) MI A) A) args s 0 0 A) (F0 m 8 ls [])) (M : MS) (x3 : Int32) (y0 : Int32) {H : Heap} {locs : List Loc} {ls : Array Slot} (hS : StM D dT a A s M H locs) (hl : lv_has ls 5 [(0, .ref (a 0)), (1, .int p1), (3, .int x3)])  (hw : w_X4_bestOf_66 p1 K8 post M x3 y0) : W p l e rmX4_bestOf s m args below meth c H locs 0 0 (MQ below (va_Qi post (wB D (MW dT a) MI A) A) args s 0 0 A) (F0 m 66 ls [.int y0]) := by
  have hx := hC.1
  have hb := hC.2.1
  have hown := hC.2.2.2.1
  have hts := hC.2.2.2.2.1
  unfold w_X4_bestOf_66 at hw
  refine lv_istore_n (lv' := [(2, .int y0), (0, .ref (a 0)), (1, .int p1), (3, .int x3)]) hx hb dX4_bestOf_66 rfl hl (by decide) rfl (fun ls hl => ?_)
  obtain ⟨v1, ev1⟩ : ∃ y : Int32, y = x3 + 1 := ⟨_, rfl⟩
  have hw := hw v1 ev1
  refine lv_iinc (v := v1) (lv' := [(3, .int v1), (2, .int y0), (0, .ref (a 0)), (1, .int p1)]) hx hb dX4_bestOf_67 hl (k := 3) rfl (by rw [ev1]; rfl) (by decide) rfl (fun ls hl => ?_)
  refine lv_goto (tgt := 8) hx hb dX4_bestOf_70 (by decide) ?_
  exact hK8 _ _ _ hw hS (lv_sub hl [2, 3, 1, 0] rfl)
set_option maxHeartbeats 4000000 in
set_option maxRecDepth 100000 in
theorem k_X4_bestOf_61 {p : Program} {l : Launch} {e : Env} {s : State} {m : MethodId} {args : Array Value} {below : List Frame} {meth : Method} {c : Code} {D : va_G} {dT : Nat → ClassId} {a : Nat → Nat} {A : Nat → Prop}  {p1 : Int32} {K8 : MS → Int32 → Int32 → Prop} {post : Int32 → MS → Prop} (hC : wCx RX4 cX4_bestOf 5 (some .int) D dT p s m args meth c) (hA : wAz A s) (hK8 : ∀ (M : MS) (x2 : Int32) (x3 : Int32), K8 M x2 x3 → ∀ {H : Heap} {locs : List Loc} {ls : Array Slot}, StM D dT a A s M H locs → lv_has ls 5 [(0, .ref (a 0)), (1, .int p1), (2, .int x2), (3, .int x3)] → W p l e rmX4_bestOf s m args below meth c H locs 0 0 (MQ below (va_Qi post (wB D (MW dT a) MI A) A) args s 0 0 A) (F0 m 8 ls [])) (M : MS) (x3 : Int32) {H : Heap} {locs : List Loc} {ls : Array Slot} (hS : StM D dT a A s M H locs) (hl : lv_has ls 5 [(0, .ref (a 0)), (1, .int p1), (3, .int x3)])  (hw : w_X4_bestOf_61 p1 K8 post M x3) : W p l e rmX4_bestOf s m args below meth c H locs 0 0 (MQ below (va_Qi post (wB D (MW dT a) MI A) A) args s 0 0 A) (F0 m 61 ls []) := by
  have hx := hC.1
  have hb := hC.2.1
  have hown := hC.2.2.2.1
  have hts := hC.2.2.2.2.1
  unfold w_X4_bestOf_61 at hw
  refine lv_iload_n hx hb dX4_bestOf_61 rfl (lv_at hl 2 rfl) ?_
  refine lv_goto (tgt := 66) hx hb dX4_bestOf_62 (by decide) ?_
  exact k_X4_bestOf_66 hC hA hK8 _ _ _ hS (lv_sub hl [0, 1, 2] rfl) hw
set_option maxHeartbeats 4000000 in
set_option maxRecDepth 100000 in
theorem k_X4_bestOf_40 {p : Program} {l : Launch} {e : Env} {s : State} {m : MethodId} {args : Array Value} {below : List Frame} {meth : Method} {c : Code} {D : va_G} {dT : Nat → ClassId} {a : Nat → Nat} {A : Nat → Prop}  {p1 : Int32} {K8 : MS → Int32 → Int32 → Prop} {post : Int32 → MS → Prop} (hC : wCx RX4 cX4_bestOf 5 (some .int) D dT p s m args meth c) (hA : wAz A s) (hK8 : ∀ (M : MS) (x2 : Int32) (x3 : Int32), K8 M x2 x3 → ∀ {H : Heap} {locs : List Loc} {ls : Array Slot}, StM D dT a A s M H locs → lv_has ls 5 [(0, .ref (a 0)), (1, .int p1), (2, .int x2), (3, .int x3)] → W p l e rmX4_bestOf s m args below meth c H locs 0 0 (MQ below (va_Qi post (wB D (MW dT a) MI A) A) args s 0 0 A) (F0 m 8 ls [])) (M : MS) (x2 : Int32) (x3 : Int32) (y0 : Int32) {H : Heap} {locs : List Loc} {ls : Array Slot} (hS : StM D dT a A s M H locs) (hl : lv_has ls 5 [(0, .ref (a 0)), (1, .int p1), (2, .int x2), (3, .int x3)])  (hw : w_X4_bestOf_40 p1 K8 post M x2 x3 y0) : W p l e rmX4_bestOf s m args below meth c H locs 0 0 (MQ below (va_Qi post (wB D (MW dT a) MI A) A) args s 0 0 A) (F0 m 40 ls [.int y0]) := by
  have hx := hC.1
  have hb := hC.2.1
  have hown := hC.2.2.2.1
  have hts := hC.2.2.2.2.1
  unfold w_X4_bestOf_40 at hw
  refine lv_istore (lv' := [(4, .int y0), (0, .ref (a 0)), (1, .int p1), (2, .int x2), (3, .int x3)]) hx hb dX4_bestOf_40 hl (by decide) rfl (fun ls hl => ?_)
  refine lv_iload hx hb dX4_bestOf_42 (lv_at hl 0 rfl) ?_
  refine lv_if_eq (tgt := 65) hx hb dX4_bestOf_44 (by decide) (fun c1 => ?_) (fun c1 => ?_)
  · have hw := hw.1 c1
    refine lv_iload_n hx hb dX4_bestOf_65 rfl (lv_at hl 3 rfl) ?_
    exact k_X4_bestOf_66 hC hA hK8 _ _ _ hS (lv_sub hl [1, 2, 4] rfl) hw
  · have hw := hw.2 c1
    refine lv_iload_n hx hb dX4_bestOf_47 rfl (lv_at hl 3 rfl) ?_
    refine lv_iconst (v := (-1)) hx hb dX4_bestOf_48 (by decide) ?_
    refine lv_icmp_eq (tgt := 61) hx hb dX4_bestOf_49 (by decide) (fun c2 => ?_) (fun c2 => ?_)
    · have hw := hw.1 c2
      exact k_X4_bestOf_61 hC hA hK8 _ _ hS (lv_sub hl [1, 2, 4] rfl) hw
    · have hw := hw.2 c2
      refine lv_aload_n hx hb dX4_bestOf_52 rfl (lv_at hl 1 rfl) ?_
      refine lv_iload_n hx hb dX4_bestOf_53 rfl (lv_at hl 4 rfl) ?_
      refine lv_iload_n hx hb dX4_bestOf_54 rfl (lv_at hl 3 rfl) ?_
      refine inv_q1139 hC hA hS hl.1 hw ⟨Nat.le_of_ble_eq_true rfl, Nat.le_of_ble_eq_true rfl⟩ (Nat.le_of_ble_eq_true rfl) ⟨Nat.zero_le _, Nat.zero_le _⟩ dX4_bestOf_55 (fun r3 H locs hw hS => ?_)
      refine lv_if_eq (tgt := 65) hx hb dX4_bestOf_58 (by decide) (fun c4 => ?_) (fun c4 => ?_)
      · have hw := hw.1 c4
        refine lv_iload_n hx hb dX4_bestOf_65 rfl (lv_at hl 3 rfl) ?_
        exact k_X4_bestOf_66 hC hA hK8 _ _ _ hS (lv_sub hl [1, 2, 4] rfl) hw
      · have hw := hw.2 c4
        exact k_X4_bestOf_61 hC hA hK8 _ _ hS (lv_sub hl [1, 2, 4] rfl) hw
set_option maxHeartbeats 4000000 in
set_option maxRecDepth 100000 in
theorem k_X4_bestOf_8b {p : Program} {l : Launch} {e : Env} {s : State} {m : MethodId} {args : Array Value} {below : List Frame} {meth : Method} {c : Code} {D : va_G} {dT : Nat → ClassId} {a : Nat → Nat} {A : Nat → Prop}  {p1 : Int32} {K8 : MS → Int32 → Int32 → Prop} {post : Int32 → MS → Prop} (hC : wCx RX4 cX4_bestOf 5 (some .int) D dT p s m args meth c) (hA : wAz A s) (hK8 : ∀ (M : MS) (x2 : Int32) (x3 : Int32), K8 M x2 x3 → ∀ {H : Heap} {locs : List Loc} {ls : Array Slot}, StM D dT a A s M H locs → lv_has ls 5 [(0, .ref (a 0)), (1, .int p1), (2, .int x2), (3, .int x3)] → W p l e rmX4_bestOf s m args below meth c H locs 0 0 (MQ below (va_Qi post (wB D (MW dT a) MI A) A) args s 0 0 A) (F0 m 8 ls [])) (M : MS) (x2 : Int32) (x3 : Int32) {H : Heap} {locs : List Loc} {ls : Array Slot} (hS : StM D dT a A s M H locs) (hl : lv_has ls 5 [(0, .ref (a 0)), (1, .int p1), (2, .int x2), (3, .int x3)])  (hw : w_X4_bestOf_8b p1 K8 post M x2 x3) : W p l e rmX4_bestOf s m args below meth c H locs 0 0 (MQ below (va_Qi post (wB D (MW dT a) MI A) A) args s 0 0 A) (F0 m 8 ls []) := by
  have hx := hC.1
  have hb := hC.2.1
  have hown := hC.2.2.2.1
  have hts := hC.2.2.2.2.1
  unfold w_X4_bestOf_8b at hw
  refine lv_iload_n hx hb dX4_bestOf_8 rfl (lv_at hl 3 rfl) ?_
  refine lv_iconst (v := 1) hx hb dX4_bestOf_9 (by decide) ?_
  refine lv_aload_n hx hb dX4_bestOf_10 rfl (lv_at hl 0 rfl) ?_
  refine inv_q1014 hC hA hS hl.1 hw ⟨Nat.le_of_ble_eq_true rfl, Nat.le_of_ble_eq_true rfl⟩ (Nat.le_of_ble_eq_true rfl) ⟨Nat.zero_le _, Nat.zero_le _⟩ dX4_bestOf_11 (fun r1 H locs hw hS => ?_)
  refine lv_ishl hx hb dX4_bestOf_14 ?_
  refine lv_icmp_ge (tgt := 73) hx hb dX4_bestOf_15 (by decide) (fun c2 => ?_) (fun c2 => ?_)
  · have hw := hw.1 c2
    refine lv_iload_n hx hb dX4_bestOf_73 rfl (lv_at hl 2 rfl) ?_
    exact wReti hC hS hw (Nat.le_refl _) (Nat.le_refl _) dX4_bestOf_74
  · have hw := hw.2 c2
    refine lv_iload_n hx hb dX4_bestOf_18 rfl (lv_at hl 3 rfl) ?_
    refine lv_iload_n hx hb dX4_bestOf_19 rfl (lv_at hl 1 rfl) ?_
    refine lv_iconst (v := (-1)) hx hb dX4_bestOf_20 (by decide) ?_
    refine lv_ixor hx hb dX4_bestOf_21 ?_
    refine lv_iand hx hb dX4_bestOf_22 ?_
    refine lv_if_ne (tgt := 39) hx hb dX4_bestOf_23 (by decide) (fun c3 => ?_) (fun c3 => ?_)
    · have hw := hw.2 c3
      refine lv_iconst (v := 0) hx hb dX4_bestOf_39 (by decide) ?_
      exact k_X4_bestOf_40 hC hA hK8 _ _ _ _ hS (lv_sub hl [0, 1, 2, 3] rfl) hw
    · have hw := hw.1 c3
      refine lv_aload_n hx hb dX4_bestOf_26 rfl (lv_at hl 0 rfl) ?_
      refine ld_q945 hC hS dX4_bestOf_27 ?_
      refine lv_iload_n hx hb dX4_bestOf_30 rfl (lv_at hl 3 rfl) ?_
      refine al_bears hC hS hw.1 dX4_bestOf_31 ?_
      have hw := hw.2
      refine lv_if_eq (tgt := 39) hx hb dX4_bestOf_32 (by decide) (fun c4 => ?_) (fun c4 => ?_)
      · have hw := hw.1 c4
        refine lv_iconst (v := 0) hx hb dX4_bestOf_39 (by decide) ?_
        exact k_X4_bestOf_40 hC hA hK8 _ _ _ _ hS (lv_sub hl [0, 1, 2, 3] rfl) hw
      · have hw := hw.2 c4
        refine lv_iconst (v := 1) hx hb dX4_bestOf_35 (by decide) ?_
        refine lv_goto (tgt := 40) hx hb dX4_bestOf_36 (by decide) ?_
        exact k_X4_bestOf_40 hC hA hK8 _ _ _ _ hS (lv_sub hl [0, 1, 2, 3] rfl) hw
set_option maxHeartbeats 4000000 in
set_option maxRecDepth 100000 in
theorem k_X4_bestOf_8 {p : Program} {l : Launch} {e : Env} {s : State} {m : MethodId} {args : Array Value} {below : List Frame} {meth : Method} {c : Code} {D : va_G} {dT : Nat → ClassId} {a : Nat → Nat} {A : Nat → Prop}  {p1 : Int32} {post : Int32 → MS → Prop} (hC : wCx RX4 cX4_bestOf 5 (some .int) D dT p s m args meth c) (hA : wAz A s) : ∀ (M : MS) (x2 : Int32) (x3 : Int32) (n : Nat), ∀ {H : Heap} {locs : List Loc} {ls : Array Slot}, StM D dT a A s M H locs → lv_has ls 5 [(0, .ref (a 0)), (1, .int p1), (2, .int x2), (3, .int x3)] → w_X4_bestOf_8 p1 post n M x2 x3 → W p l e rmX4_bestOf s m args below meth c H locs 0 0 (MQ below (va_Qi post (wB D (MW dT a) MI A) A) args s 0 0 A) (F0 m 8 ls []) := by
  intro M x2 x3 n
  induction n generalizing M x2 x3 with
  | zero => intro H locs ls  hS hl hw; exact hw.elim
  | succ n ih =>
    intro H locs ls  hS hl hw
    exact k_X4_bestOf_8b hC hA (fun M x2 x3 hk {H} {locs} {ls}  hS hl => ih M x2 x3  hS hl hk) M x2 x3  hS hl hw
set_option maxHeartbeats 4000000 in
set_option maxRecDepth 100000 in
theorem k_X4_bestOf_0 {p : Program} {l : Launch} {e : Env} {s : State} {m : MethodId} {args : Array Value} {below : List Frame} {meth : Method} {c : Code} {D : va_G} {dT : Nat → ClassId} {a : Nat → Nat} {A : Nat → Prop}  {p1 : Int32} {post : Int32 → MS → Prop} (hC : wCx RX4 cX4_bestOf 5 (some .int) D dT p s m args meth c) (hA : wAz A s) (M : MS) {H : Heap} {locs : List Loc} {ls : Array Slot} (hS : StM D dT a A s M H locs) (hl : lv_has ls 5 [(0, .ref (a 0)), (1, .int p1)])  (hw : w_X4_bestOf p1 post M) : W p l e rmX4_bestOf s m args below meth c H locs 0 0 (MQ below (va_Qi post (wB D (MW dT a) MI A) A) args s 0 0 A) (F0 m 0 ls []) := by
  have hx := hC.1
  have hb := hC.2.1
  have hown := hC.2.2.2.1
  have hts := hC.2.2.2.2.1
  unfold w_X4_bestOf at hw
  refine lv_aload_n hx hb dX4_bestOf_0 rfl (lv_at hl 0 rfl) ?_
  refine inv_q1098 hC hA hS hl.1 hw ⟨Nat.le_of_ble_eq_true rfl, Nat.le_of_ble_eq_true rfl⟩ (Nat.le_of_ble_eq_true rfl) ⟨Nat.zero_le _, Nat.zero_le _⟩ dX4_bestOf_1 (fun M1 H locs hw hS => ?_)
  refine lv_iconst (v := (-1)) hx hb dX4_bestOf_4 (by decide) ?_
  refine lv_istore_n (lv' := [(2, .int (-1)), (0, .ref (a 0)), (1, .int p1)]) hx hb dX4_bestOf_5 rfl hl (by decide) rfl (fun ls hl => ?_)
  refine lv_iconst (v := 0) hx hb dX4_bestOf_6 (by decide) ?_
  refine lv_istore_n (lv' := [(3, .int 0), (2, .int (-1)), (0, .ref (a 0)), (1, .int p1)]) hx hb dX4_bestOf_7 rfl hl (by decide) rfl (fun ls hl => ?_)
  obtain ⟨n, hw⟩ := hw
  exact k_X4_bestOf_8 hC hA _ _ _ n hS (lv_sub hl [2, 3, 1, 0] rfl) hw
abbrev v_X4_bestOf (M : MS) (p1 : Int32) (post : Int32 → MS → Prop) : Prop := w_X4_bestOf p1 post M
set_option maxHeartbeats 4000000 in
set_option maxRecDepth 100000 in
theorem met_X4_bestOf (l : Launch) (D : va_G) (dT : Nat → ClassId) (a : Nat → Nat) (sz : Nat) (M : MS) (p1 : Int32) (post : Int32 → MS → Prop) (hw : v_X4_bestOf M p1 post) : Met l yX4_bestOf (ws_ yX4_bestOf cX4_bestOf 5 (some .int)) rmX4_bestOf (wPc D dT (MW dT a) MI sz M [.ref (a 0), .int p1]) (va_Qi post (wB D (MW dT a) MI (va_A ((MW dT a) M) sz)) (va_A ((MW dT a) M) sz)) 0 0 (va_A ((MW dT a) M) sz) :=
  wEnt (Q := fun A => (va_Qi post (wB D (MW dT a) MI A) A)) (by decide) (Nat.le_of_ble_eq_true rfl) (fun p e s m below meth c A ls hC _ hA hS hl => k_X4_bestOf_0 hC hA _ hS hl hw) sz
theorem hd_X4_bestOf : yX4_bestOf.cls ≠ "java/lang/invoke/MethodHandle" ∧ yX4_bestOf.cls ≠ "java/lang/invoke/VarHandle" ∧ (parseMethodDescriptor yX4_bestOf.desc).map (fun d => d.parameters.length) = some 1 := by decide +kernel
section
variable {p : Program} {l : Launch} {e : Env} {R : Room} {s : State} {m : MethodId} {args : Array Value} {below : List Frame} {meth : Method} {c : Code} {H : Heap} {locs : List Loc} {cells slots : Nat} {Q : State → Prop} {cc : ByteArray} {nL : Nat} {ret : Option FieldType} {pc : Nat} {ls : Array Slot} {rest : List Value}
set_option maxHeartbeats 4000000 in
set_option maxRecDepth 100000 in
theorem inv_q1094 {D : va_G} {dT : Nat → ClassId} {a : Nat → Nat} {A : Nat → Prop} {M : MS} {p1 : Int32} {post : Int32 → MS → Prop} (hC : wCx RX4 cc nL ret D dT p s m args meth c) (hA : wAz A s) (hS : StM D dT a A s M H locs) (hl : ls.size = nL) (hw : v_X4_bestOf M p1 post) (hR : rmX4_bestOf.frames + 1 ≤ R.frames ∧ 8 + (5 + 11) + rmX4_bestOf.locals ≤ R.locals) (hrest : (rest.map fun v => v.category).sum ≤ 8) (hf : cells ≤ R.cells ∧ slots ≤ R.slots) (hdg : decode cc pc = .ok (.invokevirtual 157, 3)) (kk : ∀ (r : Int32) (u : MS) (H1 : Heap) (locs1 : List Loc), post r u → StM D dT a A s u H1 locs1 → W p l e R s m args below meth c H1 locs1 cells slots Q (F0 m (pc + 3) ls (.int r :: rest))) : W p l e R s m args below meth c H locs cells slots Q (F0 m pc ls (.int p1 :: .ref (a 0) :: rest)) := by
  exact wCallVi (As := [.int p1]) (rest := rest) (mc := 0) (ms := 0) 0 hC (met_X4_bestOf l D dT a H.size M p1 post hw) (lw_V q1094 q1096 qs55 q89 q1097) ⟨⟨rfl, rfl⟩, hd_X4_bestOf, hR, hf⟩ rfl rfl rfl hA hS hl rfl hrest hdg (fun r u H1 locs1 hp hS1 => kk r u H1 locs1 hp hS1)
end
/-! LeastFramesModel.no -/
def w_X4_no (p0 : Int32) (post : Int64 → Prop) : Prop :=
  post ((-9223372036854775808) - p0.toInt64)
abbrev rmX4_no : Room := { frames := 0, cells := 0, slots := 0, locals := 0 }
set_option maxHeartbeats 4000000 in
set_option maxRecDepth 100000 in
theorem k_X4_no_0 {p : Program} {l : Launch} {e : Env} {s : State} {m : MethodId} {args : Array Value} {below : List Frame} {meth : Method} {c : Code}  {p0 : Int32} {post : Int64 → Prop} (hC : sCx RX4 cX4_no 1 (some .long) p s m args meth c) {H : Heap} {locs : List Loc} {ls : Array Slot} (hS : va_S (fun _ => False) s.heap H locs) (hl : lv_has ls 1 [(0, .int p0)])  (hw : w_X4_no p0 post) : W p l e rmX4_no s m args below meth c H locs 0 0 (MQ below (va_Ql (fun r (_ : Unit) => post r) (fun _ _ => True) (fun _ => False)) args s 0 0 (fun _ => False)) (F0 m 0 ls []) := by
  have hx := hC.1
  have hb := hC.2.1
  have hown := hC.2.2.2.1
  have hts := hC.2.2.2.2.1
  unfold w_X4_no at hw
  refine lv_ldc2 (v := (-9223372036854775808)) hx hb hown (hts _ q1146) dX4_no_0 ?_
  refine lv_iload_n hx hb dX4_no_3 rfl (lv_at hl 0 rfl) ?_
  refine lv_i2l hx hb dX4_no_4 rfl ?_
  refine lv_lsub hx hb dX4_no_5 ?_
  exact sRetl hC hS hw dX4_no_6
abbrev v_X4_no (p0 : Int32) (post : Int64 → Prop) : Prop := w_X4_no p0 post
set_option maxHeartbeats 4000000 in
set_option maxRecDepth 100000 in
theorem met_X4_no (l : Launch) (p0 : Int32) (post : Int64 → Prop) (hw : v_X4_no p0 post) : Met l yX4_no (ws_ yX4_no cX4_no 1 (some .long)) rmX4_no (va_Pc [.int p0] (fun _ => True)) (va_Ql (fun r (_ : Unit) => post r) (fun _ _ => True) (fun _ => False)) 0 0 (fun _ => False) :=
  sEnt (by decide) (Nat.le_of_ble_eq_true rfl) (fun p e s m below meth c ls hC hS hl => k_X4_no_0 hC  hS hl hw)
theorem hd_X4_no : yX4_no.cls ≠ "java/lang/invoke/MethodHandle" ∧ yX4_no.cls ≠ "java/lang/invoke/VarHandle" ∧ (parseMethodDescriptor yX4_no.desc).map (fun d => d.parameters.length) = some 1 := by decide +kernel
section
variable {p : Program} {l : Launch} {e : Env} {R : Room} {s : State} {m : MethodId} {args : Array Value} {below : List Frame} {meth : Method} {c : Code} {H : Heap} {locs : List Loc} {cells slots : Nat} {Q : State → Prop} {cc : ByteArray} {nL : Nat} {ret : Option FieldType} {pc : Nat} {ls : Array Slot} {rest : List Value}
set_option maxHeartbeats 4000000 in
set_option maxRecDepth 100000 in
theorem inv_q1143 {σ : Type} {D : va_G} {dT : Nat → ClassId} {Wd : σ → va_W} {I : σ → Prop} {A : Nat → Prop} {x : σ} {p0 : Int32} {post : Int64 → Prop} (hC : wCx RX4 cc nL ret D dT p s m args meth c) (hS : wSt D Wd I A s x H locs) (hl : ls.size = nL) (hw : v_X4_no p0 post) (hR : rmX4_no.frames + 1 ≤ R.frames ∧ 8 + (1 + 11) + rmX4_no.locals ≤ R.locals) (hrest : (rest.map fun v => v.category).sum ≤ 8) (hf : cells ≤ R.cells ∧ slots ≤ R.slots) (hdg : decode cc pc = .ok (.invokestatic 160, 3)) (kk : ∀ (r : Int64) (H1 : Heap) (locs1 : List Loc), post r → wSt D Wd I A s x H1 locs1 → W p l e R s m args below meth c H1 locs1 cells slots Q (F0 m (pc + 3) ls (.long r :: rest))) : W p l e R s m args below meth c H locs cells slots Q (F0 m pc ls (.int p0 :: rest)) :=
  wCallSl (As := [.int p0]) (rest := rest) hC (met_X4_no l p0 post hw) (lw_S q1143 q1144 q89 q1145) ⟨⟨rfl, rfl⟩, hd_X4_no, hR, hf⟩ hS hl rfl hrest hdg kk
set_option maxHeartbeats 4000000 in
set_option maxRecDepth 100000 in
theorem invs_q1143 {p0 : Int32} {post : Int64 → Prop} (hC : sCx RX4 cc nL ret p s m args meth c) (hS : va_S (fun _ => False) s.heap H locs) (hl : ls.size = nL) (hw : v_X4_no p0 post) (hR : rmX4_no.frames + 1 ≤ R.frames ∧ 8 + (1 + 11) + rmX4_no.locals ≤ R.locals) (hrest : (rest.map fun v => v.category).sum ≤ 8) (hf : cells ≤ R.cells ∧ slots ≤ R.slots) (hdg : decode cc pc = .ok (.invokestatic 160, 3)) (kk : ∀ (r : Int64) (H1 : Heap) (locs1 : List Loc), post r → va_S (fun _ => False) s.heap H1 locs1 → W p l e R s m args below meth c H1 locs1 cells slots Q (F0 m (pc + 3) ls (.long r :: rest))) : W p l e R s m args below meth c H locs cells slots Q (F0 m pc ls (.int p0 :: rest)) :=
  sCallSl (As := [.int p0]) (rest := rest) hC (met_X4_no l p0 post hw) (lw_S q1143 q1144 q89 q1145) ⟨⟨rfl, rfl⟩, hd_X4_no, hR, hf⟩ hS hl rfl hrest hdg kk
end
/-! LeastFramesModel.volumeOf -/
def w_X4_volumeOf (p1 : Int32) (p2 : Int32) (post : Int64 → MS → Prop) (M : MS) : Prop :=
  v_X4_bestOf M p1 (fun r1 M2 => (r1 = ((-1) : Int32) → (v_X4_no ((-3) : Int32) (fun r5 => post r5 M2))) ∧ (¬ r1 = ((-1) : Int32) → ((p2 = (0 : Int32) → (vp_in r1 1024 ∧ (post (M_aboves M2 r1.toNatClampNeg) M2))) ∧ (¬ p2 = (0 : Int32) → (vp_in r1 1024 ∧ (post (M_belows M2 r1.toNatClampNeg) M2))))))
abbrev rmX4_volumeOf : Room := { frames := 8, cells := 0, slots := 0, locals := 181 }
set_option maxHeartbeats 4000000 in
set_option maxRecDepth 100000 in
theorem k_X4_volumeOf_0 {p : Program} {l : Launch} {e : Env} {s : State} {m : MethodId} {args : Array Value} {below : List Frame} {meth : Method} {c : Code} {D : va_G} {dT : Nat → ClassId} {a : Nat → Nat} {A : Nat → Prop}  {p1 : Int32} {p2 : Int32} {post : Int64 → MS → Prop} (hC : wCx RX4 cX4_volumeOf 4 (some .long) D dT p s m args meth c) (hA : wAz A s) (M : MS) {H : Heap} {locs : List Loc} {ls : Array Slot} (hS : StM D dT a A s M H locs) (hl : lv_has ls 4 [(0, .ref (a 0)), (1, .int p1), (2, .int p2)])  (hw : w_X4_volumeOf p1 p2 post M) : W p l e rmX4_volumeOf s m args below meth c H locs 0 0 (MQ below (va_Ql post (wB D (MW dT a) MI A) A) args s 0 0 A) (F0 m 0 ls []) := by
  have hx := hC.1
  have hb := hC.2.1
  have hown := hC.2.2.2.1
  have hts := hC.2.2.2.2.1
  unfold w_X4_volumeOf at hw
  refine lv_aload_n hx hb dX4_volumeOf_0 rfl (lv_at hl 0 rfl) ?_
  refine lv_iload_n hx hb dX4_volumeOf_1 rfl (lv_at hl 1 rfl) ?_
  refine inv_q1094 hC hA hS hl.1 hw ⟨Nat.le_of_ble_eq_true rfl, Nat.le_of_ble_eq_true rfl⟩ (Nat.le_of_ble_eq_true rfl) ⟨Nat.zero_le _, Nat.zero_le _⟩ dX4_volumeOf_2 (fun r1 M2 H locs hw hS => ?_)
  refine lv_istore_n (lv' := [(3, .int r1), (0, .ref (a 0)), (1, .int p1), (2, .int p2)]) hx hb dX4_volumeOf_5 rfl hl (by decide) rfl (fun ls hl => ?_)
  refine lv_iload_n hx hb dX4_volumeOf_6 rfl (lv_at hl 0 rfl) ?_
  refine lv_iconst (v := (-1)) hx hb dX4_volumeOf_7 (by decide) ?_
  refine lv_icmp_ne (tgt := 19) hx hb dX4_volumeOf_8 (by decide) (fun c3 => ?_) (fun c3 => ?_)
  · have hw := hw.2 c3
    refine lv_iload_n hx hb dX4_volumeOf_19 rfl (lv_at hl 3 rfl) ?_
    refine lv_if_ne (tgt := 32) hx hb dX4_volumeOf_20 (by decide) (fun c4 => ?_) (fun c4 => ?_)
    · have hw := hw.2 c4
      refine lv_aload_n hx hb dX4_volumeOf_32 rfl (lv_at hl 1 rfl) ?_
      refine ld_q947 hC hS dX4_volumeOf_33 ?_
      refine lv_iload_n hx hb dX4_volumeOf_36 rfl (lv_at hl 0 rfl) ?_
      refine al_belows hC hS hw.1 dX4_volumeOf_37 ?_
      have hw := hw.2
      exact wRetl hC hS hw (Nat.le_refl _) (Nat.le_refl _) dX4_volumeOf_38
    · have hw := hw.1 c4
      refine lv_aload_n hx hb dX4_volumeOf_23 rfl (lv_at hl 1 rfl) ?_
      refine ld_q946 hC hS dX4_volumeOf_24 ?_
      refine lv_iload_n hx hb dX4_volumeOf_27 rfl (lv_at hl 0 rfl) ?_
      refine al_aboves hC hS hw.1 dX4_volumeOf_28 ?_
      have hw := hw.2
      refine lv_goto (tgt := 38) hx hb dX4_volumeOf_29 (by decide) ?_
      exact wRetl hC hS hw (Nat.le_refl _) (Nat.le_refl _) dX4_volumeOf_38
  · have hw := hw.1 c3
    refine lv_bipush (v := (-3)) hx hb dX4_volumeOf_11 (by decide) ?_
    refine inv_q1143 hC hS hl.1 hw ⟨Nat.le_of_ble_eq_true rfl, Nat.le_of_ble_eq_true rfl⟩ (Nat.le_of_ble_eq_true rfl) ⟨Nat.zero_le _, Nat.zero_le _⟩ dX4_volumeOf_13 (fun r5 H locs hw hS => ?_)
    refine lv_goto (tgt := 38) hx hb dX4_volumeOf_16 (by decide) ?_
    exact wRetl hC hS hw (Nat.le_refl _) (Nat.le_refl _) dX4_volumeOf_38
abbrev v_X4_volumeOf (M : MS) (p1 : Int32) (p2 : Int32) (post : Int64 → MS → Prop) : Prop := w_X4_volumeOf p1 p2 post M
set_option maxHeartbeats 4000000 in
set_option maxRecDepth 100000 in
theorem met_X4_volumeOf (l : Launch) (D : va_G) (dT : Nat → ClassId) (a : Nat → Nat) (sz : Nat) (M : MS) (p1 : Int32) (p2 : Int32) (post : Int64 → MS → Prop) (hw : v_X4_volumeOf M p1 p2 post) : Met l yX4_volumeOf (ws_ yX4_volumeOf cX4_volumeOf 4 (some .long)) rmX4_volumeOf (wPc D dT (MW dT a) MI sz M [.ref (a 0), .int p1, .int p2]) (va_Ql post (wB D (MW dT a) MI (va_A ((MW dT a) M) sz)) (va_A ((MW dT a) M) sz)) 0 0 (va_A ((MW dT a) M) sz) :=
  wEnt (Q := fun A => (va_Ql post (wB D (MW dT a) MI A) A)) (by decide) (Nat.le_of_ble_eq_true rfl) (fun p e s m below meth c A ls hC _ hA hS hl => k_X4_volumeOf_0 hC hA _ hS hl hw) sz
theorem hd_X4_volumeOf : yX4_volumeOf.cls ≠ "java/lang/invoke/MethodHandle" ∧ yX4_volumeOf.cls ≠ "java/lang/invoke/VarHandle" ∧ (parseMethodDescriptor yX4_volumeOf.desc).map (fun d => d.parameters.length) = some 2 := by decide +kernel
section
variable {p : Program} {l : Launch} {e : Env} {R : Room} {s : State} {m : MethodId} {args : Array Value} {below : List Frame} {meth : Method} {c : Code} {H : Heap} {locs : List Loc} {cells slots : Nat} {Q : State → Prop} {cc : ByteArray} {nL : Nat} {ret : Option FieldType} {pc : Nat} {ls : Array Slot} {rest : List Value}
set_option maxHeartbeats 4000000 in
set_option maxRecDepth 100000 in
theorem inv_q1090 {D : va_G} {dT : Nat → ClassId} {a : Nat → Nat} {A : Nat → Prop} {M : MS} {p1 : Int32} {p2 : Int32} {post : Int64 → MS → Prop} (hC : wCx RX4 cc nL ret D dT p s m args meth c) (hA : wAz A s) (hS : StM D dT a A s M H locs) (hl : ls.size = nL) (hw : v_X4_volumeOf M p1 p2 post) (hR : rmX4_volumeOf.frames + 1 ≤ R.frames ∧ 8 + (4 + 11) + rmX4_volumeOf.locals ≤ R.locals) (hrest : (rest.map fun v => v.category).sum ≤ 8) (hf : cells ≤ R.cells ∧ slots ≤ R.slots) (hdg : decode cc pc = .ok (.invokevirtual 164, 3)) (kk : ∀ (r : Int64) (u : MS) (H1 : Heap) (locs1 : List Loc), post r u → StM D dT a A s u H1 locs1 → W p l e R s m args below meth c H1 locs1 cells slots Q (F0 m (pc + 3) ls (.long r :: rest))) : W p l e R s m args below meth c H locs cells slots Q (F0 m pc ls (.int p2 :: .int p1 :: .ref (a 0) :: rest)) := by
  exact wCallVl (As := [.int p1, .int p2]) (rest := rest) (mc := 0) (ms := 0) 0 hC (met_X4_volumeOf l D dT a H.size M p1 p2 post hw) (lw_V q1090 q1092 qs54 q89 q1093) ⟨⟨rfl, rfl⟩, hd_X4_volumeOf, hR, hf⟩ rfl rfl rfl hA hS hl rfl hrest hdg (fun r u H1 locs1 hp hS1 => kk r u H1 locs1 hp hS1)
end
/-! LeastFramesModel.least -/
def w_X4_least (p1 : Int32) (post : Int64 → MS → Prop) (M : MS) : Prop :=
  v_X4_in p1 (0 : Int32) (1 : Int32) (fun r1 => (r1 = (0 : Int32) → (v_X4_no ((-2) : Int32) (fun r3 => post r3 M))) ∧ (¬ r1 = (0 : Int32) → (v_X4_volumeOf M (M_bars M) p1 (fun r4 M5 => post r4 M5))))
abbrev rmX4_least : Room := { frames := 9, cells := 0, slots := 0, locals := 204 }
set_option maxHeartbeats 4000000 in
set_option maxRecDepth 100000 in
theorem k_X4_least_0 {p : Program} {l : Launch} {e : Env} {s : State} {m : MethodId} {args : Array Value} {below : List Frame} {meth : Method} {c : Code} {D : va_G} {dT : Nat → ClassId} {a : Nat → Nat} {A : Nat → Prop}  {p1 : Int32} {post : Int64 → MS → Prop} (hC : wCx RX4 cX4_least 2 (some .long) D dT p s m args meth c) (hA : wAz A s) (M : MS) {H : Heap} {locs : List Loc} {ls : Array Slot} (hS : StM D dT a A s M H locs) (hl : lv_has ls 2 [(0, .ref (a 0)), (1, .int p1)])  (hw : w_X4_least p1 post M) : W p l e rmX4_least s m args below meth c H locs 0 0 (MQ below (va_Ql post (wB D (MW dT a) MI A) A) args s 0 0 A) (F0 m 0 ls []) := by
  have hx := hC.1
  have hb := hC.2.1
  have hown := hC.2.2.2.1
  have hts := hC.2.2.2.2.1
  unfold w_X4_least at hw
  refine lv_iload_n hx hb dX4_least_0 rfl (lv_at hl 1 rfl) ?_
  refine lv_iconst (v := 0) hx hb dX4_least_1 (by decide) ?_
  refine lv_iconst (v := 1) hx hb dX4_least_2 (by decide) ?_
  refine inv_q1007 hC hS hl.1 hw ⟨Nat.le_of_ble_eq_true rfl, Nat.le_of_ble_eq_true rfl⟩ (Nat.le_of_ble_eq_true rfl) ⟨Nat.zero_le _, Nat.zero_le _⟩ dX4_least_3 (fun r1 H locs hw hS => ?_)
  refine lv_if_eq (tgt := 21) hx hb dX4_least_6 (by decide) (fun c2 => ?_) (fun c2 => ?_)
  · have hw := hw.1 c2
    refine lv_bipush (v := (-2)) hx hb dX4_least_21 (by decide) ?_
    refine inv_q1143 hC hS hl.1 hw ⟨Nat.le_of_ble_eq_true rfl, Nat.le_of_ble_eq_true rfl⟩ (Nat.le_of_ble_eq_true rfl) ⟨Nat.zero_le _, Nat.zero_le _⟩ dX4_least_23 (fun r3 H locs hw hS => ?_)
    exact wRetl hC hS hw (Nat.le_refl _) (Nat.le_refl _) dX4_least_26
  · have hw := hw.2 c2
    refine lv_aload_n hx hb dX4_least_9 rfl (lv_at hl 0 rfl) ?_
    refine lv_aload_n hx hb dX4_least_10 rfl (lv_at hl 0 rfl) ?_
    refine ld_q941 hC hS dX4_least_11 ?_
    refine lv_iload_n hx hb dX4_least_14 rfl (lv_at hl 1 rfl) ?_
    refine inv_q1090 hC hA hS hl.1 hw ⟨Nat.le_of_ble_eq_true rfl, Nat.le_of_ble_eq_true rfl⟩ (Nat.le_of_ble_eq_true rfl) ⟨Nat.zero_le _, Nat.zero_le _⟩ dX4_least_15 (fun r4 M5 H locs hw hS => ?_)
    refine lv_goto (tgt := 26) hx hb dX4_least_18 (by decide) ?_
    exact wRetl hC hS hw (Nat.le_refl _) (Nat.le_refl _) dX4_least_26
abbrev v_X4_least (M : MS) (p1 : Int32) (post : Int64 → MS → Prop) : Prop := w_X4_least p1 post M
set_option maxHeartbeats 4000000 in
set_option maxRecDepth 100000 in
theorem met_X4_least (l : Launch) (D : va_G) (dT : Nat → ClassId) (a : Nat → Nat) (sz : Nat) (M : MS) (p1 : Int32) (post : Int64 → MS → Prop) (hw : v_X4_least M p1 post) : Met l yX4_least (ws_ yX4_least cX4_least 2 (some .long)) rmX4_least (wPc D dT (MW dT a) MI sz M [.ref (a 0), .int p1]) (va_Ql post (wB D (MW dT a) MI (va_A ((MW dT a) M) sz)) (va_A ((MW dT a) M) sz)) 0 0 (va_A ((MW dT a) M) sz) :=
  wEnt (Q := fun A => (va_Ql post (wB D (MW dT a) MI A) A)) (by decide) (Nat.le_of_ble_eq_true rfl) (fun p e s m below meth c A ls hC _ hA hS hl => k_X4_least_0 hC hA _ hS hl hw) sz
theorem hd_X4_least : yX4_least.cls ≠ "java/lang/invoke/MethodHandle" ∧ yX4_least.cls ≠ "java/lang/invoke/VarHandle" ∧ (parseMethodDescriptor yX4_least.desc).map (fun d => d.parameters.length) = some 1 := by decide +kernel
/-! LeastFramesModel.fault -/
def w_X4_fault (post : Int32 → MS → Prop) (M : MS) : Prop :=
  v_X4_faultOf M (M_bars M) (fun r1 M2 => post r1 M2)
abbrev rmX4_fault : Room := { frames := 6, cells := 0, slots := 0, locals := 136 }
set_option maxHeartbeats 4000000 in
set_option maxRecDepth 100000 in
theorem k_X4_fault_0 {p : Program} {l : Launch} {e : Env} {s : State} {m : MethodId} {args : Array Value} {below : List Frame} {meth : Method} {c : Code} {D : va_G} {dT : Nat → ClassId} {a : Nat → Nat} {A : Nat → Prop}  {post : Int32 → MS → Prop} (hC : wCx RX4 cX4_fault 1 (some .int) D dT p s m args meth c) (hA : wAz A s) (M : MS) {H : Heap} {locs : List Loc} {ls : Array Slot} (hS : StM D dT a A s M H locs) (hl : lv_has ls 1 [(0, .ref (a 0))])  (hw : w_X4_fault post M) : W p l e rmX4_fault s m args below meth c H locs 0 0 (MQ below (va_Qi post (wB D (MW dT a) MI A) A) args s 0 0 A) (F0 m 0 ls []) := by
  have hx := hC.1
  have hb := hC.2.1
  have hown := hC.2.2.2.1
  have hts := hC.2.2.2.2.1
  unfold w_X4_fault at hw
  refine lv_aload_n hx hb dX4_fault_0 rfl (lv_at hl 0 rfl) ?_
  refine lv_aload_n hx hb dX4_fault_1 rfl (lv_at hl 0 rfl) ?_
  refine ld_q941 hC hS dX4_fault_2 ?_
  refine inv_q1102 hC hA hS hl.1 hw ⟨Nat.le_of_ble_eq_true rfl, Nat.le_of_ble_eq_true rfl⟩ (Nat.le_of_ble_eq_true rfl) ⟨Nat.zero_le _, Nat.zero_le _⟩ dX4_fault_5 (fun r1 M2 H locs hw hS => ?_)
  exact wReti hC hS hw (Nat.le_refl _) (Nat.le_refl _) dX4_fault_8
abbrev v_X4_fault (M : MS) (post : Int32 → MS → Prop) : Prop := w_X4_fault post M
set_option maxHeartbeats 4000000 in
set_option maxRecDepth 100000 in
theorem met_X4_fault (l : Launch) (D : va_G) (dT : Nat → ClassId) (a : Nat → Nat) (sz : Nat) (M : MS) (post : Int32 → MS → Prop) (hw : v_X4_fault M post) : Met l yX4_fault (ws_ yX4_fault cX4_fault 1 (some .int)) rmX4_fault (wPc D dT (MW dT a) MI sz M [.ref (a 0)]) (va_Qi post (wB D (MW dT a) MI (va_A ((MW dT a) M) sz)) (va_A ((MW dT a) M) sz)) 0 0 (va_A ((MW dT a) M) sz) :=
  wEnt (Q := fun A => (va_Qi post (wB D (MW dT a) MI A) A)) (by decide) (Nat.le_of_ble_eq_true rfl) (fun p e s m below meth c A ls hC _ hA hS hl => k_X4_fault_0 hC hA _ hS hl hw) sz
theorem hd_X4_fault : yX4_fault.cls ≠ "java/lang/invoke/MethodHandle" ∧ yX4_fault.cls ≠ "java/lang/invoke/VarHandle" ∧ (parseMethodDescriptor yX4_fault.desc).map (fun d => d.parameters.length) = some 0 := by decide +kernel
section
variable {p : Program} {l : Launch} {e : Env} {R : Room} {s : State} {m : MethodId} {args : Array Value} {below : List Frame} {meth : Method} {c : Code} {H : Heap} {locs : List Loc} {cells slots : Nat} {Q : State → Prop} {cc : ByteArray} {nL : Nat} {ret : Option FieldType} {pc : Nat} {ls : Array Slot} {rest : List Value}
set_option maxHeartbeats 4000000 in
set_option maxRecDepth 100000 in
theorem inv_q1321 {D : va_G} {dT : Nat → ClassId} {a : Nat → Nat} {A : Nat → Prop} {M : MS} {post : Int32 → MS → Prop} (hC : wCx RX4 cc nL ret D dT p s m args meth c) (hA : wAz A s) (hS : StM D dT a A s M H locs) (hl : ls.size = nL) (hw : v_X4_fault M post) (hR : rmX4_fault.frames + 1 ≤ R.frames ∧ 8 + (1 + 11) + rmX4_fault.locals ≤ R.locals) (hrest : (rest.map fun v => v.category).sum ≤ 8) (hf : cells ≤ R.cells ∧ slots ≤ R.slots) (hdg : decode cc pc = .ok (.invokevirtual 255, 3)) (kk : ∀ (r : Int32) (u : MS) (H1 : Heap) (locs1 : List Loc), post r u → StM D dT a A s u H1 locs1 → W p l e R s m args below meth c H1 locs1 cells slots Q (F0 m (pc + 3) ls (.int r :: rest))) : W p l e R s m args below meth c H locs cells slots Q (F0 m pc ls (.ref (a 0) :: rest)) := by
  exact wCallVi (As := []) (rest := rest) (mc := 0) (ms := 0) 0 hC (met_X4_fault l D dT a H.size M post hw) (lw_V q1321 q1148 q1149 q89 q1150) ⟨⟨rfl, rfl⟩, hd_X4_fault, hR, hf⟩ rfl rfl rfl hA hS hl rfl hrest hdg (fun r u H1 locs1 hp hS1 => kk r u H1 locs1 hp hS1)
end
/-! LeastFramesModel.frameNow -/
def w_X4_frameNow (post : Int32 → MS → Prop) (M : MS) : Prop :=
  v_X4_bestOf M (M_bars M) (fun r1 M2 => (r1 = ((-1) : Int32) → (post ((-3) : Int32) M2)) ∧ (¬ r1 = ((-1) : Int32) → (post r1 M2)))
abbrev rmX4_frameNow : Room := { frames := 8, cells := 0, slots := 0, locals := 181 }
set_option maxHeartbeats 4000000 in
set_option maxRecDepth 100000 in
theorem k_X4_frameNow_0 {p : Program} {l : Launch} {e : Env} {s : State} {m : MethodId} {args : Array Value} {below : List Frame} {meth : Method} {c : Code} {D : va_G} {dT : Nat → ClassId} {a : Nat → Nat} {A : Nat → Prop}  {post : Int32 → MS → Prop} (hC : wCx RX4 cX4_frameNow 2 (some .int) D dT p s m args meth c) (hA : wAz A s) (M : MS) {H : Heap} {locs : List Loc} {ls : Array Slot} (hS : StM D dT a A s M H locs) (hl : lv_has ls 2 [(0, .ref (a 0))])  (hw : w_X4_frameNow post M) : W p l e rmX4_frameNow s m args below meth c H locs 0 0 (MQ below (va_Qi post (wB D (MW dT a) MI A) A) args s 0 0 A) (F0 m 0 ls []) := by
  have hx := hC.1
  have hb := hC.2.1
  have hown := hC.2.2.2.1
  have hts := hC.2.2.2.2.1
  unfold w_X4_frameNow at hw
  refine lv_aload_n hx hb dX4_frameNow_0 rfl (lv_at hl 0 rfl) ?_
  refine lv_aload_n hx hb dX4_frameNow_1 rfl (lv_at hl 0 rfl) ?_
  refine ld_q941 hC hS dX4_frameNow_2 ?_
  refine inv_q1094 hC hA hS hl.1 hw ⟨Nat.le_of_ble_eq_true rfl, Nat.le_of_ble_eq_true rfl⟩ (Nat.le_of_ble_eq_true rfl) ⟨Nat.zero_le _, Nat.zero_le _⟩ dX4_frameNow_5 (fun r1 M2 H locs hw hS => ?_)
  refine lv_istore_n (lv' := [(1, .int r1), (0, .ref (a 0))]) hx hb dX4_frameNow_8 rfl hl (by decide) rfl (fun ls hl => ?_)
  refine lv_iload_n hx hb dX4_frameNow_9 rfl (lv_at hl 0 rfl) ?_
  refine lv_iconst (v := (-1)) hx hb dX4_frameNow_10 (by decide) ?_
  refine lv_icmp_ne (tgt := 19) hx hb dX4_frameNow_11 (by decide) (fun c3 => ?_) (fun c3 => ?_)
  · have hw := hw.2 c3
    refine lv_iload_n hx hb dX4_frameNow_19 rfl (lv_at hl 0 rfl) ?_
    exact wReti hC hS hw (Nat.le_refl _) (Nat.le_refl _) dX4_frameNow_20
  · have hw := hw.1 c3
    refine lv_bipush (v := (-3)) hx hb dX4_frameNow_14 (by decide) ?_
    refine lv_goto (tgt := 20) hx hb dX4_frameNow_16 (by decide) ?_
    exact wReti hC hS hw (Nat.le_refl _) (Nat.le_refl _) dX4_frameNow_20
abbrev v_X4_frameNow (M : MS) (post : Int32 → MS → Prop) : Prop := w_X4_frameNow post M
set_option maxHeartbeats 4000000 in
set_option maxRecDepth 100000 in
theorem met_X4_frameNow (l : Launch) (D : va_G) (dT : Nat → ClassId) (a : Nat → Nat) (sz : Nat) (M : MS) (post : Int32 → MS → Prop) (hw : v_X4_frameNow M post) : Met l yX4_frameNow (ws_ yX4_frameNow cX4_frameNow 2 (some .int)) rmX4_frameNow (wPc D dT (MW dT a) MI sz M [.ref (a 0)]) (va_Qi post (wB D (MW dT a) MI (va_A ((MW dT a) M) sz)) (va_A ((MW dT a) M) sz)) 0 0 (va_A ((MW dT a) M) sz) :=
  wEnt (Q := fun A => (va_Qi post (wB D (MW dT a) MI A) A)) (by decide) (Nat.le_of_ble_eq_true rfl) (fun p e s m below meth c A ls hC _ hA hS hl => k_X4_frameNow_0 hC hA _ hS hl hw) sz
theorem hd_X4_frameNow : yX4_frameNow.cls ≠ "java/lang/invoke/MethodHandle" ∧ yX4_frameNow.cls ≠ "java/lang/invoke/VarHandle" ∧ (parseMethodDescriptor yX4_frameNow.desc).map (fun d => d.parameters.length) = some 0 := by decide +kernel
section
variable {p : Program} {l : Launch} {e : Env} {R : Room} {s : State} {m : MethodId} {args : Array Value} {below : List Frame} {meth : Method} {c : Code} {H : Heap} {locs : List Loc} {cells slots : Nat} {Q : State → Prop} {cc : ByteArray} {nL : Nat} {ret : Option FieldType} {pc : Nat} {ls : Array Slot} {rest : List Value}
set_option maxHeartbeats 4000000 in
set_option maxRecDepth 100000 in
theorem inv_q1155 {D : va_G} {dT : Nat → ClassId} {a : Nat → Nat} {A : Nat → Prop} {M : MS} {post : Int32 → MS → Prop} (hC : wCx RX4 cc nL ret D dT p s m args meth c) (hA : wAz A s) (hS : StM D dT a A s M H locs) (hl : ls.size = nL) (hw : v_X4_frameNow M post) (hR : rmX4_frameNow.frames + 1 ≤ R.frames ∧ 8 + (2 + 11) + rmX4_frameNow.locals ≤ R.locals) (hrest : (rest.map fun v => v.category).sum ≤ 8) (hf : cells ≤ R.cells ∧ slots ≤ R.slots) (hdg : decode cc pc = .ok (.invokevirtual 168, 3)) (kk : ∀ (r : Int32) (u : MS) (H1 : Heap) (locs1 : List Loc), post r u → StM D dT a A s u H1 locs1 → W p l e R s m args below meth c H1 locs1 cells slots Q (F0 m (pc + 3) ls (.int r :: rest))) : W p l e R s m args below meth c H locs cells slots Q (F0 m pc ls (.ref (a 0) :: rest)) := by
  exact wCallVi (As := []) (rest := rest) (mc := 0) (ms := 0) 0 hC (met_X4_frameNow l D dT a H.size M post hw) (lw_V q1155 q1157 qs65 q89 q1158) ⟨⟨rfl, rfl⟩, hd_X4_frameNow, hR, hf⟩ rfl rfl rfl hA hS hl rfl hrest hdg (fun r u H1 locs1 hp hS1 => kk r u H1 locs1 hp hS1)
end
/-! LeastFramesModel.frame -/
def w_X4_frame (post : Int32 → MS → Prop) (M : MS) : Prop :=
  v_X4_frameNow M (fun r1 M2 => post r1 M2)
abbrev rmX4_frame : Room := { frames := 9, cells := 0, slots := 0, locals := 202 }
set_option maxHeartbeats 4000000 in
set_option maxRecDepth 100000 in
theorem k_X4_frame_0 {p : Program} {l : Launch} {e : Env} {s : State} {m : MethodId} {args : Array Value} {below : List Frame} {meth : Method} {c : Code} {D : va_G} {dT : Nat → ClassId} {a : Nat → Nat} {A : Nat → Prop}  {post : Int32 → MS → Prop} (hC : wCx RX4 cX4_frame 1 (some .int) D dT p s m args meth c) (hA : wAz A s) (M : MS) {H : Heap} {locs : List Loc} {ls : Array Slot} (hS : StM D dT a A s M H locs) (hl : lv_has ls 1 [(0, .ref (a 0))])  (hw : w_X4_frame post M) : W p l e rmX4_frame s m args below meth c H locs 0 0 (MQ below (va_Qi post (wB D (MW dT a) MI A) A) args s 0 0 A) (F0 m 0 ls []) := by
  have hx := hC.1
  have hb := hC.2.1
  have hown := hC.2.2.2.1
  have hts := hC.2.2.2.2.1
  unfold w_X4_frame at hw
  refine lv_aload_n hx hb dX4_frame_0 rfl (lv_at hl 0 rfl) ?_
  refine inv_q1155 hC hA hS hl.1 hw ⟨Nat.le_of_ble_eq_true rfl, Nat.le_of_ble_eq_true rfl⟩ (Nat.le_of_ble_eq_true rfl) ⟨Nat.zero_le _, Nat.zero_le _⟩ dX4_frame_1 (fun r1 M2 H locs hw hS => ?_)
  exact wReti hC hS hw (Nat.le_refl _) (Nat.le_refl _) dX4_frame_4
abbrev v_X4_frame (M : MS) (post : Int32 → MS → Prop) : Prop := w_X4_frame post M
set_option maxHeartbeats 4000000 in
set_option maxRecDepth 100000 in
theorem met_X4_frame (l : Launch) (D : va_G) (dT : Nat → ClassId) (a : Nat → Nat) (sz : Nat) (M : MS) (post : Int32 → MS → Prop) (hw : v_X4_frame M post) : Met l yX4_frame (ws_ yX4_frame cX4_frame 1 (some .int)) rmX4_frame (wPc D dT (MW dT a) MI sz M [.ref (a 0)]) (va_Qi post (wB D (MW dT a) MI (va_A ((MW dT a) M) sz)) (va_A ((MW dT a) M) sz)) 0 0 (va_A ((MW dT a) M) sz) :=
  wEnt (Q := fun A => (va_Qi post (wB D (MW dT a) MI A) A)) (by decide) (Nat.le_of_ble_eq_true rfl) (fun p e s m below meth c A ls hC _ hA hS hl => k_X4_frame_0 hC hA _ hS hl hw) sz
theorem hd_X4_frame : yX4_frame.cls ≠ "java/lang/invoke/MethodHandle" ∧ yX4_frame.cls ≠ "java/lang/invoke/VarHandle" ∧ (parseMethodDescriptor yX4_frame.desc).map (fun d => d.parameters.length) = some 0 := by decide +kernel
/-! LeastFramesModel.pullOf -/
def w_X4_pullOf_97 (p1 : Int32) (p2 : Int32) (K43 : MS → Int64 → Int32 → Prop) (post : Int64 → MS → Prop) (M : MS) (x6 : Int32) (y0 : Int64) : Prop :=
  ∀ v1 : Int32, v1 = x6 + 1 → (K43 M y0 v1)
def w_X4_pullOf_43b (p1 : Int32) (p2 : Int32) (K43 : MS → Int64 → Int32 → Prop) (post : Int64 → MS → Prop) (M : MS) (x4 : Int64) (x6 : Int32) : Prop :=
  ((M_rank M) ≤ x6 → (post x4 M)) ∧ (¬ (M_rank M) ≤ x6 → (vp_in x6 10 ∧ (((M_pivots M x6.toNatClampNeg) = p1 → (vp_in ((11 * x6) + 10) 110 ∧ (vp_in ((11 * x6) + p1) 110 ∧ (v_X4_partOf (M_rows M ((11 * x6) + 10).toNatClampNeg) (M_rows M ((11 * x6) + p1).toNatClampNeg) p2 (fun r3 => w_X4_pullOf_97 p1 p2 K43 post M x6 r3))))) ∧ (¬ (M_pivots M x6.toNatClampNeg) = p1 → (w_X4_pullOf_97 p1 p2 K43 post M x6 x4)))))
def w_X4_pullOf_43 (p1 : Int32) (p2 : Int32) (post : Int64 → MS → Prop) : Nat → MS → Int64 → Int32 → Prop
  | 0, _, _, _ => False
  | n + 1, M, x4, x6 => w_X4_pullOf_43b p1 p2 (w_X4_pullOf_43 p1 p2 post n) post M x4 x6
def w_X4_pullOf (p1 : Int32) (p2 : Int32) (post : Int64 → MS → Prop) (M : MS) : Prop :=
  v_X4_bestOf M (M_bars M) (fun r1 M2 => (r1 = ((-1) : Int32) → (v_X4_no ((-3) : Int32) (fun r7 => post r7 M2))) ∧ (¬ r1 = ((-1) : Int32) → ((((r1 >>> (p1 &&& 31)) &&& 1) = (0 : Int32) → (post p2.toInt64 M2)) ∧ (¬ ((r1 >>> (p1 &&& 31)) &&& 1) = (0 : Int32) → (v_X4_faultOf M2 r1 (fun r5 M6 => ∃ n, w_X4_pullOf_43 p1 p2 post n M6 0 0))))))
abbrev rmX4_pullOf : Room := { frames := 8, cells := 0, slots := 0, locals := 181 }
set_option maxHeartbeats 4000000 in
set_option maxRecDepth 100000 in
theorem k_X4_pullOf_97 {p : Program} {l : Launch} {e : Env} {s : State} {m : MethodId} {args : Array Value} {below : List Frame} {meth : Method} {c : Code} {D : va_G} {dT : Nat → ClassId} {a : Nat → Nat} {A : Nat → Prop}  {p1 : Int32} {p2 : Int32} {K43 : MS → Int64 → Int32 → Prop} {post : Int64 → MS → Prop} (hC : wCx RX4 cX4_pullOf 7 (some .long) D dT p s m args meth c) (hA : wAz A s) (hK43 : ∀ (M : MS) (x4 : Int64) (x6 : Int32), K43 M x4 x6 → ∀ {H : Heap} {locs : List Loc} {ls : Array Slot}, StM D dT a A s M H locs → lv_has ls 7 [(0, .ref (a 0)), (1, .int p1), (2, .int p2), (4, .long x4), (6, .int x6)] → W p l e rmX4_pullOf s m args below meth c H locs 0 0 (MQ below (va_Ql post (wB D (MW dT a) MI A) A) args s 0 0 A) (F0 m 43 ls [])) (M : MS) (x6 : Int32) (y0 : Int64) {H : Heap} {locs : List Loc} {ls : Array Slot} (hS : StM D dT a A s M H locs) (hl : lv_has ls 7 [(0, .ref (a 0)), (1, .int p1), (2, .int p2), (6, .int x6)])  (hw : w_X4_pullOf_97 p1 p2 K43 post M x6 y0) : W p l e rmX4_pullOf s m args below meth c H locs 0 0 (MQ below (va_Ql post (wB D (MW dT a) MI A) A) args s 0 0 A) (F0 m 97 ls [.long y0]) := by
  have hx := hC.1
  have hb := hC.2.1
  have hown := hC.2.2.2.1
  have hts := hC.2.2.2.2.1
  unfold w_X4_pullOf_97 at hw
  refine lv_lstore (lv' := [(4, .long y0), (0, .ref (a 0)), (1, .int p1), (2, .int p2), (6, .int x6)]) hx hb dX4_pullOf_97 hl (by decide) rfl (fun ls hl => ?_)
  obtain ⟨v1, ev1⟩ : ∃ y : Int32, y = x6 + 1 := ⟨_, rfl⟩
  have hw := hw v1 ev1
  refine lv_iinc (v := v1) (lv' := [(6, .int v1), (4, .long y0), (0, .ref (a 0)), (1, .int p1), (2, .int p2)]) hx hb dX4_pullOf_99 hl (k := 4) rfl (by rw [ev1]; rfl) (by decide) rfl (fun ls hl => ?_)
  refine lv_goto (tgt := 43) hx hb dX4_pullOf_102 (by decide) ?_
  exact hK43 _ _ _ hw hS (lv_sub hl [2, 3, 4, 1, 0] rfl)
set_option maxHeartbeats 4000000 in
set_option maxRecDepth 100000 in
theorem k_X4_pullOf_43b {p : Program} {l : Launch} {e : Env} {s : State} {m : MethodId} {args : Array Value} {below : List Frame} {meth : Method} {c : Code} {D : va_G} {dT : Nat → ClassId} {a : Nat → Nat} {A : Nat → Prop}  {p1 : Int32} {p2 : Int32} {K43 : MS → Int64 → Int32 → Prop} {post : Int64 → MS → Prop} (hC : wCx RX4 cX4_pullOf 7 (some .long) D dT p s m args meth c) (hA : wAz A s) (hK43 : ∀ (M : MS) (x4 : Int64) (x6 : Int32), K43 M x4 x6 → ∀ {H : Heap} {locs : List Loc} {ls : Array Slot}, StM D dT a A s M H locs → lv_has ls 7 [(0, .ref (a 0)), (1, .int p1), (2, .int p2), (4, .long x4), (6, .int x6)] → W p l e rmX4_pullOf s m args below meth c H locs 0 0 (MQ below (va_Ql post (wB D (MW dT a) MI A) A) args s 0 0 A) (F0 m 43 ls [])) (M : MS) (x4 : Int64) (x6 : Int32) {H : Heap} {locs : List Loc} {ls : Array Slot} (hS : StM D dT a A s M H locs) (hl : lv_has ls 7 [(0, .ref (a 0)), (1, .int p1), (2, .int p2), (4, .long x4), (6, .int x6)])  (hw : w_X4_pullOf_43b p1 p2 K43 post M x4 x6) : W p l e rmX4_pullOf s m args below meth c H locs 0 0 (MQ below (va_Ql post (wB D (MW dT a) MI A) A) args s 0 0 A) (F0 m 43 ls []) := by
  have hx := hC.1
  have hb := hC.2.1
  have hown := hC.2.2.2.1
  have hts := hC.2.2.2.2.1
  unfold w_X4_pullOf_43b at hw
  refine lv_iload hx hb dX4_pullOf_43 (lv_at hl 4 rfl) ?_
  refine lv_aload_n hx hb dX4_pullOf_45 rfl (lv_at hl 0 rfl) ?_
  refine ld_q944 hC hS dX4_pullOf_46 ?_
  refine lv_icmp_ge (tgt := 105) hx hb dX4_pullOf_49 (by decide) (fun c1 => ?_) (fun c1 => ?_)
  · have hw := hw.1 c1
    refine lv_lload hx hb dX4_pullOf_105 (lv_at hl 3 rfl) ?_
    exact wRetl hC hS hw (Nat.le_refl _) (Nat.le_refl _) dX4_pullOf_107
  · have hw := hw.2 c1
    refine lv_aload_n hx hb dX4_pullOf_52 rfl (lv_at hl 0 rfl) ?_
    refine ld_q943 hC hS dX4_pullOf_53 ?_
    refine lv_iload hx hb dX4_pullOf_56 (lv_at hl 4 rfl) ?_
    refine al_pivots hC hS hw.1 dX4_pullOf_58 ?_
    have hw := hw.2
    refine lv_iload_n hx hb dX4_pullOf_59 rfl (lv_at hl 1 rfl) ?_
    refine lv_icmp_ne (tgt := 95) hx hb dX4_pullOf_60 (by decide) (fun c2 => ?_) (fun c2 => ?_)
    · have hw := hw.2 c2
      refine lv_lload hx hb dX4_pullOf_95 (lv_at hl 3 rfl) ?_
      exact k_X4_pullOf_97 hC hA hK43 _ _ _ hS (lv_sub hl [0, 1, 2, 4] rfl) hw
    · have hw := hw.1 c2
      refine lv_aload_n hx hb dX4_pullOf_63 rfl (lv_at hl 0 rfl) ?_
      refine ld_q942 hC hS dX4_pullOf_64 ?_
      refine lv_bipush (v := 11) hx hb dX4_pullOf_67 (by decide) ?_
      refine lv_iload hx hb dX4_pullOf_69 (lv_at hl 4 rfl) ?_
      refine lv_imul hx hb dX4_pullOf_71 ?_
      refine lv_bipush (v := 10) hx hb dX4_pullOf_72 (by decide) ?_
      refine lv_iadd hx hb dX4_pullOf_74 ?_
      refine al_rows hC hS hw.1 dX4_pullOf_75 ?_
      have hw := hw.2
      refine lv_aload_n hx hb dX4_pullOf_76 rfl (lv_at hl 0 rfl) ?_
      refine ld_q942 hC hS dX4_pullOf_77 ?_
      refine lv_bipush (v := 11) hx hb dX4_pullOf_80 (by decide) ?_
      refine lv_iload hx hb dX4_pullOf_82 (lv_at hl 4 rfl) ?_
      refine lv_imul hx hb dX4_pullOf_84 ?_
      refine lv_iload_n hx hb dX4_pullOf_85 rfl (lv_at hl 1 rfl) ?_
      refine lv_iadd hx hb dX4_pullOf_86 ?_
      refine al_rows hC hS hw.1 dX4_pullOf_87 ?_
      have hw := hw.2
      refine lv_iload_n hx hb dX4_pullOf_88 rfl (lv_at hl 2 rfl) ?_
      refine inv_q1136 hC hS hl.1 hw ⟨Nat.le_of_ble_eq_true rfl, Nat.le_of_ble_eq_true rfl⟩ (Nat.le_of_ble_eq_true rfl) ⟨Nat.zero_le _, Nat.zero_le _⟩ dX4_pullOf_89 (fun r3 H locs hw hS => ?_)
      refine lv_goto (tgt := 97) hx hb dX4_pullOf_92 (by decide) ?_
      exact k_X4_pullOf_97 hC hA hK43 _ _ _ hS (lv_sub hl [0, 1, 2, 4] rfl) hw
set_option maxHeartbeats 4000000 in
set_option maxRecDepth 100000 in
theorem k_X4_pullOf_43 {p : Program} {l : Launch} {e : Env} {s : State} {m : MethodId} {args : Array Value} {below : List Frame} {meth : Method} {c : Code} {D : va_G} {dT : Nat → ClassId} {a : Nat → Nat} {A : Nat → Prop}  {p1 : Int32} {p2 : Int32} {post : Int64 → MS → Prop} (hC : wCx RX4 cX4_pullOf 7 (some .long) D dT p s m args meth c) (hA : wAz A s) : ∀ (M : MS) (x4 : Int64) (x6 : Int32) (n : Nat), ∀ {H : Heap} {locs : List Loc} {ls : Array Slot}, StM D dT a A s M H locs → lv_has ls 7 [(0, .ref (a 0)), (1, .int p1), (2, .int p2), (4, .long x4), (6, .int x6)] → w_X4_pullOf_43 p1 p2 post n M x4 x6 → W p l e rmX4_pullOf s m args below meth c H locs 0 0 (MQ below (va_Ql post (wB D (MW dT a) MI A) A) args s 0 0 A) (F0 m 43 ls []) := by
  intro M x4 x6 n
  induction n generalizing M x4 x6 with
  | zero => intro H locs ls  hS hl hw; exact hw.elim
  | succ n ih =>
    intro H locs ls  hS hl hw
    exact k_X4_pullOf_43b hC hA (fun M x4 x6 hk {H} {locs} {ls}  hS hl => ih M x4 x6  hS hl hk) M x4 x6  hS hl hw
set_option maxHeartbeats 4000000 in
set_option maxRecDepth 100000 in
theorem k_X4_pullOf_0 {p : Program} {l : Launch} {e : Env} {s : State} {m : MethodId} {args : Array Value} {below : List Frame} {meth : Method} {c : Code} {D : va_G} {dT : Nat → ClassId} {a : Nat → Nat} {A : Nat → Prop}  {p1 : Int32} {p2 : Int32} {post : Int64 → MS → Prop} (hC : wCx RX4 cX4_pullOf 7 (some .long) D dT p s m args meth c) (hA : wAz A s) (M : MS) {H : Heap} {locs : List Loc} {ls : Array Slot} (hS : StM D dT a A s M H locs) (hl : lv_has ls 7 [(0, .ref (a 0)), (1, .int p1), (2, .int p2)])  (hw : w_X4_pullOf p1 p2 post M) : W p l e rmX4_pullOf s m args below meth c H locs 0 0 (MQ below (va_Ql post (wB D (MW dT a) MI A) A) args s 0 0 A) (F0 m 0 ls []) := by
  have hx := hC.1
  have hb := hC.2.1
  have hown := hC.2.2.2.1
  have hts := hC.2.2.2.2.1
  unfold w_X4_pullOf at hw
  refine lv_aload_n hx hb dX4_pullOf_0 rfl (lv_at hl 0 rfl) ?_
  refine lv_aload_n hx hb dX4_pullOf_1 rfl (lv_at hl 0 rfl) ?_
  refine ld_q941 hC hS dX4_pullOf_2 ?_
  refine inv_q1094 hC hA hS hl.1 hw ⟨Nat.le_of_ble_eq_true rfl, Nat.le_of_ble_eq_true rfl⟩ (Nat.le_of_ble_eq_true rfl) ⟨Nat.zero_le _, Nat.zero_le _⟩ dX4_pullOf_5 (fun r1 M2 H locs hw hS => ?_)
  refine lv_istore_n (lv' := [(3, .int r1), (0, .ref (a 0)), (1, .int p1), (2, .int p2)]) hx hb dX4_pullOf_8 rfl hl (by decide) rfl (fun ls hl => ?_)
  refine lv_iload_n hx hb dX4_pullOf_9 rfl (lv_at hl 0 rfl) ?_
  refine lv_iconst (v := (-1)) hx hb dX4_pullOf_10 (by decide) ?_
  refine lv_icmp_ne (tgt := 20) hx hb dX4_pullOf_11 (by decide) (fun c3 => ?_) (fun c3 => ?_)
  · have hw := hw.2 c3
    refine lv_iload_n hx hb dX4_pullOf_20 rfl (lv_at hl 0 rfl) ?_
    refine lv_iload_n hx hb dX4_pullOf_21 rfl (lv_at hl 2 rfl) ?_
    refine lv_ishr hx hb dX4_pullOf_22 ?_
    refine lv_iconst (v := 1) hx hb dX4_pullOf_23 (by decide) ?_
    refine lv_iand hx hb dX4_pullOf_24 ?_
    refine lv_if_ne (tgt := 31) hx hb dX4_pullOf_25 (by decide) (fun c4 => ?_) (fun c4 => ?_)
    · have hw := hw.2 c4
      refine lv_aload_n hx hb dX4_pullOf_31 rfl (lv_at hl 1 rfl) ?_
      refine lv_iload_n hx hb dX4_pullOf_32 rfl (lv_at hl 0 rfl) ?_
      refine inv_q1102 hC hA hS hl.1 hw ⟨Nat.le_of_ble_eq_true rfl, Nat.le_of_ble_eq_true rfl⟩ (Nat.le_of_ble_eq_true rfl) ⟨Nat.zero_le _, Nat.zero_le _⟩ dX4_pullOf_33 (fun r5 M6 H locs hw hS => ?_)
      refine lv_pop hx hb dX4_pullOf_36 rfl ?_
      refine lv_lconst (v := 0) hx hb dX4_pullOf_37 (by decide) ?_
      refine lv_lstore (lv' := [(4, .long 0), (3, .int r1), (0, .ref (a 0)), (1, .int p1), (2, .int p2)]) hx hb dX4_pullOf_38 hl (by decide) rfl (fun ls hl => ?_)
      refine lv_iconst (v := 0) hx hb dX4_pullOf_40 (by decide) ?_
      refine lv_istore (lv' := [(6, .int 0), (4, .long 0), (3, .int r1), (0, .ref (a 0)), (1, .int p1), (2, .int p2)]) hx hb dX4_pullOf_41 hl (by decide) rfl (fun ls hl => ?_)
      obtain ⟨n, hw⟩ := hw
      exact k_X4_pullOf_43 hC hA _ _ _ n hS (lv_sub hl [3, 4, 5, 1, 0] rfl) hw
    · have hw := hw.1 c4
      refine lv_iload_n hx hb dX4_pullOf_28 rfl (lv_at hl 3 rfl) ?_
      refine lv_i2l hx hb dX4_pullOf_29 rfl ?_
      exact wRetl hC hS hw (Nat.le_refl _) (Nat.le_refl _) dX4_pullOf_30
  · have hw := hw.1 c3
    refine lv_bipush (v := (-3)) hx hb dX4_pullOf_14 (by decide) ?_
    refine inv_q1143 hC hS hl.1 hw ⟨Nat.le_of_ble_eq_true rfl, Nat.le_of_ble_eq_true rfl⟩ (Nat.le_of_ble_eq_true rfl) ⟨Nat.zero_le _, Nat.zero_le _⟩ dX4_pullOf_16 (fun r7 H locs hw hS => ?_)
    exact wRetl hC hS hw (Nat.le_refl _) (Nat.le_refl _) dX4_pullOf_19
abbrev v_X4_pullOf (M : MS) (p1 : Int32) (p2 : Int32) (post : Int64 → MS → Prop) : Prop := w_X4_pullOf p1 p2 post M
set_option maxHeartbeats 4000000 in
set_option maxRecDepth 100000 in
theorem met_X4_pullOf (l : Launch) (D : va_G) (dT : Nat → ClassId) (a : Nat → Nat) (sz : Nat) (M : MS) (p1 : Int32) (p2 : Int32) (post : Int64 → MS → Prop) (hw : v_X4_pullOf M p1 p2 post) : Met l yX4_pullOf (ws_ yX4_pullOf cX4_pullOf 7 (some .long)) rmX4_pullOf (wPc D dT (MW dT a) MI sz M [.ref (a 0), .int p1, .int p2]) (va_Ql post (wB D (MW dT a) MI (va_A ((MW dT a) M) sz)) (va_A ((MW dT a) M) sz)) 0 0 (va_A ((MW dT a) M) sz) :=
  wEnt (Q := fun A => (va_Ql post (wB D (MW dT a) MI A) A)) (by decide) (Nat.le_of_ble_eq_true rfl) (fun p e s m below meth c A ls hC _ hA hS hl => k_X4_pullOf_0 hC hA _ hS hl hw) sz
theorem hd_X4_pullOf : yX4_pullOf.cls ≠ "java/lang/invoke/MethodHandle" ∧ yX4_pullOf.cls ≠ "java/lang/invoke/VarHandle" ∧ (parseMethodDescriptor yX4_pullOf.desc).map (fun d => d.parameters.length) = some 2 := by decide +kernel
section
variable {p : Program} {l : Launch} {e : Env} {R : Room} {s : State} {m : MethodId} {args : Array Value} {below : List Frame} {meth : Method} {c : Code} {H : Heap} {locs : List Loc} {cells slots : Nat} {Q : State → Prop} {cc : ByteArray} {nL : Nat} {ret : Option FieldType} {pc : Nat} {ls : Array Slot} {rest : List Value}
set_option maxHeartbeats 4000000 in
set_option maxRecDepth 100000 in
theorem inv_q1163 {D : va_G} {dT : Nat → ClassId} {a : Nat → Nat} {A : Nat → Prop} {M : MS} {p1 : Int32} {p2 : Int32} {post : Int64 → MS → Prop} (hC : wCx RX4 cc nL ret D dT p s m args meth c) (hA : wAz A s) (hS : StM D dT a A s M H locs) (hl : ls.size = nL) (hw : v_X4_pullOf M p1 p2 post) (hR : rmX4_pullOf.frames + 1 ≤ R.frames ∧ 8 + (7 + 11) + rmX4_pullOf.locals ≤ R.locals) (hrest : (rest.map fun v => v.category).sum ≤ 8) (hf : cells ≤ R.cells ∧ slots ≤ R.slots) (hdg : decode cc pc = .ok (.invokevirtual 171, 3)) (kk : ∀ (r : Int64) (u : MS) (H1 : Heap) (locs1 : List Loc), post r u → StM D dT a A s u H1 locs1 → W p l e R s m args below meth c H1 locs1 cells slots Q (F0 m (pc + 3) ls (.long r :: rest))) : W p l e R s m args below meth c H locs cells slots Q (F0 m pc ls (.int p2 :: .int p1 :: .ref (a 0) :: rest)) := by
  exact wCallVl (As := [.int p1, .int p2]) (rest := rest) (mc := 0) (ms := 0) 0 hC (met_X4_pullOf l D dT a H.size M p1 p2 post hw) (lw_V q1163 q1165 qs66 q89 q1166) ⟨⟨rfl, rfl⟩, hd_X4_pullOf, hR, hf⟩ rfl rfl rfl hA hS hl rfl hrest hdg (fun r u H1 locs1 hp hS1 => kk r u H1 locs1 hp hS1)
end
/-! LeastFramesModel.pull -/
def w_X4_pull (p1 : Int32) (p2 : Int32) (post : Int64 → MS → Prop) (M : MS) : Prop :=
  v_X4_isPair M p1 (fun r1 => (r1 = (0 : Int32) → (v_X4_no ((-2) : Int32) (fun r3 => post r3 M))) ∧ (¬ r1 = (0 : Int32) → (v_X4_in p2 (0 : Int32) (1 : Int32) (fun r4 => (r4 = (0 : Int32) → (v_X4_no ((-2) : Int32) (fun r6 => post r6 M))) ∧ (¬ r4 = (0 : Int32) → (v_X4_pullOf M p1 p2 (fun r7 M8 => post r7 M8)))))))
abbrev rmX4_pull : Room := { frames := 9, cells := 0, slots := 0, locals := 207 }
set_option maxHeartbeats 4000000 in
set_option maxRecDepth 100000 in
theorem k_X4_pull_0 {p : Program} {l : Launch} {e : Env} {s : State} {m : MethodId} {args : Array Value} {below : List Frame} {meth : Method} {c : Code} {D : va_G} {dT : Nat → ClassId} {a : Nat → Nat} {A : Nat → Prop}  {p1 : Int32} {p2 : Int32} {post : Int64 → MS → Prop} (hC : wCx RX4 cX4_pull 3 (some .long) D dT p s m args meth c) (hA : wAz A s) (M : MS) {H : Heap} {locs : List Loc} {ls : Array Slot} (hS : StM D dT a A s M H locs) (hl : lv_has ls 3 [(0, .ref (a 0)), (1, .int p1), (2, .int p2)])  (hw : w_X4_pull p1 p2 post M) : W p l e rmX4_pull s m args below meth c H locs 0 0 (MQ below (va_Ql post (wB D (MW dT a) MI A) A) args s 0 0 A) (F0 m 0 ls []) := by
  have hx := hC.1
  have hb := hC.2.1
  have hown := hC.2.2.2.1
  have hts := hC.2.2.2.2.1
  unfold w_X4_pull at hw
  refine lv_aload_n hx hb dX4_pull_0 rfl (lv_at hl 0 rfl) ?_
  refine lv_iload_n hx hb dX4_pull_1 rfl (lv_at hl 1 rfl) ?_
  refine inv_q1035 hC hA hS hl.1 hw ⟨Nat.le_of_ble_eq_true rfl, Nat.le_of_ble_eq_true rfl⟩ (Nat.le_of_ble_eq_true rfl) ⟨Nat.zero_le _, Nat.zero_le _⟩ dX4_pull_2 (fun r1 H locs hw hS => ?_)
  refine lv_if_eq (tgt := 26) hx hb dX4_pull_5 (by decide) (fun c2 => ?_) (fun c2 => ?_)
  · have hw := hw.1 c2
    refine lv_bipush (v := (-2)) hx hb dX4_pull_26 (by decide) ?_
    refine inv_q1143 hC hS hl.1 hw ⟨Nat.le_of_ble_eq_true rfl, Nat.le_of_ble_eq_true rfl⟩ (Nat.le_of_ble_eq_true rfl) ⟨Nat.zero_le _, Nat.zero_le _⟩ dX4_pull_28 (fun r3 H locs hw hS => ?_)
    exact wRetl hC hS hw (Nat.le_refl _) (Nat.le_refl _) dX4_pull_31
  · have hw := hw.2 c2
    refine lv_iload_n hx hb dX4_pull_8 rfl (lv_at hl 2 rfl) ?_
    refine lv_iconst (v := 0) hx hb dX4_pull_9 (by decide) ?_
    refine lv_iconst (v := 1) hx hb dX4_pull_10 (by decide) ?_
    refine inv_q1007 hC hS hl.1 hw ⟨Nat.le_of_ble_eq_true rfl, Nat.le_of_ble_eq_true rfl⟩ (Nat.le_of_ble_eq_true rfl) ⟨Nat.zero_le _, Nat.zero_le _⟩ dX4_pull_11 (fun r4 H locs hw hS => ?_)
    refine lv_if_eq (tgt := 26) hx hb dX4_pull_14 (by decide) (fun c5 => ?_) (fun c5 => ?_)
    · have hw := hw.1 c5
      refine lv_bipush (v := (-2)) hx hb dX4_pull_26 (by decide) ?_
      refine inv_q1143 hC hS hl.1 hw ⟨Nat.le_of_ble_eq_true rfl, Nat.le_of_ble_eq_true rfl⟩ (Nat.le_of_ble_eq_true rfl) ⟨Nat.zero_le _, Nat.zero_le _⟩ dX4_pull_28 (fun r6 H locs hw hS => ?_)
      exact wRetl hC hS hw (Nat.le_refl _) (Nat.le_refl _) dX4_pull_31
    · have hw := hw.2 c5
      refine lv_aload_n hx hb dX4_pull_17 rfl (lv_at hl 0 rfl) ?_
      refine lv_iload_n hx hb dX4_pull_18 rfl (lv_at hl 1 rfl) ?_
      refine lv_iload_n hx hb dX4_pull_19 rfl (lv_at hl 2 rfl) ?_
      refine inv_q1163 hC hA hS hl.1 hw ⟨Nat.le_of_ble_eq_true rfl, Nat.le_of_ble_eq_true rfl⟩ (Nat.le_of_ble_eq_true rfl) ⟨Nat.zero_le _, Nat.zero_le _⟩ dX4_pull_20 (fun r7 M8 H locs hw hS => ?_)
      refine lv_goto (tgt := 31) hx hb dX4_pull_23 (by decide) ?_
      exact wRetl hC hS hw (Nat.le_refl _) (Nat.le_refl _) dX4_pull_31
abbrev v_X4_pull (M : MS) (p1 : Int32) (p2 : Int32) (post : Int64 → MS → Prop) : Prop := w_X4_pull p1 p2 post M
set_option maxHeartbeats 4000000 in
set_option maxRecDepth 100000 in
theorem met_X4_pull (l : Launch) (D : va_G) (dT : Nat → ClassId) (a : Nat → Nat) (sz : Nat) (M : MS) (p1 : Int32) (p2 : Int32) (post : Int64 → MS → Prop) (hw : v_X4_pull M p1 p2 post) : Met l yX4_pull (ws_ yX4_pull cX4_pull 3 (some .long)) rmX4_pull (wPc D dT (MW dT a) MI sz M [.ref (a 0), .int p1, .int p2]) (va_Ql post (wB D (MW dT a) MI (va_A ((MW dT a) M) sz)) (va_A ((MW dT a) M) sz)) 0 0 (va_A ((MW dT a) M) sz) :=
  wEnt (Q := fun A => (va_Ql post (wB D (MW dT a) MI A) A)) (by decide) (Nat.le_of_ble_eq_true rfl) (fun p e s m below meth c A ls hC _ hA hS hl => k_X4_pull_0 hC hA _ hS hl hw) sz
theorem hd_X4_pull : yX4_pull.cls ≠ "java/lang/invoke/MethodHandle" ∧ yX4_pull.cls ≠ "java/lang/invoke/VarHandle" ∧ (parseMethodDescriptor yX4_pull.desc).map (fun d => d.parameters.length) = some 2 := by decide +kernel
/-! LeastFramesModel.isBar -/
def w_X4_isBar (M : MS) (p1 : Int32) (post : Int32 → Prop) : Prop :=
  v_X4_isPair M p1 (fun r1 => (r1 = (0 : Int32) → (post (0 : Int32))) ∧ (¬ r1 = (0 : Int32) → (((((M_bars M) >>> (p1 &&& 31)) &&& 1) = (1 : Int32) → (post (1 : Int32))) ∧ (¬ (((M_bars M) >>> (p1 &&& 31)) &&& 1) = (1 : Int32) → (post (0 : Int32))))))
abbrev rmX4_isBar : Room := { frames := 2, cells := 0, slots := 0, locals := 43 }
set_option maxHeartbeats 4000000 in
set_option maxRecDepth 100000 in
theorem k_X4_isBar_0 {p : Program} {l : Launch} {e : Env} {s : State} {m : MethodId} {args : Array Value} {below : List Frame} {meth : Method} {c : Code} {D : va_G} {dT : Nat → ClassId} {a : Nat → Nat} {A : Nat → Prop}  {M : MS} {p1 : Int32} {post : Int32 → Prop} (hC : wCx RX4 cX4_isBar 2 (some .boolean) D dT p s m args meth c) (hA : wAz A s) {H : Heap} {locs : List Loc} {ls : Array Slot} (hS : StM D dT a A s M H locs) (hl : lv_has ls 2 [(0, .ref (a 0)), (1, .int p1)])  (hw : w_X4_isBar M p1 post) : W p l e rmX4_isBar s m args below meth c H locs 0 0 (MQ below (va_Qi (fun r M9 => M9 = M ∧ post r) (wB D (MW dT a) MI A) A) args s 0 0 A) (F0 m 0 ls []) := by
  have hx := hC.1
  have hb := hC.2.1
  have hown := hC.2.2.2.1
  have hts := hC.2.2.2.2.1
  unfold w_X4_isBar at hw
  refine lv_aload_n hx hb dX4_isBar_0 rfl (lv_at hl 0 rfl) ?_
  refine lv_iload_n hx hb dX4_isBar_1 rfl (lv_at hl 1 rfl) ?_
  refine inv_q1035 hC hA hS hl.1 hw ⟨Nat.le_of_ble_eq_true rfl, Nat.le_of_ble_eq_true rfl⟩ (Nat.le_of_ble_eq_true rfl) ⟨Nat.zero_le _, Nat.zero_le _⟩ dX4_isBar_2 (fun r1 H locs hw hS => ?_)
  refine lv_if_eq (tgt := 24) hx hb dX4_isBar_5 (by decide) (fun c2 => ?_) (fun c2 => ?_)
  · have hw := hw.1 c2
    refine lv_iconst (v := 0) hx hb dX4_isBar_24 (by decide) ?_
    exact wRetz hC hS (by decide) ⟨rfl, hw⟩ (Nat.le_refl _) (Nat.le_refl _) dX4_isBar_25
  · have hw := hw.2 c2
    refine lv_aload_n hx hb dX4_isBar_8 rfl (lv_at hl 0 rfl) ?_
    refine ld_q941 hC hS dX4_isBar_9 ?_
    refine lv_iload_n hx hb dX4_isBar_12 rfl (lv_at hl 1 rfl) ?_
    refine lv_ishr hx hb dX4_isBar_13 ?_
    refine lv_iconst (v := 1) hx hb dX4_isBar_14 (by decide) ?_
    refine lv_iand hx hb dX4_isBar_15 ?_
    refine lv_iconst (v := 1) hx hb dX4_isBar_16 (by decide) ?_
    refine lv_icmp_ne (tgt := 24) hx hb dX4_isBar_17 (by decide) (fun c3 => ?_) (fun c3 => ?_)
    · have hw := hw.2 c3
      refine lv_iconst (v := 0) hx hb dX4_isBar_24 (by decide) ?_
      exact wRetz hC hS (by decide) ⟨rfl, hw⟩ (Nat.le_refl _) (Nat.le_refl _) dX4_isBar_25
    · have hw := hw.1 c3
      refine lv_iconst (v := 1) hx hb dX4_isBar_20 (by decide) ?_
      refine lv_goto (tgt := 25) hx hb dX4_isBar_21 (by decide) ?_
      exact wRetz hC hS (by decide) ⟨rfl, hw⟩ (Nat.le_refl _) (Nat.le_refl _) dX4_isBar_25
abbrev v_X4_isBar (M : MS) (p1 : Int32) (post : Int32 → Prop) : Prop := w_X4_isBar M p1 post
set_option maxHeartbeats 4000000 in
set_option maxRecDepth 100000 in
theorem met_X4_isBar (l : Launch) (D : va_G) (dT : Nat → ClassId) (a : Nat → Nat) (sz : Nat) (M : MS) (p1 : Int32) (post : Int32 → Prop) (hw : v_X4_isBar M p1 post) : Met l yX4_isBar (ws_ yX4_isBar cX4_isBar 2 (some .boolean)) rmX4_isBar (wPc D dT (MW dT a) MI sz M [.ref (a 0), .int p1]) (va_Qi (fun r M9 => M9 = M ∧ post r) (wB D (MW dT a) MI (va_A ((MW dT a) M) sz)) (va_A ((MW dT a) M) sz)) 0 0 (va_A ((MW dT a) M) sz) :=
  wEnt (Q := fun A => (va_Qi (fun r M9 => M9 = M ∧ post r) (wB D (MW dT a) MI A) A)) (by decide) (Nat.le_of_ble_eq_true rfl) (fun p e s m below meth c A ls hC _ hA hS hl => k_X4_isBar_0 hC hA  hS hl hw) sz
theorem hd_X4_isBar : yX4_isBar.cls ≠ "java/lang/invoke/MethodHandle" ∧ yX4_isBar.cls ≠ "java/lang/invoke/VarHandle" ∧ (parseMethodDescriptor yX4_isBar.desc).map (fun d => d.parameters.length) = some 1 := by decide +kernel
section
variable {p : Program} {l : Launch} {e : Env} {R : Room} {s : State} {m : MethodId} {args : Array Value} {below : List Frame} {meth : Method} {c : Code} {H : Heap} {locs : List Loc} {cells slots : Nat} {Q : State → Prop} {cc : ByteArray} {nL : Nat} {ret : Option FieldType} {pc : Nat} {ls : Array Slot} {rest : List Value}
set_option maxHeartbeats 4000000 in
set_option maxRecDepth 100000 in
theorem inv_q1171 {D : va_G} {dT : Nat → ClassId} {a : Nat → Nat} {A : Nat → Prop} {M : MS} {p1 : Int32} {post : Int32 → Prop} (hC : wCx RX4 cc nL ret D dT p s m args meth c) (hA : wAz A s) (hS : StM D dT a A s M H locs) (hl : ls.size = nL) (hw : v_X4_isBar M p1 post) (hR : rmX4_isBar.frames + 1 ≤ R.frames ∧ 8 + (2 + 11) + rmX4_isBar.locals ≤ R.locals) (hrest : (rest.map fun v => v.category).sum ≤ 8) (hf : cells ≤ R.cells ∧ slots ≤ R.slots) (hdg : decode cc pc = .ok (.invokevirtual 174, 3)) (kk : ∀ (r : Int32) (H1 : Heap) (locs1 : List Loc), post r → StM D dT a A s M H1 locs1 → W p l e R s m args below meth c H1 locs1 cells slots Q (F0 m (pc + 3) ls (.int r :: rest))) : W p l e R s m args below meth c H locs cells slots Q (F0 m pc ls (.int p1 :: .ref (a 0) :: rest)) := by
  exact wCallVi (As := [.int p1]) (rest := rest) (mc := 0) (ms := 0) 0 hC (met_X4_isBar l D dT a H.size M p1 post hw) (lw_V q1171 q1173 qs67 q89 q1174) ⟨⟨rfl, rfl⟩, hd_X4_isBar, hR, hf⟩ rfl rfl rfl hA hS hl rfl hrest hdg (fun r u H1 locs1 hp hS1 => kk r H1 locs1 hp.2 (hp.1 ▸ hS1))
end
/-! LeastFramesModel.without -/
def w_X4_without (p1 : Int32) (p2 : Int32) (post : Int64 → MS → Prop) (M : MS) : Prop :=
  v_X4_isBar M p1 (fun r1 => (r1 = (0 : Int32) → (v_X4_no ((-2) : Int32) (fun r3 => post r3 M))) ∧ (¬ r1 = (0 : Int32) → (v_X4_in p2 (0 : Int32) (1 : Int32) (fun r4 => (r4 = (0 : Int32) → (v_X4_no ((-2) : Int32) (fun r6 => post r6 M))) ∧ (¬ r4 = (0 : Int32) → (v_X4_volumeOf M ((M_bars M) &&& ((1 <<< (p1 &&& 31)) ^^^ (-1))) p2 (fun r7 M8 => post r7 M8)))))))
abbrev rmX4_without : Room := { frames := 9, cells := 0, slots := 0, locals := 204 }
set_option maxHeartbeats 4000000 in
set_option maxRecDepth 100000 in
theorem k_X4_without_0 {p : Program} {l : Launch} {e : Env} {s : State} {m : MethodId} {args : Array Value} {below : List Frame} {meth : Method} {c : Code} {D : va_G} {dT : Nat → ClassId} {a : Nat → Nat} {A : Nat → Prop}  {p1 : Int32} {p2 : Int32} {post : Int64 → MS → Prop} (hC : wCx RX4 cX4_without 3 (some .long) D dT p s m args meth c) (hA : wAz A s) (M : MS) {H : Heap} {locs : List Loc} {ls : Array Slot} (hS : StM D dT a A s M H locs) (hl : lv_has ls 3 [(0, .ref (a 0)), (1, .int p1), (2, .int p2)])  (hw : w_X4_without p1 p2 post M) : W p l e rmX4_without s m args below meth c H locs 0 0 (MQ below (va_Ql post (wB D (MW dT a) MI A) A) args s 0 0 A) (F0 m 0 ls []) := by
  have hx := hC.1
  have hb := hC.2.1
  have hown := hC.2.2.2.1
  have hts := hC.2.2.2.2.1
  unfold w_X4_without at hw
  refine lv_aload_n hx hb dX4_without_0 rfl (lv_at hl 0 rfl) ?_
  refine lv_iload_n hx hb dX4_without_1 rfl (lv_at hl 1 rfl) ?_
  refine inv_q1171 hC hA hS hl.1 hw ⟨Nat.le_of_ble_eq_true rfl, Nat.le_of_ble_eq_true rfl⟩ (Nat.le_of_ble_eq_true rfl) ⟨Nat.zero_le _, Nat.zero_le _⟩ dX4_without_2 (fun r1 H locs hw hS => ?_)
  refine lv_if_eq (tgt := 35) hx hb dX4_without_5 (by decide) (fun c2 => ?_) (fun c2 => ?_)
  · have hw := hw.1 c2
    refine lv_bipush (v := (-2)) hx hb dX4_without_35 (by decide) ?_
    refine inv_q1143 hC hS hl.1 hw ⟨Nat.le_of_ble_eq_true rfl, Nat.le_of_ble_eq_true rfl⟩ (Nat.le_of_ble_eq_true rfl) ⟨Nat.zero_le _, Nat.zero_le _⟩ dX4_without_37 (fun r3 H locs hw hS => ?_)
    exact wRetl hC hS hw (Nat.le_refl _) (Nat.le_refl _) dX4_without_40
  · have hw := hw.2 c2
    refine lv_iload_n hx hb dX4_without_8 rfl (lv_at hl 2 rfl) ?_
    refine lv_iconst (v := 0) hx hb dX4_without_9 (by decide) ?_
    refine lv_iconst (v := 1) hx hb dX4_without_10 (by decide) ?_
    refine inv_q1007 hC hS hl.1 hw ⟨Nat.le_of_ble_eq_true rfl, Nat.le_of_ble_eq_true rfl⟩ (Nat.le_of_ble_eq_true rfl) ⟨Nat.zero_le _, Nat.zero_le _⟩ dX4_without_11 (fun r4 H locs hw hS => ?_)
    refine lv_if_eq (tgt := 35) hx hb dX4_without_14 (by decide) (fun c5 => ?_) (fun c5 => ?_)
    · have hw := hw.1 c5
      refine lv_bipush (v := (-2)) hx hb dX4_without_35 (by decide) ?_
      refine inv_q1143 hC hS hl.1 hw ⟨Nat.le_of_ble_eq_true rfl, Nat.le_of_ble_eq_true rfl⟩ (Nat.le_of_ble_eq_true rfl) ⟨Nat.zero_le _, Nat.zero_le _⟩ dX4_without_37 (fun r6 H locs hw hS => ?_)
      exact wRetl hC hS hw (Nat.le_refl _) (Nat.le_refl _) dX4_without_40
    · have hw := hw.2 c5
      refine lv_aload_n hx hb dX4_without_17 rfl (lv_at hl 0 rfl) ?_
      refine lv_aload_n hx hb dX4_without_18 rfl (lv_at hl 0 rfl) ?_
      refine ld_q941 hC hS dX4_without_19 ?_
      refine lv_iconst (v := 1) hx hb dX4_without_22 (by decide) ?_
      refine lv_iload_n hx hb dX4_without_23 rfl (lv_at hl 1 rfl) ?_
      refine lv_ishl hx hb dX4_without_24 ?_
      refine lv_iconst (v := (-1)) hx hb dX4_without_25 (by decide) ?_
      refine lv_ixor hx hb dX4_without_26 ?_
      refine lv_iand hx hb dX4_without_27 ?_
      refine lv_iload_n hx hb dX4_without_28 rfl (lv_at hl 2 rfl) ?_
      refine inv_q1090 hC hA hS hl.1 hw ⟨Nat.le_of_ble_eq_true rfl, Nat.le_of_ble_eq_true rfl⟩ (Nat.le_of_ble_eq_true rfl) ⟨Nat.zero_le _, Nat.zero_le _⟩ dX4_without_29 (fun r7 M8 H locs hw hS => ?_)
      refine lv_goto (tgt := 40) hx hb dX4_without_32 (by decide) ?_
      exact wRetl hC hS hw (Nat.le_refl _) (Nat.le_refl _) dX4_without_40
abbrev v_X4_without (M : MS) (p1 : Int32) (p2 : Int32) (post : Int64 → MS → Prop) : Prop := w_X4_without p1 p2 post M
set_option maxHeartbeats 4000000 in
set_option maxRecDepth 100000 in
theorem met_X4_without (l : Launch) (D : va_G) (dT : Nat → ClassId) (a : Nat → Nat) (sz : Nat) (M : MS) (p1 : Int32) (p2 : Int32) (post : Int64 → MS → Prop) (hw : v_X4_without M p1 p2 post) : Met l yX4_without (ws_ yX4_without cX4_without 3 (some .long)) rmX4_without (wPc D dT (MW dT a) MI sz M [.ref (a 0), .int p1, .int p2]) (va_Ql post (wB D (MW dT a) MI (va_A ((MW dT a) M) sz)) (va_A ((MW dT a) M) sz)) 0 0 (va_A ((MW dT a) M) sz) :=
  wEnt (Q := fun A => (va_Ql post (wB D (MW dT a) MI A) A)) (by decide) (Nat.le_of_ble_eq_true rfl) (fun p e s m below meth c A ls hC _ hA hS hl => k_X4_without_0 hC hA _ hS hl hw) sz
theorem hd_X4_without : yX4_without.cls ≠ "java/lang/invoke/MethodHandle" ∧ yX4_without.cls ≠ "java/lang/invoke/VarHandle" ∧ (parseMethodDescriptor yX4_without.desc).map (fun d => d.parameters.length) = some 2 := by decide +kernel
section
variable {p : Program} {l : Launch} {e : Env} {R : Room} {s : State} {m : MethodId} {args : Array Value} {below : List Frame} {meth : Method} {c : Code} {H : Heap} {locs : List Loc} {cells slots : Nat} {Q : State → Prop} {cc : ByteArray} {nL : Nat} {ret : Option FieldType} {pc : Nat} {ls : Array Slot} {rest : List Value}
set_option maxHeartbeats 4000000 in
set_option maxRecDepth 100000 in
theorem inv_q1327 {D : va_G} {dT : Nat → ClassId} {a : Nat → Nat} {A : Nat → Prop} {M : MS} {p1 : Int32} {p2 : Int32} {post : Int64 → MS → Prop} (hC : wCx RX4 cc nL ret D dT p s m args meth c) (hA : wAz A s) (hS : StM D dT a A s M H locs) (hl : ls.size = nL) (hw : v_X4_without M p1 p2 post) (hR : rmX4_without.frames + 1 ≤ R.frames ∧ 8 + (3 + 11) + rmX4_without.locals ≤ R.locals) (hrest : (rest.map fun v => v.category).sum ≤ 8) (hf : cells ≤ R.cells ∧ slots ≤ R.slots) (hdg : decode cc pc = .ok (.invokevirtual 244, 3)) (kk : ∀ (r : Int64) (u : MS) (H1 : Heap) (locs1 : List Loc), post r u → StM D dT a A s u H1 locs1 → W p l e R s m args below meth c H1 locs1 cells slots Q (F0 m (pc + 3) ls (.long r :: rest))) : W p l e R s m args below meth c H locs cells slots Q (F0 m pc ls (.int p2 :: .int p1 :: .ref (a 0) :: rest)) := by
  exact wCallVl (As := [.int p1, .int p2]) (rest := rest) (mc := 0) (ms := 0) 0 hC (met_X4_without l D dT a H.size M p1 p2 post hw) (lw_V q1327 q1168 q1169 q89 q1170) ⟨⟨rfl, rfl⟩, hd_X4_without, hR, hf⟩ rfl rfl rfl hA hS hl rfl hrest hdg (fun r u H1 locs1 hp hS1 => kk r u H1 locs1 hp hS1)
end
/-! LeastFramesModel.why -/
def w_X4_why (p1 : Int32) (post : Int32 → MS → Prop) (M : MS) : Prop :=
  v_X4_isBar M p1 (fun r1 => (r1 = (0 : Int32) → (post ((-2) : Int32) M)) ∧ (¬ r1 = (0 : Int32) → (v_X4_faultOf M ((M_bars M) &&& ((1 <<< (p1 &&& 31)) ^^^ (-1))) (fun r3 M4 => post r3 M4))))
abbrev rmX4_why : Room := { frames := 6, cells := 0, slots := 0, locals := 136 }
set_option maxHeartbeats 4000000 in
set_option maxRecDepth 100000 in
theorem k_X4_why_0 {p : Program} {l : Launch} {e : Env} {s : State} {m : MethodId} {args : Array Value} {below : List Frame} {meth : Method} {c : Code} {D : va_G} {dT : Nat → ClassId} {a : Nat → Nat} {A : Nat → Prop}  {p1 : Int32} {post : Int32 → MS → Prop} (hC : wCx RX4 cX4_why 2 (some .int) D dT p s m args meth c) (hA : wAz A s) (M : MS) {H : Heap} {locs : List Loc} {ls : Array Slot} (hS : StM D dT a A s M H locs) (hl : lv_has ls 2 [(0, .ref (a 0)), (1, .int p1)])  (hw : w_X4_why p1 post M) : W p l e rmX4_why s m args below meth c H locs 0 0 (MQ below (va_Qi post (wB D (MW dT a) MI A) A) args s 0 0 A) (F0 m 0 ls []) := by
  have hx := hC.1
  have hb := hC.2.1
  have hown := hC.2.2.2.1
  have hts := hC.2.2.2.2.1
  unfold w_X4_why at hw
  refine lv_aload_n hx hb dX4_why_0 rfl (lv_at hl 0 rfl) ?_
  refine lv_iload_n hx hb dX4_why_1 rfl (lv_at hl 1 rfl) ?_
  refine inv_q1171 hC hA hS hl.1 hw ⟨Nat.le_of_ble_eq_true rfl, Nat.le_of_ble_eq_true rfl⟩ (Nat.le_of_ble_eq_true rfl) ⟨Nat.zero_le _, Nat.zero_le _⟩ dX4_why_2 (fun r1 H locs hw hS => ?_)
  refine lv_if_eq (tgt := 25) hx hb dX4_why_5 (by decide) (fun c2 => ?_) (fun c2 => ?_)
  · have hw := hw.1 c2
    refine lv_bipush (v := (-2)) hx hb dX4_why_25 (by decide) ?_
    exact wReti hC hS hw (Nat.le_refl _) (Nat.le_refl _) dX4_why_27
  · have hw := hw.2 c2
    refine lv_aload_n hx hb dX4_why_8 rfl (lv_at hl 0 rfl) ?_
    refine lv_aload_n hx hb dX4_why_9 rfl (lv_at hl 0 rfl) ?_
    refine ld_q941 hC hS dX4_why_10 ?_
    refine lv_iconst (v := 1) hx hb dX4_why_13 (by decide) ?_
    refine lv_iload_n hx hb dX4_why_14 rfl (lv_at hl 1 rfl) ?_
    refine lv_ishl hx hb dX4_why_15 ?_
    refine lv_iconst (v := (-1)) hx hb dX4_why_16 (by decide) ?_
    refine lv_ixor hx hb dX4_why_17 ?_
    refine lv_iand hx hb dX4_why_18 ?_
    refine inv_q1102 hC hA hS hl.1 hw ⟨Nat.le_of_ble_eq_true rfl, Nat.le_of_ble_eq_true rfl⟩ (Nat.le_of_ble_eq_true rfl) ⟨Nat.zero_le _, Nat.zero_le _⟩ dX4_why_19 (fun r3 M4 H locs hw hS => ?_)
    refine lv_goto (tgt := 27) hx hb dX4_why_22 (by decide) ?_
    exact wReti hC hS hw (Nat.le_refl _) (Nat.le_refl _) dX4_why_27
abbrev v_X4_why (M : MS) (p1 : Int32) (post : Int32 → MS → Prop) : Prop := w_X4_why p1 post M
set_option maxHeartbeats 4000000 in
set_option maxRecDepth 100000 in
theorem met_X4_why (l : Launch) (D : va_G) (dT : Nat → ClassId) (a : Nat → Nat) (sz : Nat) (M : MS) (p1 : Int32) (post : Int32 → MS → Prop) (hw : v_X4_why M p1 post) : Met l yX4_why (ws_ yX4_why cX4_why 2 (some .int)) rmX4_why (wPc D dT (MW dT a) MI sz M [.ref (a 0), .int p1]) (va_Qi post (wB D (MW dT a) MI (va_A ((MW dT a) M) sz)) (va_A ((MW dT a) M) sz)) 0 0 (va_A ((MW dT a) M) sz) :=
  wEnt (Q := fun A => (va_Qi post (wB D (MW dT a) MI A) A)) (by decide) (Nat.le_of_ble_eq_true rfl) (fun p e s m below meth c A ls hC _ hA hS hl => k_X4_why_0 hC hA _ hS hl hw) sz
theorem hd_X4_why : yX4_why.cls ≠ "java/lang/invoke/MethodHandle" ∧ yX4_why.cls ≠ "java/lang/invoke/VarHandle" ∧ (parseMethodDescriptor yX4_why.desc).map (fun d => d.parameters.length) = some 1 := by decide +kernel
section
variable {p : Program} {l : Launch} {e : Env} {R : Room} {s : State} {m : MethodId} {args : Array Value} {below : List Frame} {meth : Method} {c : Code} {H : Heap} {locs : List Loc} {cells slots : Nat} {Q : State → Prop} {cc : ByteArray} {nL : Nat} {ret : Option FieldType} {pc : Nat} {ls : Array Slot} {rest : List Value}
set_option maxHeartbeats 4000000 in
set_option maxRecDepth 100000 in
theorem inv_q1328 {D : va_G} {dT : Nat → ClassId} {a : Nat → Nat} {A : Nat → Prop} {M : MS} {p1 : Int32} {post : Int32 → MS → Prop} (hC : wCx RX4 cc nL ret D dT p s m args meth c) (hA : wAz A s) (hS : StM D dT a A s M H locs) (hl : ls.size = nL) (hw : v_X4_why M p1 post) (hR : rmX4_why.frames + 1 ≤ R.frames ∧ 8 + (2 + 11) + rmX4_why.locals ≤ R.locals) (hrest : (rest.map fun v => v.category).sum ≤ 8) (hf : cells ≤ R.cells ∧ slots ≤ R.slots) (hdg : decode cc pc = .ok (.invokevirtual 247, 3)) (kk : ∀ (r : Int32) (u : MS) (H1 : Heap) (locs1 : List Loc), post r u → StM D dT a A s u H1 locs1 → W p l e R s m args below meth c H1 locs1 cells slots Q (F0 m (pc + 3) ls (.int r :: rest))) : W p l e R s m args below meth c H locs cells slots Q (F0 m pc ls (.int p1 :: .ref (a 0) :: rest)) := by
  exact wCallVi (As := [.int p1]) (rest := rest) (mc := 0) (ms := 0) 0 hC (met_X4_why l D dT a H.size M p1 post hw) (lw_V q1328 q1176 q1177 q89 q1178) ⟨⟨rfl, rfl⟩, hd_X4_why, hR, hf⟩ rfl rfl rfl hA hS hl rfl hrest hdg (fun r u H1 locs1 hp hS1 => kk r u H1 locs1 hp hS1)
end
/-! LeastFramesModel.isNeeded -/
def w_X4_isNeeded_29 (p1 : Int32) (p2 : Int32) (post : Int32 → MS → Prop) (M : MS) : Prop :=
  post (1 : Int32) M
def w_X4_isNeeded (p1 : Int32) (p2 : Int32) (post : Int32 → MS → Prop) (M : MS) : Prop :=
  v_X4_bestOf M ((M_bars M) &&& ((1 <<< (p1 &&& 31)) ^^^ (-1))) (fun r1 M2 => (r1 = ((-1) : Int32) → (w_X4_isNeeded_29 p1 p2 post M2)) ∧ (¬ r1 = ((-1) : Int32) → (v_X4_isLess M2 p2 r1 (fun r4 => (r4 = (0 : Int32) → (post (0 : Int32) M2)) ∧ (¬ r4 = (0 : Int32) → (w_X4_isNeeded_29 p1 p2 post M2))))))
abbrev rmX4_isNeeded : Room := { frames := 8, cells := 0, slots := 0, locals := 181 }
set_option maxHeartbeats 4000000 in
set_option maxRecDepth 100000 in
theorem k_X4_isNeeded_29 {p : Program} {l : Launch} {e : Env} {s : State} {m : MethodId} {args : Array Value} {below : List Frame} {meth : Method} {c : Code} {D : va_G} {dT : Nat → ClassId} {a : Nat → Nat} {A : Nat → Prop}  {p1 : Int32} {p2 : Int32} {post : Int32 → MS → Prop} (hC : wCx RX4 cX4_isNeeded 4 (some .boolean) D dT p s m args meth c) (hA : wAz A s) (M : MS) {H : Heap} {locs : List Loc} {ls : Array Slot} (hS : StM D dT a A s M H locs) (hl : lv_has ls 4 [])  (hw : w_X4_isNeeded_29 p1 p2 post M) : W p l e rmX4_isNeeded s m args below meth c H locs 0 0 (MQ below (va_Qi post (wB D (MW dT a) MI A) A) args s 0 0 A) (F0 m 29 ls []) := by
  have hx := hC.1
  have hb := hC.2.1
  have hown := hC.2.2.2.1
  have hts := hC.2.2.2.2.1
  unfold w_X4_isNeeded_29 at hw
  refine lv_iconst (v := 1) hx hb dX4_isNeeded_29 (by decide) ?_
  refine lv_goto (tgt := 34) hx hb dX4_isNeeded_30 (by decide) ?_
  exact wRetz hC hS (by decide) hw (Nat.le_refl _) (Nat.le_refl _) dX4_isNeeded_34
set_option maxHeartbeats 4000000 in
set_option maxRecDepth 100000 in
theorem k_X4_isNeeded_0 {p : Program} {l : Launch} {e : Env} {s : State} {m : MethodId} {args : Array Value} {below : List Frame} {meth : Method} {c : Code} {D : va_G} {dT : Nat → ClassId} {a : Nat → Nat} {A : Nat → Prop}  {p1 : Int32} {p2 : Int32} {post : Int32 → MS → Prop} (hC : wCx RX4 cX4_isNeeded 4 (some .boolean) D dT p s m args meth c) (hA : wAz A s) (M : MS) {H : Heap} {locs : List Loc} {ls : Array Slot} (hS : StM D dT a A s M H locs) (hl : lv_has ls 4 [(0, .ref (a 0)), (1, .int p1), (2, .int p2)])  (hw : w_X4_isNeeded p1 p2 post M) : W p l e rmX4_isNeeded s m args below meth c H locs 0 0 (MQ below (va_Qi post (wB D (MW dT a) MI A) A) args s 0 0 A) (F0 m 0 ls []) := by
  have hx := hC.1
  have hb := hC.2.1
  have hown := hC.2.2.2.1
  have hts := hC.2.2.2.2.1
  unfold w_X4_isNeeded at hw
  refine lv_aload_n hx hb dX4_isNeeded_0 rfl (lv_at hl 0 rfl) ?_
  refine lv_aload_n hx hb dX4_isNeeded_1 rfl (lv_at hl 0 rfl) ?_
  refine ld_q941 hC hS dX4_isNeeded_2 ?_
  refine lv_iconst (v := 1) hx hb dX4_isNeeded_5 (by decide) ?_
  refine lv_iload_n hx hb dX4_isNeeded_6 rfl (lv_at hl 1 rfl) ?_
  refine lv_ishl hx hb dX4_isNeeded_7 ?_
  refine lv_iconst (v := (-1)) hx hb dX4_isNeeded_8 (by decide) ?_
  refine lv_ixor hx hb dX4_isNeeded_9 ?_
  refine lv_iand hx hb dX4_isNeeded_10 ?_
  refine inv_q1094 hC hA hS hl.1 hw ⟨Nat.le_of_ble_eq_true rfl, Nat.le_of_ble_eq_true rfl⟩ (Nat.le_of_ble_eq_true rfl) ⟨Nat.zero_le _, Nat.zero_le _⟩ dX4_isNeeded_11 (fun r1 M2 H locs hw hS => ?_)
  refine lv_istore_n (lv' := [(3, .int r1), (0, .ref (a 0)), (1, .int p1), (2, .int p2)]) hx hb dX4_isNeeded_14 rfl hl (by decide) rfl (fun ls hl => ?_)
  refine lv_iload_n hx hb dX4_isNeeded_15 rfl (lv_at hl 0 rfl) ?_
  refine lv_iconst (v := (-1)) hx hb dX4_isNeeded_16 (by decide) ?_
  refine lv_icmp_eq (tgt := 29) hx hb dX4_isNeeded_17 (by decide) (fun c3 => ?_) (fun c3 => ?_)
  · have hw := hw.1 c3
    exact k_X4_isNeeded_29 hC hA _ hS (lv_sub hl [] rfl) hw
  · have hw := hw.2 c3
    refine lv_aload_n hx hb dX4_isNeeded_20 rfl (lv_at hl 1 rfl) ?_
    refine lv_iload_n hx hb dX4_isNeeded_21 rfl (lv_at hl 3 rfl) ?_
    refine lv_iload_n hx hb dX4_isNeeded_22 rfl (lv_at hl 0 rfl) ?_
    refine inv_q1139 hC hA hS hl.1 hw ⟨Nat.le_of_ble_eq_true rfl, Nat.le_of_ble_eq_true rfl⟩ (Nat.le_of_ble_eq_true rfl) ⟨Nat.zero_le _, Nat.zero_le _⟩ dX4_isNeeded_23 (fun r4 H locs hw hS => ?_)
    refine lv_if_eq (tgt := 33) hx hb dX4_isNeeded_26 (by decide) (fun c5 => ?_) (fun c5 => ?_)
    · have hw := hw.1 c5
      refine lv_iconst (v := 0) hx hb dX4_isNeeded_33 (by decide) ?_
      exact wRetz hC hS (by decide) hw (Nat.le_refl _) (Nat.le_refl _) dX4_isNeeded_34
    · have hw := hw.2 c5
      exact k_X4_isNeeded_29 hC hA _ hS (lv_sub hl [] rfl) hw
abbrev v_X4_isNeeded (M : MS) (p1 : Int32) (p2 : Int32) (post : Int32 → MS → Prop) : Prop := w_X4_isNeeded p1 p2 post M
set_option maxHeartbeats 4000000 in
set_option maxRecDepth 100000 in
theorem met_X4_isNeeded (l : Launch) (D : va_G) (dT : Nat → ClassId) (a : Nat → Nat) (sz : Nat) (M : MS) (p1 : Int32) (p2 : Int32) (post : Int32 → MS → Prop) (hw : v_X4_isNeeded M p1 p2 post) : Met l yX4_isNeeded (ws_ yX4_isNeeded cX4_isNeeded 4 (some .boolean)) rmX4_isNeeded (wPc D dT (MW dT a) MI sz M [.ref (a 0), .int p1, .int p2]) (va_Qi post (wB D (MW dT a) MI (va_A ((MW dT a) M) sz)) (va_A ((MW dT a) M) sz)) 0 0 (va_A ((MW dT a) M) sz) :=
  wEnt (Q := fun A => (va_Qi post (wB D (MW dT a) MI A) A)) (by decide) (Nat.le_of_ble_eq_true rfl) (fun p e s m below meth c A ls hC _ hA hS hl => k_X4_isNeeded_0 hC hA _ hS hl hw) sz
theorem hd_X4_isNeeded : yX4_isNeeded.cls ≠ "java/lang/invoke/MethodHandle" ∧ yX4_isNeeded.cls ≠ "java/lang/invoke/VarHandle" ∧ (parseMethodDescriptor yX4_isNeeded.desc).map (fun d => d.parameters.length) = some 2 := by decide +kernel
section
variable {p : Program} {l : Launch} {e : Env} {R : Room} {s : State} {m : MethodId} {args : Array Value} {below : List Frame} {meth : Method} {c : Code} {H : Heap} {locs : List Loc} {cells slots : Nat} {Q : State → Prop} {cc : ByteArray} {nL : Nat} {ret : Option FieldType} {pc : Nat} {ls : Array Slot} {rest : List Value}
set_option maxHeartbeats 4000000 in
set_option maxRecDepth 100000 in
theorem inv_q1187 {D : va_G} {dT : Nat → ClassId} {a : Nat → Nat} {A : Nat → Prop} {M : MS} {p1 : Int32} {p2 : Int32} {post : Int32 → MS → Prop} (hC : wCx RX4 cc nL ret D dT p s m args meth c) (hA : wAz A s) (hS : StM D dT a A s M H locs) (hl : ls.size = nL) (hw : v_X4_isNeeded M p1 p2 post) (hR : rmX4_isNeeded.frames + 1 ≤ R.frames ∧ 8 + (4 + 11) + rmX4_isNeeded.locals ≤ R.locals) (hrest : (rest.map fun v => v.category).sum ≤ 8) (hf : cells ≤ R.cells ∧ slots ≤ R.slots) (hdg : decode cc pc = .ok (.invokevirtual 177, 3)) (kk : ∀ (r : Int32) (u : MS) (H1 : Heap) (locs1 : List Loc), post r u → StM D dT a A s u H1 locs1 → W p l e R s m args below meth c H1 locs1 cells slots Q (F0 m (pc + 3) ls (.int r :: rest))) : W p l e R s m args below meth c H locs cells slots Q (F0 m pc ls (.int p2 :: .int p1 :: .ref (a 0) :: rest)) := by
  exact wCallVi (As := [.int p1, .int p2]) (rest := rest) (mc := 0) (ms := 0) 0 hC (met_X4_isNeeded l D dT a H.size M p1 p2 post hw) (lw_V q1187 q1189 qs69 q89 q1190) ⟨⟨rfl, rfl⟩, hd_X4_isNeeded, hR, hf⟩ rfl rfl rfl hA hS hl rfl hrest hdg (fun r u H1 locs1 hp hS1 => kk r u H1 locs1 hp hS1)
end
/-! LeastFramesModel.neededNow -/
def w_X4_neededNow_51 (K13 : MS → Int32 → Int32 → Int32 → Prop) (post : Int32 → MS → Prop) (M : MS) (x1 : Int32) (x3 : Int32) (y0 : Int32) (y1 : Int32) : Prop :=
  ∀ v1 : Int32, v1 = y1 ||| y0 → (∀ v2 : Int32, v2 = x3 + 1 → (K13 M x1 v1 v2))
def w_X4_neededNow_59 (post : Int32 → MS → Prop) (M : MS) (x1 : Int32) (x2 : Int32) : Prop :=
  (x1 = ((-1) : Int32) → (post ((-3) : Int32) M)) ∧ (¬ x1 = ((-1) : Int32) → (post x2 M))
def w_X4_neededNow_13b (K13 : MS → Int32 → Int32 → Int32 → Prop) (post : Int32 → MS → Prop) (M : MS) (x1 : Int32) (x2 : Int32) (x3 : Int32) : Prop :=
  v_X4_pairs M (fun r1 => (r1 ≤ x3 → (w_X4_neededNow_59 post M x1 x2)) ∧ (¬ r1 ≤ x3 → ((x1 = ((-1) : Int32) → (w_X4_neededNow_59 post M x1 x2)) ∧ (¬ x1 = ((-1) : Int32) → (v_X4_isBar M x3 (fun r4 => (r4 = (0 : Int32) → (w_X4_neededNow_51 K13 post M x1 x3 0 x2)) ∧ (¬ r4 = (0 : Int32) → (v_X4_isNeeded M x3 x1 (fun r6 M7 => (r6 = (0 : Int32) → (w_X4_neededNow_51 K13 post M7 x1 x3 0 x2)) ∧ (¬ r6 = (0 : Int32) → (w_X4_neededNow_51 K13 post M7 x1 x3 (1 <<< (x3 &&& 31)) x2)))))))))))
def w_X4_neededNow_13 (post : Int32 → MS → Prop) : Nat → MS → Int32 → Int32 → Int32 → Prop
  | 0, _, _, _, _ => False
  | n + 1, M, x1, x2, x3 => w_X4_neededNow_13b  (w_X4_neededNow_13 post n) post M x1 x2 x3
def w_X4_neededNow (post : Int32 → MS → Prop) (M : MS) : Prop :=
  v_X4_bestOf M (M_bars M) (fun r1 M2 => ∃ n, w_X4_neededNow_13 post n M2 r1 0 0)
abbrev rmX4_neededNow : Room := { frames := 9, cells := 0, slots := 0, locals := 204 }
set_option maxHeartbeats 4000000 in
set_option maxRecDepth 100000 in
theorem k_X4_neededNow_51 {p : Program} {l : Launch} {e : Env} {s : State} {m : MethodId} {args : Array Value} {below : List Frame} {meth : Method} {c : Code} {D : va_G} {dT : Nat → ClassId} {a : Nat → Nat} {A : Nat → Prop}  {K13 : MS → Int32 → Int32 → Int32 → Prop} {post : Int32 → MS → Prop} (hC : wCx RX4 cX4_neededNow 4 (some .int) D dT p s m args meth c) (hA : wAz A s) (hK13 : ∀ (M : MS) (x1 : Int32) (x2 : Int32) (x3 : Int32), K13 M x1 x2 x3 → ∀ {H : Heap} {locs : List Loc} {ls : Array Slot}, StM D dT a A s M H locs → lv_has ls 4 [(0, .ref (a 0)), (1, .int x1), (2, .int x2), (3, .int x3)] → W p l e rmX4_neededNow s m args below meth c H locs 0 0 (MQ below (va_Qi post (wB D (MW dT a) MI A) A) args s 0 0 A) (F0 m 13 ls [])) (M : MS) (x1 : Int32) (x3 : Int32) (y0 : Int32) (y1 : Int32) {H : Heap} {locs : List Loc} {ls : Array Slot} (hS : StM D dT a A s M H locs) (hl : lv_has ls 4 [(0, .ref (a 0)), (1, .int x1), (3, .int x3)])  (hw : w_X4_neededNow_51 K13 post M x1 x3 y0 y1) : W p l e rmX4_neededNow s m args below meth c H locs 0 0 (MQ below (va_Qi post (wB D (MW dT a) MI A) A) args s 0 0 A) (F0 m 51 ls [.int y0, .int y1]) := by
  have hx := hC.1
  have hb := hC.2.1
  have hown := hC.2.2.2.1
  have hts := hC.2.2.2.2.1
  unfold w_X4_neededNow_51 at hw
  refine lv_ior hx hb dX4_neededNow_51 ?_
  refine lv_topi (fun v1 ev1 => ?_)
  have hw := hw v1 ev1
  refine lv_istore_n (lv' := [(2, .int v1), (0, .ref (a 0)), (1, .int x1), (3, .int x3)]) hx hb dX4_neededNow_52 rfl hl (by decide) rfl (fun ls hl => ?_)
  obtain ⟨v2, ev2⟩ : ∃ y : Int32, y = x3 + 1 := ⟨_, rfl⟩
  have hw := hw v2 ev2
  refine lv_iinc (v := v2) (lv' := [(3, .int v2), (2, .int v1), (0, .ref (a 0)), (1, .int x1)]) hx hb dX4_neededNow_53 hl (k := 3) rfl (by rw [ev2]; rfl) (by decide) rfl (fun ls hl => ?_)
  refine lv_goto (tgt := 13) hx hb dX4_neededNow_56 (by decide) ?_
  exact hK13 _ _ _ _ hw hS (lv_sub hl [2, 3, 1, 0] rfl)
set_option maxHeartbeats 4000000 in
set_option maxRecDepth 100000 in
theorem k_X4_neededNow_59 {p : Program} {l : Launch} {e : Env} {s : State} {m : MethodId} {args : Array Value} {below : List Frame} {meth : Method} {c : Code} {D : va_G} {dT : Nat → ClassId} {a : Nat → Nat} {A : Nat → Prop}  {post : Int32 → MS → Prop} (hC : wCx RX4 cX4_neededNow 4 (some .int) D dT p s m args meth c) (hA : wAz A s) (M : MS) (x1 : Int32) (x2 : Int32) {H : Heap} {locs : List Loc} {ls : Array Slot} (hS : StM D dT a A s M H locs) (hl : lv_has ls 4 [(1, .int x1), (2, .int x2)])  (hw : w_X4_neededNow_59 post M x1 x2) : W p l e rmX4_neededNow s m args below meth c H locs 0 0 (MQ below (va_Qi post (wB D (MW dT a) MI A) A) args s 0 0 A) (F0 m 59 ls []) := by
  have hx := hC.1
  have hb := hC.2.1
  have hown := hC.2.2.2.1
  have hts := hC.2.2.2.2.1
  unfold w_X4_neededNow_59 at hw
  refine lv_iload_n hx hb dX4_neededNow_59 rfl (lv_at hl 0 rfl) ?_
  refine lv_iconst (v := (-1)) hx hb dX4_neededNow_60 (by decide) ?_
  refine lv_icmp_ne (tgt := 69) hx hb dX4_neededNow_61 (by decide) (fun c1 => ?_) (fun c1 => ?_)
  · have hw := hw.2 c1
    refine lv_iload_n hx hb dX4_neededNow_69 rfl (lv_at hl 1 rfl) ?_
    exact wReti hC hS hw (Nat.le_refl _) (Nat.le_refl _) dX4_neededNow_70
  · have hw := hw.1 c1
    refine lv_bipush (v := (-3)) hx hb dX4_neededNow_64 (by decide) ?_
    refine lv_goto (tgt := 70) hx hb dX4_neededNow_66 (by decide) ?_
    exact wReti hC hS hw (Nat.le_refl _) (Nat.le_refl _) dX4_neededNow_70
set_option maxHeartbeats 4000000 in
set_option maxRecDepth 100000 in
theorem k_X4_neededNow_13b {p : Program} {l : Launch} {e : Env} {s : State} {m : MethodId} {args : Array Value} {below : List Frame} {meth : Method} {c : Code} {D : va_G} {dT : Nat → ClassId} {a : Nat → Nat} {A : Nat → Prop}  {K13 : MS → Int32 → Int32 → Int32 → Prop} {post : Int32 → MS → Prop} (hC : wCx RX4 cX4_neededNow 4 (some .int) D dT p s m args meth c) (hA : wAz A s) (hK13 : ∀ (M : MS) (x1 : Int32) (x2 : Int32) (x3 : Int32), K13 M x1 x2 x3 → ∀ {H : Heap} {locs : List Loc} {ls : Array Slot}, StM D dT a A s M H locs → lv_has ls 4 [(0, .ref (a 0)), (1, .int x1), (2, .int x2), (3, .int x3)] → W p l e rmX4_neededNow s m args below meth c H locs 0 0 (MQ below (va_Qi post (wB D (MW dT a) MI A) A) args s 0 0 A) (F0 m 13 ls [])) (M : MS) (x1 : Int32) (x2 : Int32) (x3 : Int32) {H : Heap} {locs : List Loc} {ls : Array Slot} (hS : StM D dT a A s M H locs) (hl : lv_has ls 4 [(0, .ref (a 0)), (1, .int x1), (2, .int x2), (3, .int x3)])  (hw : w_X4_neededNow_13b K13 post M x1 x2 x3) : W p l e rmX4_neededNow s m args below meth c H locs 0 0 (MQ below (va_Qi post (wB D (MW dT a) MI A) A) args s 0 0 A) (F0 m 13 ls []) := by
  have hx := hC.1
  have hb := hC.2.1
  have hown := hC.2.2.2.1
  have hts := hC.2.2.2.2.1
  unfold w_X4_neededNow_13b at hw
  refine lv_iload_n hx hb dX4_neededNow_13 rfl (lv_at hl 3 rfl) ?_
  refine lv_aload_n hx hb dX4_neededNow_14 rfl (lv_at hl 0 rfl) ?_
  refine inv_q1014 hC hA hS hl.1 hw ⟨Nat.le_of_ble_eq_true rfl, Nat.le_of_ble_eq_true rfl⟩ (Nat.le_of_ble_eq_true rfl) ⟨Nat.zero_le _, Nat.zero_le _⟩ dX4_neededNow_15 (fun r1 H locs hw hS => ?_)
  refine lv_icmp_ge (tgt := 59) hx hb dX4_neededNow_18 (by decide) (fun c2 => ?_) (fun c2 => ?_)
  · have hw := hw.1 c2
    exact k_X4_neededNow_59 hC hA _ _ _ hS (lv_sub hl [1, 2] rfl) hw
  · have hw := hw.2 c2
    refine lv_iload_n hx hb dX4_neededNow_21 rfl (lv_at hl 1 rfl) ?_
    refine lv_iconst (v := (-1)) hx hb dX4_neededNow_22 (by decide) ?_
    refine lv_icmp_eq (tgt := 59) hx hb dX4_neededNow_23 (by decide) (fun c3 => ?_) (fun c3 => ?_)
    · have hw := hw.1 c3
      exact k_X4_neededNow_59 hC hA _ _ _ hS (lv_sub hl [1, 2] rfl) hw
    · have hw := hw.2 c3
      refine lv_iload_n hx hb dX4_neededNow_26 rfl (lv_at hl 2 rfl) ?_
      refine lv_aload_n hx hb dX4_neededNow_27 rfl (lv_at hl 0 rfl) ?_
      refine lv_iload_n hx hb dX4_neededNow_28 rfl (lv_at hl 3 rfl) ?_
      refine inv_q1171 hC hA hS hl.1 hw ⟨Nat.le_of_ble_eq_true rfl, Nat.le_of_ble_eq_true rfl⟩ (Nat.le_of_ble_eq_true rfl) ⟨Nat.zero_le _, Nat.zero_le _⟩ dX4_neededNow_29 (fun r4 H locs hw hS => ?_)
      refine lv_if_eq (tgt := 50) hx hb dX4_neededNow_32 (by decide) (fun c5 => ?_) (fun c5 => ?_)
      · have hw := hw.1 c5
        refine lv_iconst (v := 0) hx hb dX4_neededNow_50 (by decide) ?_
        exact k_X4_neededNow_51 hC hA hK13 _ _ _ _ _ hS (lv_sub hl [0, 1, 3] rfl) hw
      · have hw := hw.2 c5
        refine lv_aload_n hx hb dX4_neededNow_35 rfl (lv_at hl 0 rfl) ?_
        refine lv_iload_n hx hb dX4_neededNow_36 rfl (lv_at hl 3 rfl) ?_
        refine lv_iload_n hx hb dX4_neededNow_37 rfl (lv_at hl 1 rfl) ?_
        refine inv_q1187 hC hA hS hl.1 hw ⟨Nat.le_of_ble_eq_true rfl, Nat.le_of_ble_eq_true rfl⟩ (Nat.le_of_ble_eq_true rfl) ⟨Nat.zero_le _, Nat.zero_le _⟩ dX4_neededNow_38 (fun r6 M7 H locs hw hS => ?_)
        refine lv_if_eq (tgt := 50) hx hb dX4_neededNow_41 (by decide) (fun c8 => ?_) (fun c8 => ?_)
        · have hw := hw.1 c8
          refine lv_iconst (v := 0) hx hb dX4_neededNow_50 (by decide) ?_
          exact k_X4_neededNow_51 hC hA hK13 _ _ _ _ _ hS (lv_sub hl [0, 1, 3] rfl) hw
        · have hw := hw.2 c8
          refine lv_iconst (v := 1) hx hb dX4_neededNow_44 (by decide) ?_
          refine lv_iload_n hx hb dX4_neededNow_45 rfl (lv_at hl 3 rfl) ?_
          refine lv_ishl hx hb dX4_neededNow_46 ?_
          refine lv_goto (tgt := 51) hx hb dX4_neededNow_47 (by decide) ?_
          exact k_X4_neededNow_51 hC hA hK13 _ _ _ _ _ hS (lv_sub hl [0, 1, 3] rfl) hw
set_option maxHeartbeats 4000000 in
set_option maxRecDepth 100000 in
theorem k_X4_neededNow_13 {p : Program} {l : Launch} {e : Env} {s : State} {m : MethodId} {args : Array Value} {below : List Frame} {meth : Method} {c : Code} {D : va_G} {dT : Nat → ClassId} {a : Nat → Nat} {A : Nat → Prop}  {post : Int32 → MS → Prop} (hC : wCx RX4 cX4_neededNow 4 (some .int) D dT p s m args meth c) (hA : wAz A s) : ∀ (M : MS) (x1 : Int32) (x2 : Int32) (x3 : Int32) (n : Nat), ∀ {H : Heap} {locs : List Loc} {ls : Array Slot}, StM D dT a A s M H locs → lv_has ls 4 [(0, .ref (a 0)), (1, .int x1), (2, .int x2), (3, .int x3)] → w_X4_neededNow_13 post n M x1 x2 x3 → W p l e rmX4_neededNow s m args below meth c H locs 0 0 (MQ below (va_Qi post (wB D (MW dT a) MI A) A) args s 0 0 A) (F0 m 13 ls []) := by
  intro M x1 x2 x3 n
  induction n generalizing M x1 x2 x3 with
  | zero => intro H locs ls  hS hl hw; exact hw.elim
  | succ n ih =>
    intro H locs ls  hS hl hw
    exact k_X4_neededNow_13b hC hA (fun M x1 x2 x3 hk {H} {locs} {ls}  hS hl => ih M x1 x2 x3  hS hl hk) M x1 x2 x3  hS hl hw
set_option maxHeartbeats 4000000 in
set_option maxRecDepth 100000 in
theorem k_X4_neededNow_0 {p : Program} {l : Launch} {e : Env} {s : State} {m : MethodId} {args : Array Value} {below : List Frame} {meth : Method} {c : Code} {D : va_G} {dT : Nat → ClassId} {a : Nat → Nat} {A : Nat → Prop}  {post : Int32 → MS → Prop} (hC : wCx RX4 cX4_neededNow 4 (some .int) D dT p s m args meth c) (hA : wAz A s) (M : MS) {H : Heap} {locs : List Loc} {ls : Array Slot} (hS : StM D dT a A s M H locs) (hl : lv_has ls 4 [(0, .ref (a 0))])  (hw : w_X4_neededNow post M) : W p l e rmX4_neededNow s m args below meth c H locs 0 0 (MQ below (va_Qi post (wB D (MW dT a) MI A) A) args s 0 0 A) (F0 m 0 ls []) := by
  have hx := hC.1
  have hb := hC.2.1
  have hown := hC.2.2.2.1
  have hts := hC.2.2.2.2.1
  unfold w_X4_neededNow at hw
  refine lv_aload_n hx hb dX4_neededNow_0 rfl (lv_at hl 0 rfl) ?_
  refine lv_aload_n hx hb dX4_neededNow_1 rfl (lv_at hl 0 rfl) ?_
  refine ld_q941 hC hS dX4_neededNow_2 ?_
  refine inv_q1094 hC hA hS hl.1 hw ⟨Nat.le_of_ble_eq_true rfl, Nat.le_of_ble_eq_true rfl⟩ (Nat.le_of_ble_eq_true rfl) ⟨Nat.zero_le _, Nat.zero_le _⟩ dX4_neededNow_5 (fun r1 M2 H locs hw hS => ?_)
  refine lv_istore_n (lv' := [(1, .int r1), (0, .ref (a 0))]) hx hb dX4_neededNow_8 rfl hl (by decide) rfl (fun ls hl => ?_)
  refine lv_iconst (v := 0) hx hb dX4_neededNow_9 (by decide) ?_
  refine lv_istore_n (lv' := [(2, .int 0), (1, .int r1), (0, .ref (a 0))]) hx hb dX4_neededNow_10 rfl hl (by decide) rfl (fun ls hl => ?_)
  refine lv_iconst (v := 0) hx hb dX4_neededNow_11 (by decide) ?_
  refine lv_istore_n (lv' := [(3, .int 0), (2, .int 0), (1, .int r1), (0, .ref (a 0))]) hx hb dX4_neededNow_12 rfl hl (by decide) rfl (fun ls hl => ?_)
  obtain ⟨n, hw⟩ := hw
  exact k_X4_neededNow_13 hC hA _ _ _ _ n hS (lv_sub hl [3, 2, 1, 0] rfl) hw
abbrev v_X4_neededNow (M : MS) (post : Int32 → MS → Prop) : Prop := w_X4_neededNow post M
set_option maxHeartbeats 4000000 in
set_option maxRecDepth 100000 in
theorem met_X4_neededNow (l : Launch) (D : va_G) (dT : Nat → ClassId) (a : Nat → Nat) (sz : Nat) (M : MS) (post : Int32 → MS → Prop) (hw : v_X4_neededNow M post) : Met l yX4_neededNow (ws_ yX4_neededNow cX4_neededNow 4 (some .int)) rmX4_neededNow (wPc D dT (MW dT a) MI sz M [.ref (a 0)]) (va_Qi post (wB D (MW dT a) MI (va_A ((MW dT a) M) sz)) (va_A ((MW dT a) M) sz)) 0 0 (va_A ((MW dT a) M) sz) :=
  wEnt (Q := fun A => (va_Qi post (wB D (MW dT a) MI A) A)) (by decide) (Nat.le_of_ble_eq_true rfl) (fun p e s m below meth c A ls hC _ hA hS hl => k_X4_neededNow_0 hC hA _ hS hl hw) sz
theorem hd_X4_neededNow : yX4_neededNow.cls ≠ "java/lang/invoke/MethodHandle" ∧ yX4_neededNow.cls ≠ "java/lang/invoke/VarHandle" ∧ (parseMethodDescriptor yX4_neededNow.desc).map (fun d => d.parameters.length) = some 0 := by decide +kernel
section
variable {p : Program} {l : Launch} {e : Env} {R : Room} {s : State} {m : MethodId} {args : Array Value} {below : List Frame} {meth : Method} {c : Code} {H : Heap} {locs : List Loc} {cells slots : Nat} {Q : State → Prop} {cc : ByteArray} {nL : Nat} {ret : Option FieldType} {pc : Nat} {ls : Array Slot} {rest : List Value}
set_option maxHeartbeats 4000000 in
set_option maxRecDepth 100000 in
theorem inv_q1183 {D : va_G} {dT : Nat → ClassId} {a : Nat → Nat} {A : Nat → Prop} {M : MS} {post : Int32 → MS → Prop} (hC : wCx RX4 cc nL ret D dT p s m args meth c) (hA : wAz A s) (hS : StM D dT a A s M H locs) (hl : ls.size = nL) (hw : v_X4_neededNow M post) (hR : rmX4_neededNow.frames + 1 ≤ R.frames ∧ 8 + (4 + 11) + rmX4_neededNow.locals ≤ R.locals) (hrest : (rest.map fun v => v.category).sum ≤ 8) (hf : cells ≤ R.cells ∧ slots ≤ R.slots) (hdg : decode cc pc = .ok (.invokevirtual 180, 3)) (kk : ∀ (r : Int32) (u : MS) (H1 : Heap) (locs1 : List Loc), post r u → StM D dT a A s u H1 locs1 → W p l e R s m args below meth c H1 locs1 cells slots Q (F0 m (pc + 3) ls (.int r :: rest))) : W p l e R s m args below meth c H locs cells slots Q (F0 m pc ls (.ref (a 0) :: rest)) := by
  exact wCallVi (As := []) (rest := rest) (mc := 0) (ms := 0) 0 hC (met_X4_neededNow l D dT a H.size M post hw) (lw_V q1183 q1185 qs68 q89 q1186) ⟨⟨rfl, rfl⟩, hd_X4_neededNow, hR, hf⟩ rfl rfl rfl hA hS hl rfl hrest hdg (fun r u H1 locs1 hp hS1 => kk r u H1 locs1 hp hS1)
end
/-! LeastFramesModel.needed -/
def w_X4_needed (post : Int32 → MS → Prop) (M : MS) : Prop :=
  v_X4_neededNow M (fun r1 M2 => post r1 M2)
abbrev rmX4_needed : Room := { frames := 10, cells := 0, slots := 0, locals := 227 }
set_option maxHeartbeats 4000000 in
set_option maxRecDepth 100000 in
theorem k_X4_needed_0 {p : Program} {l : Launch} {e : Env} {s : State} {m : MethodId} {args : Array Value} {below : List Frame} {meth : Method} {c : Code} {D : va_G} {dT : Nat → ClassId} {a : Nat → Nat} {A : Nat → Prop}  {post : Int32 → MS → Prop} (hC : wCx RX4 cX4_needed 1 (some .int) D dT p s m args meth c) (hA : wAz A s) (M : MS) {H : Heap} {locs : List Loc} {ls : Array Slot} (hS : StM D dT a A s M H locs) (hl : lv_has ls 1 [(0, .ref (a 0))])  (hw : w_X4_needed post M) : W p l e rmX4_needed s m args below meth c H locs 0 0 (MQ below (va_Qi post (wB D (MW dT a) MI A) A) args s 0 0 A) (F0 m 0 ls []) := by
  have hx := hC.1
  have hb := hC.2.1
  have hown := hC.2.2.2.1
  have hts := hC.2.2.2.2.1
  unfold w_X4_needed at hw
  refine lv_aload_n hx hb dX4_needed_0 rfl (lv_at hl 0 rfl) ?_
  refine inv_q1183 hC hA hS hl.1 hw ⟨Nat.le_of_ble_eq_true rfl, Nat.le_of_ble_eq_true rfl⟩ (Nat.le_of_ble_eq_true rfl) ⟨Nat.zero_le _, Nat.zero_le _⟩ dX4_needed_1 (fun r1 M2 H locs hw hS => ?_)
  exact wReti hC hS hw (Nat.le_refl _) (Nat.le_refl _) dX4_needed_4
abbrev v_X4_needed (M : MS) (post : Int32 → MS → Prop) : Prop := w_X4_needed post M
set_option maxHeartbeats 4000000 in
set_option maxRecDepth 100000 in
theorem met_X4_needed (l : Launch) (D : va_G) (dT : Nat → ClassId) (a : Nat → Nat) (sz : Nat) (M : MS) (post : Int32 → MS → Prop) (hw : v_X4_needed M post) : Met l yX4_needed (ws_ yX4_needed cX4_needed 1 (some .int)) rmX4_needed (wPc D dT (MW dT a) MI sz M [.ref (a 0)]) (va_Qi post (wB D (MW dT a) MI (va_A ((MW dT a) M) sz)) (va_A ((MW dT a) M) sz)) 0 0 (va_A ((MW dT a) M) sz) :=
  wEnt (Q := fun A => (va_Qi post (wB D (MW dT a) MI A) A)) (by decide) (Nat.le_of_ble_eq_true rfl) (fun p e s m below meth c A ls hC _ hA hS hl => k_X4_needed_0 hC hA _ hS hl hw) sz
theorem hd_X4_needed : yX4_needed.cls ≠ "java/lang/invoke/MethodHandle" ∧ yX4_needed.cls ≠ "java/lang/invoke/VarHandle" ∧ (parseMethodDescriptor yX4_needed.desc).map (fun d => d.parameters.length) = some 0 := by decide +kernel
/-! LeastFramesModel.dearestNow -/
def w_X4_dearestNow_111 (K15 : MS → Int32 → Int32 → Int32 → Int32 → Int32 → Prop) (post : Int32 → MS → Prop) (M : MS) (x1 : Int32) (x2 : Int32) (x4 : Int32) (x5 : Int32) (x6 : Int32) : Prop :=
  ∀ v1 : Int32, v1 = x5 + 1 → (K15 M x1 x2 x6 x4 v1)
def w_X4_dearestNow_99 (K15 : MS → Int32 → Int32 → Int32 → Int32 → Int32 → Prop) (post : Int32 → MS → Prop) (M : MS) (x1 : Int32) (x3 : Int32) (x4 : Int32) (x5 : Int32) (x6 : Int32) (y0 : Int32) : Prop :=
  (x4 = (0 : Int32) → ((y0 = x5 → (w_X4_dearestNow_111 K15 post M x1 y0 x4 x5 x6)) ∧ (¬ y0 = x5 → (∀ v3 : Int32, v3 = x5 + 1 → (K15 M x1 y0 x3 x4 v3))))) ∧ (¬ x4 = (0 : Int32) → (w_X4_dearestNow_111 K15 post M x1 y0 x4 x5 x6))
def w_X4_dearestNow_93 (K15 : MS → Int32 → Int32 → Int32 → Int32 → Int32 → Prop) (post : Int32 → MS → Prop) (M : MS) (x1 : Int32) (x3 : Int32) (x4 : Int32) (x5 : Int32) (x6 : Int32) : Prop :=
  w_X4_dearestNow_99 K15 post M x1 x3 x4 x5 x6 x5
def w_X4_dearestNow_71 (K15 : MS → Int32 → Int32 → Int32 → Int32 → Int32 → Prop) (post : Int32 → MS → Prop) (M : MS) (x1 : Int32) (x2 : Int32) (x3 : Int32) (x5 : Int32) (x6 : Int32) (y0 : Int32) : Prop :=
  (y0 = (0 : Int32) → ((x2 = ((-1) : Int32) → (w_X4_dearestNow_93 K15 post M x1 x3 y0 x5 x6)) ∧ (¬ x2 = ((-1) : Int32) → (v_X4_isLess M x3 x6 (fun r3 => (r3 = (0 : Int32) → (w_X4_dearestNow_99 K15 post M x1 x3 y0 x5 x6 x2)) ∧ (¬ r3 = (0 : Int32) → (w_X4_dearestNow_93 K15 post M x1 x3 y0 x5 x6))))))) ∧ (¬ y0 = (0 : Int32) → (w_X4_dearestNow_93 K15 post M x1 x3 y0 x5 x6))
def w_X4_dearestNow_124 (post : Int32 → MS → Prop) (M : MS) (x1 : Int32) (x2 : Int32) : Prop :=
  (x1 = ((-3) : Int32) → (post ((-3) : Int32) M)) ∧ (¬ x1 = ((-3) : Int32) → (post x2 M))
def w_X4_dearestNow_15b (K15 : MS → Int32 → Int32 → Int32 → Int32 → Int32 → Prop) (post : Int32 → MS → Prop) (M : MS) (x1 : Int32) (x2 : Int32) (x3 : Int32) (x4 : Int32) (x5 : Int32) : Prop :=
  v_X4_pairs M (fun r1 => (r1 ≤ x5 → (w_X4_dearestNow_124 post M x1 x2)) ∧ (¬ r1 ≤ x5 → ((x1 ≤ (0 : Int32) → (w_X4_dearestNow_124 post M x1 x2)) ∧ (¬ x1 ≤ (0 : Int32) → ((((x1 >>> (x5 &&& 31)) &&& 1) = (1 : Int32) → ((x4 = (0 : Int32) → (v_X4_bestOf M ((M_bars M) &&& ((1 <<< (x5 &&& 31)) ^^^ (-1))) (fun r8 M9 => (r8 = ((-1) : Int32) → (w_X4_dearestNow_71 K15 post M9 x1 x2 x3 x5 r8 1)) ∧ (¬ r8 = ((-1) : Int32) → (w_X4_dearestNow_71 K15 post M9 x1 x2 x3 x5 r8 0))))) ∧ (¬ x4 = (0 : Int32) → (∀ v7 : Int32, v7 = x5 + 1 → (K15 M x1 x2 x3 x4 v7))))) ∧ (¬ ((x1 >>> (x5 &&& 31)) &&& 1) = (1 : Int32) → (∀ v5 : Int32, v5 = x5 + 1 → (K15 M x1 x2 x3 x4 v5))))))))
def w_X4_dearestNow_15 (post : Int32 → MS → Prop) : Nat → MS → Int32 → Int32 → Int32 → Int32 → Int32 → Prop
  | 0, _, _, _, _, _, _ => False
  | n + 1, M, x1, x2, x3, x4, x5 => w_X4_dearestNow_15b  (w_X4_dearestNow_15 post n) post M x1 x2 x3 x4 x5
def w_X4_dearestNow (post : Int32 → MS → Prop) (M : MS) : Prop :=
  v_X4_neededNow M (fun r1 M2 => ∃ n, w_X4_dearestNow_15 post n M2 r1 (-1) (-1) 0 0)
abbrev rmX4_dearestNow : Room := { frames := 10, cells := 0, slots := 0, locals := 227 }
set_option maxHeartbeats 4000000 in
set_option maxRecDepth 100000 in
theorem k_X4_dearestNow_111 {p : Program} {l : Launch} {e : Env} {s : State} {m : MethodId} {args : Array Value} {below : List Frame} {meth : Method} {c : Code} {D : va_G} {dT : Nat → ClassId} {a : Nat → Nat} {A : Nat → Prop}  {K15 : MS → Int32 → Int32 → Int32 → Int32 → Int32 → Prop} {post : Int32 → MS → Prop} (hC : wCx RX4 cX4_dearestNow 7 (some .int) D dT p s m args meth c) (hA : wAz A s) (hK15 : ∀ (M : MS) (x1 : Int32) (x2 : Int32) (x3 : Int32) (x4 : Int32) (x5 : Int32), K15 M x1 x2 x3 x4 x5 → ∀ {H : Heap} {locs : List Loc} {ls : Array Slot}, StM D dT a A s M H locs → lv_has ls 7 [(0, .ref (a 0)), (1, .int x1), (2, .int x2), (3, .int x3), (4, .int x4), (5, .int x5)] → W p l e rmX4_dearestNow s m args below meth c H locs 0 0 (MQ below (va_Qi post (wB D (MW dT a) MI A) A) args s 0 0 A) (F0 m 15 ls [])) (M : MS) (x1 : Int32) (x2 : Int32) (x4 : Int32) (x5 : Int32) (x6 : Int32) {H : Heap} {locs : List Loc} {ls : Array Slot} (hS : StM D dT a A s M H locs) (hl : lv_has ls 7 [(0, .ref (a 0)), (1, .int x1), (2, .int x2), (4, .int x4), (5, .int x5), (6, .int x6)])  (hw : w_X4_dearestNow_111 K15 post M x1 x2 x4 x5 x6) : W p l e rmX4_dearestNow s m args below meth c H locs 0 0 (MQ below (va_Qi post (wB D (MW dT a) MI A) A) args s 0 0 A) (F0 m 111 ls []) := by
  have hx := hC.1
  have hb := hC.2.1
  have hown := hC.2.2.2.1
  have hts := hC.2.2.2.2.1
  unfold w_X4_dearestNow_111 at hw
  refine lv_iload hx hb dX4_dearestNow_111 (lv_at hl 5 rfl) ?_
  refine lv_goto (tgt := 117) hx hb dX4_dearestNow_113 (by decide) ?_
  refine lv_istore_n (lv' := [(3, .int x6), (0, .ref (a 0)), (1, .int x1), (2, .int x2), (4, .int x4), (5, .int x5), (6, .int x6)]) hx hb dX4_dearestNow_117 rfl hl (by decide) rfl (fun ls hl => ?_)
  obtain ⟨v1, ev1⟩ : ∃ y : Int32, y = x5 + 1 := ⟨_, rfl⟩
  have hw := hw v1 ev1
  refine lv_iinc (v := v1) (lv' := [(5, .int v1), (3, .int x6), (0, .ref (a 0)), (1, .int x1), (2, .int x2), (4, .int x4), (6, .int x6)]) hx hb dX4_dearestNow_118 hl (k := 5) rfl (by rw [ev1]; rfl) (by decide) rfl (fun ls hl => ?_)
  refine lv_goto (tgt := 15) hx hb dX4_dearestNow_121 (by decide) ?_
  exact hK15 _ _ _ _ _ _ hw hS (lv_sub hl [2, 3, 4, 1, 5, 0] rfl)
set_option maxHeartbeats 4000000 in
set_option maxRecDepth 100000 in
theorem k_X4_dearestNow_99 {p : Program} {l : Launch} {e : Env} {s : State} {m : MethodId} {args : Array Value} {below : List Frame} {meth : Method} {c : Code} {D : va_G} {dT : Nat → ClassId} {a : Nat → Nat} {A : Nat → Prop}  {K15 : MS → Int32 → Int32 → Int32 → Int32 → Int32 → Prop} {post : Int32 → MS → Prop} (hC : wCx RX4 cX4_dearestNow 7 (some .int) D dT p s m args meth c) (hA : wAz A s) (hK15 : ∀ (M : MS) (x1 : Int32) (x2 : Int32) (x3 : Int32) (x4 : Int32) (x5 : Int32), K15 M x1 x2 x3 x4 x5 → ∀ {H : Heap} {locs : List Loc} {ls : Array Slot}, StM D dT a A s M H locs → lv_has ls 7 [(0, .ref (a 0)), (1, .int x1), (2, .int x2), (3, .int x3), (4, .int x4), (5, .int x5)] → W p l e rmX4_dearestNow s m args below meth c H locs 0 0 (MQ below (va_Qi post (wB D (MW dT a) MI A) A) args s 0 0 A) (F0 m 15 ls [])) (M : MS) (x1 : Int32) (x3 : Int32) (x4 : Int32) (x5 : Int32) (x6 : Int32) (y0 : Int32) {H : Heap} {locs : List Loc} {ls : Array Slot} (hS : StM D dT a A s M H locs) (hl : lv_has ls 7 [(0, .ref (a 0)), (1, .int x1), (3, .int x3), (4, .int x4), (5, .int x5), (6, .int x6)])  (hw : w_X4_dearestNow_99 K15 post M x1 x3 x4 x5 x6 y0) : W p l e rmX4_dearestNow s m args below meth c H locs 0 0 (MQ below (va_Qi post (wB D (MW dT a) MI A) A) args s 0 0 A) (F0 m 99 ls [.int y0]) := by
  have hx := hC.1
  have hb := hC.2.1
  have hown := hC.2.2.2.1
  have hts := hC.2.2.2.2.1
  unfold w_X4_dearestNow_99 at hw
  refine lv_istore_n (lv' := [(2, .int y0), (0, .ref (a 0)), (1, .int x1), (3, .int x3), (4, .int x4), (5, .int x5), (6, .int x6)]) hx hb dX4_dearestNow_99 rfl hl (by decide) rfl (fun ls hl => ?_)
  refine lv_iload hx hb dX4_dearestNow_100 (lv_at hl 4 rfl) ?_
  refine lv_if_ne (tgt := 111) hx hb dX4_dearestNow_102 (by decide) (fun c1 => ?_) (fun c1 => ?_)
  · have hw := hw.2 c1
    exact k_X4_dearestNow_111 hC hA hK15 _ _ _ _ _ _ hS (lv_sub hl [1, 2, 0, 4, 5, 6] rfl) hw
  · have hw := hw.1 c1
    refine lv_iload_n hx hb dX4_dearestNow_105 rfl (lv_at hl 0 rfl) ?_
    refine lv_iload hx hb dX4_dearestNow_106 (lv_at hl 5 rfl) ?_
    refine lv_icmp_ne (tgt := 116) hx hb dX4_dearestNow_108 (by decide) (fun c2 => ?_) (fun c2 => ?_)
    · have hw := hw.2 c2
      refine lv_iload_n hx hb dX4_dearestNow_116 rfl (lv_at hl 3 rfl) ?_
      refine lv_istore_n (lv' := [(3, .int x3), (2, .int y0), (0, .ref (a 0)), (1, .int x1), (4, .int x4), (5, .int x5), (6, .int x6)]) hx hb dX4_dearestNow_117 rfl hl (by decide) rfl (fun ls hl => ?_)
      obtain ⟨v3, ev3⟩ : ∃ y : Int32, y = x5 + 1 := ⟨_, rfl⟩
      have hw := hw v3 ev3
      refine lv_iinc (v := v3) (lv' := [(5, .int v3), (3, .int x3), (2, .int y0), (0, .ref (a 0)), (1, .int x1), (4, .int x4), (6, .int x6)]) hx hb dX4_dearestNow_118 hl (k := 5) rfl (by rw [ev3]; rfl) (by decide) rfl (fun ls hl => ?_)
      refine lv_goto (tgt := 15) hx hb dX4_dearestNow_121 (by decide) ?_
      exact hK15 _ _ _ _ _ _ hw hS (lv_sub hl [3, 4, 2, 1, 5, 0] rfl)
    · have hw := hw.1 c2
      exact k_X4_dearestNow_111 hC hA hK15 _ _ _ _ _ _ hS (lv_sub hl [1, 2, 0, 4, 5, 6] rfl) hw
set_option maxHeartbeats 4000000 in
set_option maxRecDepth 100000 in
theorem k_X4_dearestNow_93 {p : Program} {l : Launch} {e : Env} {s : State} {m : MethodId} {args : Array Value} {below : List Frame} {meth : Method} {c : Code} {D : va_G} {dT : Nat → ClassId} {a : Nat → Nat} {A : Nat → Prop}  {K15 : MS → Int32 → Int32 → Int32 → Int32 → Int32 → Prop} {post : Int32 → MS → Prop} (hC : wCx RX4 cX4_dearestNow 7 (some .int) D dT p s m args meth c) (hA : wAz A s) (hK15 : ∀ (M : MS) (x1 : Int32) (x2 : Int32) (x3 : Int32) (x4 : Int32) (x5 : Int32), K15 M x1 x2 x3 x4 x5 → ∀ {H : Heap} {locs : List Loc} {ls : Array Slot}, StM D dT a A s M H locs → lv_has ls 7 [(0, .ref (a 0)), (1, .int x1), (2, .int x2), (3, .int x3), (4, .int x4), (5, .int x5)] → W p l e rmX4_dearestNow s m args below meth c H locs 0 0 (MQ below (va_Qi post (wB D (MW dT a) MI A) A) args s 0 0 A) (F0 m 15 ls [])) (M : MS) (x1 : Int32) (x3 : Int32) (x4 : Int32) (x5 : Int32) (x6 : Int32) {H : Heap} {locs : List Loc} {ls : Array Slot} (hS : StM D dT a A s M H locs) (hl : lv_has ls 7 [(0, .ref (a 0)), (1, .int x1), (3, .int x3), (4, .int x4), (5, .int x5), (6, .int x6)])  (hw : w_X4_dearestNow_93 K15 post M x1 x3 x4 x5 x6) : W p l e rmX4_dearestNow s m args below meth c H locs 0 0 (MQ below (va_Qi post (wB D (MW dT a) MI A) A) args s 0 0 A) (F0 m 93 ls []) := by
  have hx := hC.1
  have hb := hC.2.1
  have hown := hC.2.2.2.1
  have hts := hC.2.2.2.2.1
  unfold w_X4_dearestNow_93 at hw
  refine lv_iload hx hb dX4_dearestNow_93 (lv_at hl 4 rfl) ?_
  refine lv_goto (tgt := 99) hx hb dX4_dearestNow_95 (by decide) ?_
  exact k_X4_dearestNow_99 hC hA hK15 _ _ _ _ _ _ _ hS (lv_sub hl [0, 1, 2, 3, 4, 5] rfl) hw
set_option maxHeartbeats 4000000 in
set_option maxRecDepth 100000 in
theorem k_X4_dearestNow_71 {p : Program} {l : Launch} {e : Env} {s : State} {m : MethodId} {args : Array Value} {below : List Frame} {meth : Method} {c : Code} {D : va_G} {dT : Nat → ClassId} {a : Nat → Nat} {A : Nat → Prop}  {K15 : MS → Int32 → Int32 → Int32 → Int32 → Int32 → Prop} {post : Int32 → MS → Prop} (hC : wCx RX4 cX4_dearestNow 7 (some .int) D dT p s m args meth c) (hA : wAz A s) (hK15 : ∀ (M : MS) (x1 : Int32) (x2 : Int32) (x3 : Int32) (x4 : Int32) (x5 : Int32), K15 M x1 x2 x3 x4 x5 → ∀ {H : Heap} {locs : List Loc} {ls : Array Slot}, StM D dT a A s M H locs → lv_has ls 7 [(0, .ref (a 0)), (1, .int x1), (2, .int x2), (3, .int x3), (4, .int x4), (5, .int x5)] → W p l e rmX4_dearestNow s m args below meth c H locs 0 0 (MQ below (va_Qi post (wB D (MW dT a) MI A) A) args s 0 0 A) (F0 m 15 ls [])) (M : MS) (x1 : Int32) (x2 : Int32) (x3 : Int32) (x5 : Int32) (x6 : Int32) (y0 : Int32) {H : Heap} {locs : List Loc} {ls : Array Slot} (hS : StM D dT a A s M H locs) (hl : lv_has ls 7 [(0, .ref (a 0)), (1, .int x1), (2, .int x2), (3, .int x3), (5, .int x5), (6, .int x6)])  (hw : w_X4_dearestNow_71 K15 post M x1 x2 x3 x5 x6 y0) : W p l e rmX4_dearestNow s m args below meth c H locs 0 0 (MQ below (va_Qi post (wB D (MW dT a) MI A) A) args s 0 0 A) (F0 m 71 ls [.int y0]) := by
  have hx := hC.1
  have hb := hC.2.1
  have hown := hC.2.2.2.1
  have hts := hC.2.2.2.2.1
  unfold w_X4_dearestNow_71 at hw
  refine lv_istore (lv' := [(4, .int y0), (0, .ref (a 0)), (1, .int x1), (2, .int x2), (3, .int x3), (5, .int x5), (6, .int x6)]) hx hb dX4_dearestNow_71 hl (by decide) rfl (fun ls hl => ?_)
  refine lv_iload hx hb dX4_dearestNow_73 (lv_at hl 0 rfl) ?_
  refine lv_if_ne (tgt := 93) hx hb dX4_dearestNow_75 (by decide) (fun c1 => ?_) (fun c1 => ?_)
  · have hw := hw.2 c1
    exact k_X4_dearestNow_93 hC hA hK15 _ _ _ _ _ _ hS (lv_sub hl [1, 2, 4, 0, 5, 6] rfl) hw
  · have hw := hw.1 c1
    refine lv_iload_n hx hb dX4_dearestNow_78 rfl (lv_at hl 3 rfl) ?_
    refine lv_iconst (v := (-1)) hx hb dX4_dearestNow_79 (by decide) ?_
    refine lv_icmp_eq (tgt := 93) hx hb dX4_dearestNow_80 (by decide) (fun c2 => ?_) (fun c2 => ?_)
    · have hw := hw.1 c2
      exact k_X4_dearestNow_93 hC hA hK15 _ _ _ _ _ _ hS (lv_sub hl [1, 2, 4, 0, 5, 6] rfl) hw
    · have hw := hw.2 c2
      refine lv_aload_n hx hb dX4_dearestNow_83 rfl (lv_at hl 1 rfl) ?_
      refine lv_iload_n hx hb dX4_dearestNow_84 rfl (lv_at hl 4 rfl) ?_
      refine lv_iload hx hb dX4_dearestNow_85 (lv_at hl 6 rfl) ?_
      refine inv_q1139 hC hA hS hl.1 hw ⟨Nat.le_of_ble_eq_true rfl, Nat.le_of_ble_eq_true rfl⟩ (Nat.le_of_ble_eq_true rfl) ⟨Nat.zero_le _, Nat.zero_le _⟩ dX4_dearestNow_87 (fun r3 H locs hw hS => ?_)
      refine lv_if_eq (tgt := 98) hx hb dX4_dearestNow_90 (by decide) (fun c4 => ?_) (fun c4 => ?_)
      · have hw := hw.1 c4
        refine lv_iload_n hx hb dX4_dearestNow_98 rfl (lv_at hl 3 rfl) ?_
        exact k_X4_dearestNow_99 hC hA hK15 _ _ _ _ _ _ _ hS (lv_sub hl [1, 2, 4, 0, 5, 6] rfl) hw
      · have hw := hw.2 c4
        exact k_X4_dearestNow_93 hC hA hK15 _ _ _ _ _ _ hS (lv_sub hl [1, 2, 4, 0, 5, 6] rfl) hw
set_option maxHeartbeats 4000000 in
set_option maxRecDepth 100000 in
theorem k_X4_dearestNow_124 {p : Program} {l : Launch} {e : Env} {s : State} {m : MethodId} {args : Array Value} {below : List Frame} {meth : Method} {c : Code} {D : va_G} {dT : Nat → ClassId} {a : Nat → Nat} {A : Nat → Prop}  {post : Int32 → MS → Prop} (hC : wCx RX4 cX4_dearestNow 7 (some .int) D dT p s m args meth c) (hA : wAz A s) (M : MS) (x1 : Int32) (x2 : Int32) {H : Heap} {locs : List Loc} {ls : Array Slot} (hS : StM D dT a A s M H locs) (hl : lv_has ls 7 [(1, .int x1), (2, .int x2)])  (hw : w_X4_dearestNow_124 post M x1 x2) : W p l e rmX4_dearestNow s m args below meth c H locs 0 0 (MQ below (va_Qi post (wB D (MW dT a) MI A) A) args s 0 0 A) (F0 m 124 ls []) := by
  have hx := hC.1
  have hb := hC.2.1
  have hown := hC.2.2.2.1
  have hts := hC.2.2.2.2.1
  unfold w_X4_dearestNow_124 at hw
  refine lv_iload_n hx hb dX4_dearestNow_124 rfl (lv_at hl 0 rfl) ?_
  refine lv_bipush (v := (-3)) hx hb dX4_dearestNow_125 (by decide) ?_
  refine lv_icmp_ne (tgt := 135) hx hb dX4_dearestNow_127 (by decide) (fun c1 => ?_) (fun c1 => ?_)
  · have hw := hw.2 c1
    refine lv_iload_n hx hb dX4_dearestNow_135 rfl (lv_at hl 1 rfl) ?_
    exact wReti hC hS hw (Nat.le_refl _) (Nat.le_refl _) dX4_dearestNow_136
  · have hw := hw.1 c1
    refine lv_bipush (v := (-3)) hx hb dX4_dearestNow_130 (by decide) ?_
    refine lv_goto (tgt := 136) hx hb dX4_dearestNow_132 (by decide) ?_
    exact wReti hC hS hw (Nat.le_refl _) (Nat.le_refl _) dX4_dearestNow_136
set_option maxHeartbeats 4000000 in
set_option maxRecDepth 100000 in
theorem k_X4_dearestNow_15b {p : Program} {l : Launch} {e : Env} {s : State} {m : MethodId} {args : Array Value} {below : List Frame} {meth : Method} {c : Code} {D : va_G} {dT : Nat → ClassId} {a : Nat → Nat} {A : Nat → Prop}  {K15 : MS → Int32 → Int32 → Int32 → Int32 → Int32 → Prop} {post : Int32 → MS → Prop} (hC : wCx RX4 cX4_dearestNow 7 (some .int) D dT p s m args meth c) (hA : wAz A s) (hK15 : ∀ (M : MS) (x1 : Int32) (x2 : Int32) (x3 : Int32) (x4 : Int32) (x5 : Int32), K15 M x1 x2 x3 x4 x5 → ∀ {H : Heap} {locs : List Loc} {ls : Array Slot}, StM D dT a A s M H locs → lv_has ls 7 [(0, .ref (a 0)), (1, .int x1), (2, .int x2), (3, .int x3), (4, .int x4), (5, .int x5)] → W p l e rmX4_dearestNow s m args below meth c H locs 0 0 (MQ below (va_Qi post (wB D (MW dT a) MI A) A) args s 0 0 A) (F0 m 15 ls [])) (M : MS) (x1 : Int32) (x2 : Int32) (x3 : Int32) (x4 : Int32) (x5 : Int32) {H : Heap} {locs : List Loc} {ls : Array Slot} (hS : StM D dT a A s M H locs) (hl : lv_has ls 7 [(0, .ref (a 0)), (1, .int x1), (2, .int x2), (3, .int x3), (4, .int x4), (5, .int x5)])  (hw : w_X4_dearestNow_15b K15 post M x1 x2 x3 x4 x5) : W p l e rmX4_dearestNow s m args below meth c H locs 0 0 (MQ below (va_Qi post (wB D (MW dT a) MI A) A) args s 0 0 A) (F0 m 15 ls []) := by
  have hx := hC.1
  have hb := hC.2.1
  have hown := hC.2.2.2.1
  have hts := hC.2.2.2.2.1
  unfold w_X4_dearestNow_15b at hw
  refine lv_iload hx hb dX4_dearestNow_15 (lv_at hl 5 rfl) ?_
  refine lv_aload_n hx hb dX4_dearestNow_17 rfl (lv_at hl 0 rfl) ?_
  refine inv_q1014 hC hA hS hl.1 hw ⟨Nat.le_of_ble_eq_true rfl, Nat.le_of_ble_eq_true rfl⟩ (Nat.le_of_ble_eq_true rfl) ⟨Nat.zero_le _, Nat.zero_le _⟩ dX4_dearestNow_18 (fun r1 H locs hw hS => ?_)
  refine lv_icmp_ge (tgt := 124) hx hb dX4_dearestNow_21 (by decide) (fun c2 => ?_) (fun c2 => ?_)
  · have hw := hw.1 c2
    exact k_X4_dearestNow_124 hC hA _ _ _ hS (lv_sub hl [1, 2] rfl) hw
  · have hw := hw.2 c2
    refine lv_iload_n hx hb dX4_dearestNow_24 rfl (lv_at hl 1 rfl) ?_
    refine lv_if_le (tgt := 124) hx hb dX4_dearestNow_25 (by decide) (fun c3 => ?_) (fun c3 => ?_)
    · have hw := hw.1 c3
      exact k_X4_dearestNow_124 hC hA _ _ _ hS (lv_sub hl [1, 2] rfl) hw
    · have hw := hw.2 c3
      refine lv_iload_n hx hb dX4_dearestNow_28 rfl (lv_at hl 1 rfl) ?_
      refine lv_iload hx hb dX4_dearestNow_29 (lv_at hl 5 rfl) ?_
      refine lv_ishr hx hb dX4_dearestNow_31 ?_
      refine lv_iconst (v := 1) hx hb dX4_dearestNow_32 (by decide) ?_
      refine lv_iand hx hb dX4_dearestNow_33 ?_
      refine lv_iconst (v := 1) hx hb dX4_dearestNow_34 (by decide) ?_
      refine lv_icmp_ne (tgt := 118) hx hb dX4_dearestNow_35 (by decide) (fun c4 => ?_) (fun c4 => ?_)
      · have hw := hw.2 c4
        obtain ⟨v5, ev5⟩ : ∃ y : Int32, y = x5 + 1 := ⟨_, rfl⟩
        have hw := hw v5 ev5
        refine lv_iinc (v := v5) (lv' := [(5, .int v5), (0, .ref (a 0)), (1, .int x1), (2, .int x2), (3, .int x3), (4, .int x4)]) hx hb dX4_dearestNow_118 hl (k := 5) rfl (by rw [ev5]; rfl) (by decide) rfl (fun ls hl => ?_)
        refine lv_goto (tgt := 15) hx hb dX4_dearestNow_121 (by decide) ?_
        exact hK15 _ _ _ _ _ _ hw hS (lv_sub hl [1, 2, 3, 4, 5, 0] rfl)
      · have hw := hw.1 c4
        refine lv_iload hx hb dX4_dearestNow_38 (lv_at hl 4 rfl) ?_
        refine lv_if_ne (tgt := 118) hx hb dX4_dearestNow_40 (by decide) (fun c6 => ?_) (fun c6 => ?_)
        · have hw := hw.2 c6
          obtain ⟨v7, ev7⟩ : ∃ y : Int32, y = x5 + 1 := ⟨_, rfl⟩
          have hw := hw v7 ev7
          refine lv_iinc (v := v7) (lv' := [(5, .int v7), (0, .ref (a 0)), (1, .int x1), (2, .int x2), (3, .int x3), (4, .int x4)]) hx hb dX4_dearestNow_118 hl (k := 5) rfl (by rw [ev7]; rfl) (by decide) rfl (fun ls hl => ?_)
          refine lv_goto (tgt := 15) hx hb dX4_dearestNow_121 (by decide) ?_
          exact hK15 _ _ _ _ _ _ hw hS (lv_sub hl [1, 2, 3, 4, 5, 0] rfl)
        · have hw := hw.1 c6
          refine lv_aload_n hx hb dX4_dearestNow_43 rfl (lv_at hl 0 rfl) ?_
          refine lv_aload_n hx hb dX4_dearestNow_44 rfl (lv_at hl 0 rfl) ?_
          refine ld_q941 hC hS dX4_dearestNow_45 ?_
          refine lv_iconst (v := 1) hx hb dX4_dearestNow_48 (by decide) ?_
          refine lv_iload hx hb dX4_dearestNow_49 (lv_at hl 5 rfl) ?_
          refine lv_ishl hx hb dX4_dearestNow_51 ?_
          refine lv_iconst (v := (-1)) hx hb dX4_dearestNow_52 (by decide) ?_
          refine lv_ixor hx hb dX4_dearestNow_53 ?_
          refine lv_iand hx hb dX4_dearestNow_54 ?_
          refine inv_q1094 hC hA hS hl.1 hw ⟨Nat.le_of_ble_eq_true rfl, Nat.le_of_ble_eq_true rfl⟩ (Nat.le_of_ble_eq_true rfl) ⟨Nat.zero_le _, Nat.zero_le _⟩ dX4_dearestNow_55 (fun r8 M9 H locs hw hS => ?_)
          refine lv_istore (lv' := [(6, .int r8), (0, .ref (a 0)), (1, .int x1), (2, .int x2), (3, .int x3), (4, .int x4), (5, .int x5)]) hx hb dX4_dearestNow_58 hl (by decide) rfl (fun ls hl => ?_)
          refine lv_iload hx hb dX4_dearestNow_60 (lv_at hl 0 rfl) ?_
          refine lv_iconst (v := (-1)) hx hb dX4_dearestNow_62 (by decide) ?_
          refine lv_icmp_ne (tgt := 70) hx hb dX4_dearestNow_63 (by decide) (fun c10 => ?_) (fun c10 => ?_)
          · have hw := hw.2 c10
            refine lv_iconst (v := 0) hx hb dX4_dearestNow_70 (by decide) ?_
            exact k_X4_dearestNow_71 hC hA hK15 _ _ _ _ _ _ _ hS (lv_sub hl [1, 2, 3, 4, 6, 0] rfl) hw
          · have hw := hw.1 c10
            refine lv_iconst (v := 1) hx hb dX4_dearestNow_66 (by decide) ?_
            refine lv_goto (tgt := 71) hx hb dX4_dearestNow_67 (by decide) ?_
            exact k_X4_dearestNow_71 hC hA hK15 _ _ _ _ _ _ _ hS (lv_sub hl [1, 2, 3, 4, 6, 0] rfl) hw
set_option maxHeartbeats 4000000 in
set_option maxRecDepth 100000 in
theorem k_X4_dearestNow_15 {p : Program} {l : Launch} {e : Env} {s : State} {m : MethodId} {args : Array Value} {below : List Frame} {meth : Method} {c : Code} {D : va_G} {dT : Nat → ClassId} {a : Nat → Nat} {A : Nat → Prop}  {post : Int32 → MS → Prop} (hC : wCx RX4 cX4_dearestNow 7 (some .int) D dT p s m args meth c) (hA : wAz A s) : ∀ (M : MS) (x1 : Int32) (x2 : Int32) (x3 : Int32) (x4 : Int32) (x5 : Int32) (n : Nat), ∀ {H : Heap} {locs : List Loc} {ls : Array Slot}, StM D dT a A s M H locs → lv_has ls 7 [(0, .ref (a 0)), (1, .int x1), (2, .int x2), (3, .int x3), (4, .int x4), (5, .int x5)] → w_X4_dearestNow_15 post n M x1 x2 x3 x4 x5 → W p l e rmX4_dearestNow s m args below meth c H locs 0 0 (MQ below (va_Qi post (wB D (MW dT a) MI A) A) args s 0 0 A) (F0 m 15 ls []) := by
  intro M x1 x2 x3 x4 x5 n
  induction n generalizing M x1 x2 x3 x4 x5 with
  | zero => intro H locs ls  hS hl hw; exact hw.elim
  | succ n ih =>
    intro H locs ls  hS hl hw
    exact k_X4_dearestNow_15b hC hA (fun M x1 x2 x3 x4 x5 hk {H} {locs} {ls}  hS hl => ih M x1 x2 x3 x4 x5  hS hl hk) M x1 x2 x3 x4 x5  hS hl hw
set_option maxHeartbeats 4000000 in
set_option maxRecDepth 100000 in
theorem k_X4_dearestNow_0 {p : Program} {l : Launch} {e : Env} {s : State} {m : MethodId} {args : Array Value} {below : List Frame} {meth : Method} {c : Code} {D : va_G} {dT : Nat → ClassId} {a : Nat → Nat} {A : Nat → Prop}  {post : Int32 → MS → Prop} (hC : wCx RX4 cX4_dearestNow 7 (some .int) D dT p s m args meth c) (hA : wAz A s) (M : MS) {H : Heap} {locs : List Loc} {ls : Array Slot} (hS : StM D dT a A s M H locs) (hl : lv_has ls 7 [(0, .ref (a 0))])  (hw : w_X4_dearestNow post M) : W p l e rmX4_dearestNow s m args below meth c H locs 0 0 (MQ below (va_Qi post (wB D (MW dT a) MI A) A) args s 0 0 A) (F0 m 0 ls []) := by
  have hx := hC.1
  have hb := hC.2.1
  have hown := hC.2.2.2.1
  have hts := hC.2.2.2.2.1
  unfold w_X4_dearestNow at hw
  refine lv_aload_n hx hb dX4_dearestNow_0 rfl (lv_at hl 0 rfl) ?_
  refine inv_q1183 hC hA hS hl.1 hw ⟨Nat.le_of_ble_eq_true rfl, Nat.le_of_ble_eq_true rfl⟩ (Nat.le_of_ble_eq_true rfl) ⟨Nat.zero_le _, Nat.zero_le _⟩ dX4_dearestNow_1 (fun r1 M2 H locs hw hS => ?_)
  refine lv_istore_n (lv' := [(1, .int r1), (0, .ref (a 0))]) hx hb dX4_dearestNow_4 rfl hl (by decide) rfl (fun ls hl => ?_)
  refine lv_iconst (v := (-1)) hx hb dX4_dearestNow_5 (by decide) ?_
  refine lv_istore_n (lv' := [(2, .int (-1)), (1, .int r1), (0, .ref (a 0))]) hx hb dX4_dearestNow_6 rfl hl (by decide) rfl (fun ls hl => ?_)
  refine lv_iconst (v := (-1)) hx hb dX4_dearestNow_7 (by decide) ?_
  refine lv_istore_n (lv' := [(3, .int (-1)), (2, .int (-1)), (1, .int r1), (0, .ref (a 0))]) hx hb dX4_dearestNow_8 rfl hl (by decide) rfl (fun ls hl => ?_)
  refine lv_iconst (v := 0) hx hb dX4_dearestNow_9 (by decide) ?_
  refine lv_istore (lv' := [(4, .int 0), (3, .int (-1)), (2, .int (-1)), (1, .int r1), (0, .ref (a 0))]) hx hb dX4_dearestNow_10 hl (by decide) rfl (fun ls hl => ?_)
  refine lv_iconst (v := 0) hx hb dX4_dearestNow_12 (by decide) ?_
  refine lv_istore (lv' := [(5, .int 0), (4, .int 0), (3, .int (-1)), (2, .int (-1)), (1, .int r1), (0, .ref (a 0))]) hx hb dX4_dearestNow_13 hl (by decide) rfl (fun ls hl => ?_)
  obtain ⟨n, hw⟩ := hw
  exact k_X4_dearestNow_15 hC hA _ _ _ _ _ _ n hS (lv_sub hl [5, 4, 3, 2, 1, 0] rfl) hw
abbrev v_X4_dearestNow (M : MS) (post : Int32 → MS → Prop) : Prop := w_X4_dearestNow post M
set_option maxHeartbeats 4000000 in
set_option maxRecDepth 100000 in
theorem met_X4_dearestNow (l : Launch) (D : va_G) (dT : Nat → ClassId) (a : Nat → Nat) (sz : Nat) (M : MS) (post : Int32 → MS → Prop) (hw : v_X4_dearestNow M post) : Met l yX4_dearestNow (ws_ yX4_dearestNow cX4_dearestNow 7 (some .int)) rmX4_dearestNow (wPc D dT (MW dT a) MI sz M [.ref (a 0)]) (va_Qi post (wB D (MW dT a) MI (va_A ((MW dT a) M) sz)) (va_A ((MW dT a) M) sz)) 0 0 (va_A ((MW dT a) M) sz) :=
  wEnt (Q := fun A => (va_Qi post (wB D (MW dT a) MI A) A)) (by decide) (Nat.le_of_ble_eq_true rfl) (fun p e s m below meth c A ls hC _ hA hS hl => k_X4_dearestNow_0 hC hA _ hS hl hw) sz
theorem hd_X4_dearestNow : yX4_dearestNow.cls ≠ "java/lang/invoke/MethodHandle" ∧ yX4_dearestNow.cls ≠ "java/lang/invoke/VarHandle" ∧ (parseMethodDescriptor yX4_dearestNow.desc).map (fun d => d.parameters.length) = some 0 := by decide +kernel
section
variable {p : Program} {l : Launch} {e : Env} {R : Room} {s : State} {m : MethodId} {args : Array Value} {below : List Frame} {meth : Method} {c : Code} {H : Heap} {locs : List Loc} {cells slots : Nat} {Q : State → Prop} {cc : ByteArray} {nL : Nat} {ret : Option FieldType} {pc : Nat} {ls : Array Slot} {rest : List Value}
set_option maxHeartbeats 4000000 in
set_option maxRecDepth 100000 in
theorem inv_q1195 {D : va_G} {dT : Nat → ClassId} {a : Nat → Nat} {A : Nat → Prop} {M : MS} {post : Int32 → MS → Prop} (hC : wCx RX4 cc nL ret D dT p s m args meth c) (hA : wAz A s) (hS : StM D dT a A s M H locs) (hl : ls.size = nL) (hw : v_X4_dearestNow M post) (hR : rmX4_dearestNow.frames + 1 ≤ R.frames ∧ 8 + (7 + 11) + rmX4_dearestNow.locals ≤ R.locals) (hrest : (rest.map fun v => v.category).sum ≤ 8) (hf : cells ≤ R.cells ∧ slots ≤ R.slots) (hdg : decode cc pc = .ok (.invokevirtual 183, 3)) (kk : ∀ (r : Int32) (u : MS) (H1 : Heap) (locs1 : List Loc), post r u → StM D dT a A s u H1 locs1 → W p l e R s m args below meth c H1 locs1 cells slots Q (F0 m (pc + 3) ls (.int r :: rest))) : W p l e R s m args below meth c H locs cells slots Q (F0 m pc ls (.ref (a 0) :: rest)) := by
  exact wCallVi (As := []) (rest := rest) (mc := 0) (ms := 0) 0 hC (met_X4_dearestNow l D dT a H.size M post hw) (lw_V q1195 q1197 qs70 q89 q1198) ⟨⟨rfl, rfl⟩, hd_X4_dearestNow, hR, hf⟩ rfl rfl rfl hA hS hl rfl hrest hdg (fun r u H1 locs1 hp hS1 => kk r u H1 locs1 hp hS1)
end
