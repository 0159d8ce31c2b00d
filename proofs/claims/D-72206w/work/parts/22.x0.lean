/-! java/lang/Math.abs -/
def w_J2_abs (p0 : Int64) (post : Int64 → Prop) : Prop :=
  ((0 : Int64) ≤ p0 → (post p0)) ∧ (¬ (0 : Int64) ≤ p0 → (post (-p0)))
abbrev rmJ2_abs : Room := { frames := 0, cells := 0, slots := 0, locals := 0 }
set_option maxHeartbeats 4000000 in
set_option maxRecDepth 100000 in
theorem k_J2_abs_0 {p : Program} {l : Launch} {e : Env} {s : State} {m : MethodId} {args : Array Value} {below : List Frame} {meth : Method} {c : Code}  {p0 : Int64} {post : Int64 → Prop} (hC : sCx RJ2 cJ2_abs 2 (some .long) p s m args meth c) {H : Heap} {locs : List Loc} {ls : Array Slot} (hS : va_S (fun _ => False) s.heap H locs) (hl : lv_has ls 2 [(0, .long p0)])  (hw : w_J2_abs p0 post) : W p l e rmJ2_abs s m args below meth c H locs 0 0 (MQ below (va_Ql (fun r (_ : Unit) => post r) (fun _ _ => True) (fun _ => False)) args s 0 0 (fun _ => False)) (F0 m 0 ls []) := by
  have hx := hC.1
  have hb := hC.2.1
  have hown := hC.2.2.2.1
  have hts := hC.2.2.2.2.1
  unfold w_J2_abs at hw
  refine lv_lload_n hx hb dJ2_abs_0 rfl (lv_at hl 0 rfl) ?_
  refine lv_lconst (v := 0) hx hb dJ2_abs_1 (by decide) ?_
  refine lc_if_ge (tgt := 11) hx hb dJ2_abs_2 dJ2_abs_3 (by decide) (fun c1 => ?_) (fun c1 => ?_)
  · have hw := hw.1 c1
    refine lv_lload_n hx hb dJ2_abs_11 rfl (lv_at hl 0 rfl) ?_
    exact sRetl hC hS hw dJ2_abs_12
  · have hw := hw.2 c1
    refine lv_lload_n hx hb dJ2_abs_6 rfl (lv_at hl 0 rfl) ?_
    refine lv_lneg hx hb dJ2_abs_7 ?_
    refine lv_goto (tgt := 12) hx hb dJ2_abs_8 (by decide) ?_
    exact sRetl hC hS hw dJ2_abs_12
abbrev v_J2_abs (p0 : Int64) (post : Int64 → Prop) : Prop := w_J2_abs p0 post
set_option maxHeartbeats 4000000 in
set_option maxRecDepth 100000 in
theorem met_J2_abs (l : Launch) (p0 : Int64) (post : Int64 → Prop) (hw : v_J2_abs p0 post) : Met l yJ2_abs (ws_ yJ2_abs cJ2_abs 2 (some .long)) rmJ2_abs (va_Pc [.long p0] (fun _ => True)) (va_Ql (fun r (_ : Unit) => post r) (fun _ _ => True) (fun _ => False)) 0 0 (fun _ => False) :=
  sEntF (by decide +kernel) (Nat.le_of_ble_eq_true rfl) (fun p e s m below meth c ls hC hS hl => k_J2_abs_0 hC  hS hl hw)
theorem hd_J2_abs : yJ2_abs.cls ≠ "java/lang/invoke/MethodHandle" ∧ yJ2_abs.cls ≠ "java/lang/invoke/VarHandle" ∧ (parseMethodDescriptor yJ2_abs.desc).map (fun d => d.parameters.length) = some 1 := by decide +kernel
section
variable {p : Program} {l : Launch} {e : Env} {R : Room} {s : State} {m : MethodId} {args : Array Value} {below : List Frame} {meth : Method} {c : Code} {H : Heap} {locs : List Loc} {cells slots : Nat} {Q : State → Prop} {cc : ByteArray} {nL : Nat} {ret : Option FieldType} {pc : Nat} {ls : Array Slot} {rest : List Value}
set_option maxHeartbeats 4000000 in
set_option maxRecDepth 100000 in
theorem inv_q513 {σ : Type} {D : va_G} {dT : Nat → ClassId} {Wd : σ → va_W} {I : σ → Prop} {A : Nat → Prop} {x : σ} {p0 : Int64} {post : Int64 → Prop} (hC : wCx RX0 cc nL ret D dT p s m args meth c) (hS : wSt D Wd I A s x H locs) (hl : ls.size = nL) (hw : v_J2_abs p0 post) (hR : rmJ2_abs.frames + 1 ≤ R.frames ∧ 8 + (2 + 11) + rmJ2_abs.locals ≤ R.locals) (hrest : (rest.map fun v => v.category).sum ≤ 8) (hf : cells ≤ R.cells ∧ slots ≤ R.slots) (hdg : decode cc pc = .ok (.invokestatic 50, 3)) (kk : ∀ (r : Int64) (H1 : Heap) (locs1 : List Loc), post r → wSt D Wd I A s x H1 locs1 → W p l e R s m args below meth c H1 locs1 cells slots Q (F0 m (pc + 3) ls (.long r :: rest))) : W p l e R s m args below meth c H locs cells slots Q (F0 m pc ls (.long p0 :: rest)) :=
  wCallSl (As := [.long p0]) (rest := rest) hC (met_J2_abs l p0 post hw) (lw_S q513 q499 q93 q500) ⟨⟨rfl, rfl⟩, hd_J2_abs, hR, hf⟩ hS hl rfl hrest hdg kk
set_option maxHeartbeats 4000000 in
set_option maxRecDepth 100000 in
theorem invs_q513 {p0 : Int64} {post : Int64 → Prop} (hC : sCx RX0 cc nL ret p s m args meth c) (hS : va_S (fun _ => False) s.heap H locs) (hl : ls.size = nL) (hw : v_J2_abs p0 post) (hR : rmJ2_abs.frames + 1 ≤ R.frames ∧ 8 + (2 + 11) + rmJ2_abs.locals ≤ R.locals) (hrest : (rest.map fun v => v.category).sum ≤ 8) (hf : cells ≤ R.cells ∧ slots ≤ R.slots) (hdg : decode cc pc = .ok (.invokestatic 50, 3)) (kk : ∀ (r : Int64) (H1 : Heap) (locs1 : List Loc), post r → va_S (fun _ => False) s.heap H1 locs1 → W p l e R s m args below meth c H1 locs1 cells slots Q (F0 m (pc + 3) ls (.long r :: rest))) : W p l e R s m args below meth c H locs cells slots Q (F0 m pc ls (.long p0 :: rest)) :=
  sCallSl (As := [.long p0]) (rest := rest) hC (met_J2_abs l p0 post hw) (lw_S q513 q499 q93 q500) ⟨⟨rfl, rfl⟩, hd_J2_abs, hR, hf⟩ hS hl rfl hrest hdg kk
end
section
variable {p : Program} {l : Launch} {e : Env} {R : Room} {s : State} {m : MethodId} {args : Array Value} {below : List Frame} {meth : Method} {c : Code} {H : Heap} {locs : List Loc} {cells slots : Nat} {Q : State → Prop} {cc : ByteArray} {nL : Nat} {ret : Option FieldType} {pc : Nat} {ls : Array Slot} {rest : List Value}
set_option maxHeartbeats 4000000 in
set_option maxRecDepth 100000 in
theorem inv_q498 {σ : Type} {D : va_G} {dT : Nat → ClassId} {Wd : σ → va_W} {I : σ → Prop} {A : Nat → Prop} {x : σ} {p0 : Int64} {post : Int64 → Prop} (hC : wCx RX2 cc nL ret D dT p s m args meth c) (hS : wSt D Wd I A s x H locs) (hl : ls.size = nL) (hw : v_J2_abs p0 post) (hR : rmJ2_abs.frames + 1 ≤ R.frames ∧ 8 + (2 + 11) + rmJ2_abs.locals ≤ R.locals) (hrest : (rest.map fun v => v.category).sum ≤ 8) (hf : cells ≤ R.cells ∧ slots ≤ R.slots) (hdg : decode cc pc = .ok (.invokestatic 90, 3)) (kk : ∀ (r : Int64) (H1 : Heap) (locs1 : List Loc), post r → wSt D Wd I A s x H1 locs1 → W p l e R s m args below meth c H1 locs1 cells slots Q (F0 m (pc + 3) ls (.long r :: rest))) : W p l e R s m args below meth c H locs cells slots Q (F0 m pc ls (.long p0 :: rest)) :=
  wCallSl (As := [.long p0]) (rest := rest) hC (met_J2_abs l p0 post hw) (lw_S q498 q499 q93 q500) ⟨⟨rfl, rfl⟩, hd_J2_abs, hR, hf⟩ hS hl rfl hrest hdg kk
set_option maxHeartbeats 4000000 in
set_option maxRecDepth 100000 in
theorem invs_q498 {p0 : Int64} {post : Int64 → Prop} (hC : sCx RX2 cc nL ret p s m args meth c) (hS : va_S (fun _ => False) s.heap H locs) (hl : ls.size = nL) (hw : v_J2_abs p0 post) (hR : rmJ2_abs.frames + 1 ≤ R.frames ∧ 8 + (2 + 11) + rmJ2_abs.locals ≤ R.locals) (hrest : (rest.map fun v => v.category).sum ≤ 8) (hf : cells ≤ R.cells ∧ slots ≤ R.slots) (hdg : decode cc pc = .ok (.invokestatic 90, 3)) (kk : ∀ (r : Int64) (H1 : Heap) (locs1 : List Loc), post r → va_S (fun _ => False) s.heap H1 locs1 → W p l e R s m args below meth c H1 locs1 cells slots Q (F0 m (pc + 3) ls (.long r :: rest))) : W p l e R s m args below meth c H locs cells slots Q (F0 m pc ls (.long p0 :: rest)) :=
  sCallSl (As := [.long p0]) (rest := rest) hC (met_J2_abs l p0 post hw) (lw_S q498 q499 q93 q500) ⟨⟨rfl, rfl⟩, hd_J2_abs, hR, hf⟩ hS hl rfl hrest hdg kk
end
section
variable {p : Program} {l : Launch} {e : Env} {R : Room} {s : State} {m : MethodId} {args : Array Value} {below : List Frame} {meth : Method} {c : Code} {H : Heap} {locs : List Loc} {cells slots : Nat} {Q : State → Prop} {cc : ByteArray} {nL : Nat} {ret : Option FieldType} {pc : Nat} {ls : Array Slot} {rest : List Value}
set_option maxHeartbeats 4000000 in
set_option maxRecDepth 100000 in
theorem inv_q838 {σ : Type} {D : va_G} {dT : Nat → ClassId} {Wd : σ → va_W} {I : σ → Prop} {A : Nat → Prop} {x : σ} {p0 : Int64} {post : Int64 → Prop} (hC : wCx RJ2 cc nL ret D dT p s m args meth c) (hS : wSt D Wd I A s x H locs) (hl : ls.size = nL) (hw : v_J2_abs p0 post) (hR : rmJ2_abs.frames + 1 ≤ R.frames ∧ 8 + (2 + 11) + rmJ2_abs.locals ≤ R.locals) (hrest : (rest.map fun v => v.category).sum ≤ 8) (hf : cells ≤ R.cells ∧ slots ≤ R.slots) (hdg : decode cc pc = .ok (.invokestatic 122, 3)) (kk : ∀ (r : Int64) (H1 : Heap) (locs1 : List Loc), post r → wSt D Wd I A s x H1 locs1 → W p l e R s m args below meth c H1 locs1 cells slots Q (F0 m (pc + 3) ls (.long r :: rest))) : W p l e R s m args below meth c H locs cells slots Q (F0 m pc ls (.long p0 :: rest)) :=
  wCallSl (As := [.long p0]) (rest := rest) hC (met_J2_abs l p0 post hw) (lw_S q838 q499 q93 q500) ⟨⟨rfl, rfl⟩, hd_J2_abs, hR, hf⟩ hS hl rfl hrest hdg kk
set_option maxHeartbeats 4000000 in
set_option maxRecDepth 100000 in
theorem invs_q838 {p0 : Int64} {post : Int64 → Prop} (hC : sCx RJ2 cc nL ret p s m args meth c) (hS : va_S (fun _ => False) s.heap H locs) (hl : ls.size = nL) (hw : v_J2_abs p0 post) (hR : rmJ2_abs.frames + 1 ≤ R.frames ∧ 8 + (2 + 11) + rmJ2_abs.locals ≤ R.locals) (hrest : (rest.map fun v => v.category).sum ≤ 8) (hf : cells ≤ R.cells ∧ slots ≤ R.slots) (hdg : decode cc pc = .ok (.invokestatic 122, 3)) (kk : ∀ (r : Int64) (H1 : Heap) (locs1 : List Loc), post r → va_S (fun _ => False) s.heap H1 locs1 → W p l e R s m args below meth c H1 locs1 cells slots Q (F0 m (pc + 3) ls (.long r :: rest))) : W p l e R s m args below meth c H locs cells slots Q (F0 m pc ls (.long p0 :: rest)) :=
  sCallSl (As := [.long p0]) (rest := rest) hC (met_J2_abs l p0 post hw) (lw_S q838 q499 q93 q500) ⟨⟨rfl, rfl⟩, hd_J2_abs, hR, hf⟩ hS hl rfl hrest hdg kk
end
/-! java/lang/Math.abs -/
def w_J2_abs_2 (p0 : Int32) (post : Int32 → Prop) : Prop :=
  ((0 : Int32) ≤ p0 → (post p0)) ∧ (¬ (0 : Int32) ≤ p0 → (post (-p0)))
abbrev rmJ2_abs_2 : Room := { frames := 0, cells := 0, slots := 0, locals := 0 }
set_option maxHeartbeats 4000000 in
set_option maxRecDepth 100000 in
theorem k_J2_abs_2_0 {p : Program} {l : Launch} {e : Env} {s : State} {m : MethodId} {args : Array Value} {below : List Frame} {meth : Method} {c : Code}  {p0 : Int32} {post : Int32 → Prop} (hC : sCx RJ2 cJ2_abs_2 1 (some .int) p s m args meth c) {H : Heap} {locs : List Loc} {ls : Array Slot} (hS : va_S (fun _ => False) s.heap H locs) (hl : lv_has ls 1 [(0, .int p0)])  (hw : w_J2_abs_2 p0 post) : W p l e rmJ2_abs_2 s m args below meth c H locs 0 0 (MQ below (va_Qi (fun r (_ : Unit) => post r) (fun _ _ => True) (fun _ => False)) args s 0 0 (fun _ => False)) (F0 m 0 ls []) := by
  have hx := hC.1
  have hb := hC.2.1
  have hown := hC.2.2.2.1
  have hts := hC.2.2.2.2.1
  unfold w_J2_abs_2 at hw
  refine lv_iload_n hx hb dJ2_abs_2_0 rfl (lv_at hl 0 rfl) ?_
  refine lv_if_ge (tgt := 9) hx hb dJ2_abs_2_1 (by decide) (fun c1 => ?_) (fun c1 => ?_)
  · have hw := hw.1 c1
    refine lv_iload_n hx hb dJ2_abs_2_9 rfl (lv_at hl 0 rfl) ?_
    exact sReti hC hS hw dJ2_abs_2_10
  · have hw := hw.2 c1
    refine lv_iload_n hx hb dJ2_abs_2_4 rfl (lv_at hl 0 rfl) ?_
    refine lv_ineg hx hb dJ2_abs_2_5 ?_
    refine lv_goto (tgt := 10) hx hb dJ2_abs_2_6 (by decide) ?_
    exact sReti hC hS hw dJ2_abs_2_10
abbrev v_J2_abs_2 (p0 : Int32) (post : Int32 → Prop) : Prop := w_J2_abs_2 p0 post
set_option maxHeartbeats 4000000 in
set_option maxRecDepth 100000 in
theorem met_J2_abs_2 (l : Launch) (p0 : Int32) (post : Int32 → Prop) (hw : v_J2_abs_2 p0 post) : Met l yJ2_abs_2 (ws_ yJ2_abs_2 cJ2_abs_2 1 (some .int)) rmJ2_abs_2 (va_Pc [.int p0] (fun _ => True)) (va_Qi (fun r (_ : Unit) => post r) (fun _ _ => True) (fun _ => False)) 0 0 (fun _ => False) :=
  sEntF (by decide +kernel) (Nat.le_of_ble_eq_true rfl) (fun p e s m below meth c ls hC hS hl => k_J2_abs_2_0 hC  hS hl hw)
theorem hd_J2_abs_2 : yJ2_abs_2.cls ≠ "java/lang/invoke/MethodHandle" ∧ yJ2_abs_2.cls ≠ "java/lang/invoke/VarHandle" ∧ (parseMethodDescriptor yJ2_abs_2.desc).map (fun d => d.parameters.length) = some 1 := by decide +kernel
section
variable {p : Program} {l : Launch} {e : Env} {R : Room} {s : State} {m : MethodId} {args : Array Value} {below : List Frame} {meth : Method} {c : Code} {H : Heap} {locs : List Loc} {cells slots : Nat} {Q : State → Prop} {cc : ByteArray} {nL : Nat} {ret : Option FieldType} {pc : Nat} {ls : Array Slot} {rest : List Value}
set_option maxHeartbeats 4000000 in
set_option maxRecDepth 100000 in
theorem inv_q711 {σ : Type} {D : va_G} {dT : Nat → ClassId} {Wd : σ → va_W} {I : σ → Prop} {A : Nat → Prop} {x : σ} {p0 : Int32} {post : Int32 → Prop} (hC : wCx RX0 cc nL ret D dT p s m args meth c) (hS : wSt D Wd I A s x H locs) (hl : ls.size = nL) (hw : v_J2_abs_2 p0 post) (hR : rmJ2_abs_2.frames + 1 ≤ R.frames ∧ 8 + (1 + 11) + rmJ2_abs_2.locals ≤ R.locals) (hrest : (rest.map fun v => v.category).sum ≤ 8) (hf : cells ≤ R.cells ∧ slots ≤ R.slots) (hdg : decode cc pc = .ok (.invokestatic 292, 3)) (kk : ∀ (r : Int32) (H1 : Heap) (locs1 : List Loc), post r → wSt D Wd I A s x H1 locs1 → W p l e R s m args below meth c H1 locs1 cells slots Q (F0 m (pc + 3) ls (.int r :: rest))) : W p l e R s m args below meth c H locs cells slots Q (F0 m pc ls (.int p0 :: rest)) :=
  wCallSi (As := [.int p0]) (rest := rest) hC (met_J2_abs_2 l p0 post hw) (lw_S q711 q712 q93 q713) ⟨⟨rfl, rfl⟩, hd_J2_abs_2, hR, hf⟩ hS hl rfl hrest hdg kk
set_option maxHeartbeats 4000000 in
set_option maxRecDepth 100000 in
theorem invs_q711 {p0 : Int32} {post : Int32 → Prop} (hC : sCx RX0 cc nL ret p s m args meth c) (hS : va_S (fun _ => False) s.heap H locs) (hl : ls.size = nL) (hw : v_J2_abs_2 p0 post) (hR : rmJ2_abs_2.frames + 1 ≤ R.frames ∧ 8 + (1 + 11) + rmJ2_abs_2.locals ≤ R.locals) (hrest : (rest.map fun v => v.category).sum ≤ 8) (hf : cells ≤ R.cells ∧ slots ≤ R.slots) (hdg : decode cc pc = .ok (.invokestatic 292, 3)) (kk : ∀ (r : Int32) (H1 : Heap) (locs1 : List Loc), post r → va_S (fun _ => False) s.heap H1 locs1 → W p l e R s m args below meth c H1 locs1 cells slots Q (F0 m (pc + 3) ls (.int r :: rest))) : W p l e R s m args below meth c H locs cells slots Q (F0 m pc ls (.int p0 :: rest)) :=
  sCallSi (As := [.int p0]) (rest := rest) hC (met_J2_abs_2 l p0 post hw) (lw_S q711 q712 q93 q713) ⟨⟨rfl, rfl⟩, hd_J2_abs_2, hR, hf⟩ hS hl rfl hrest hdg kk
end
/-! java/lang/Math.min -/
def w_J2_min (p0 : Int32) (p1 : Int32) (post : Int32 → Prop) : Prop :=
  (p1 < p0 → (post p1)) ∧ (¬ p1 < p0 → (post p0))
abbrev rmJ2_min : Room := { frames := 0, cells := 0, slots := 0, locals := 0 }
set_option maxHeartbeats 4000000 in
set_option maxRecDepth 100000 in
theorem k_J2_min_0 {p : Program} {l : Launch} {e : Env} {s : State} {m : MethodId} {args : Array Value} {below : List Frame} {meth : Method} {c : Code}  {p0 : Int32} {p1 : Int32} {post : Int32 → Prop} (hC : sCx RJ2 cJ2_min 2 (some .int) p s m args meth c) {H : Heap} {locs : List Loc} {ls : Array Slot} (hS : va_S (fun _ => False) s.heap H locs) (hl : lv_has ls 2 [(0, .int p0), (1, .int p1)])  (hw : w_J2_min p0 p1 post) : W p l e rmJ2_min s m args below meth c H locs 0 0 (MQ below (va_Qi (fun r (_ : Unit) => post r) (fun _ _ => True) (fun _ => False)) args s 0 0 (fun _ => False)) (F0 m 0 ls []) := by
  have hx := hC.1
  have hb := hC.2.1
  have hown := hC.2.2.2.1
  have hts := hC.2.2.2.2.1
  unfold w_J2_min at hw
  refine lv_iload_n hx hb dJ2_min_0 rfl (lv_at hl 0 rfl) ?_
  refine lv_iload_n hx hb dJ2_min_1 rfl (lv_at hl 1 rfl) ?_
  refine lv_icmp_gt (tgt := 9) hx hb dJ2_min_2 (by decide) (fun c1 => ?_) (fun c1 => ?_)
  · have hw := hw.1 c1
    refine lv_iload_n hx hb dJ2_min_9 rfl (lv_at hl 1 rfl) ?_
    exact sReti hC hS hw dJ2_min_10
  · have hw := hw.2 c1
    refine lv_iload_n hx hb dJ2_min_5 rfl (lv_at hl 0 rfl) ?_
    refine lv_goto (tgt := 10) hx hb dJ2_min_6 (by decide) ?_
    exact sReti hC hS hw dJ2_min_10
abbrev v_J2_min (p0 : Int32) (p1 : Int32) (post : Int32 → Prop) : Prop := w_J2_min p0 p1 post
set_option maxHeartbeats 4000000 in
set_option maxRecDepth 100000 in
theorem met_J2_min (l : Launch) (p0 : Int32) (p1 : Int32) (post : Int32 → Prop) (hw : v_J2_min p0 p1 post) : Met l yJ2_min (ws_ yJ2_min cJ2_min 2 (some .int)) rmJ2_min (va_Pc [.int p0, .int p1] (fun _ => True)) (va_Qi (fun r (_ : Unit) => post r) (fun _ _ => True) (fun _ => False)) 0 0 (fun _ => False) :=
  sEntF (by decide +kernel) (Nat.le_of_ble_eq_true rfl) (fun p e s m below meth c ls hC hS hl => k_J2_min_0 hC  hS hl hw)
theorem hd_J2_min : yJ2_min.cls ≠ "java/lang/invoke/MethodHandle" ∧ yJ2_min.cls ≠ "java/lang/invoke/VarHandle" ∧ (parseMethodDescriptor yJ2_min.desc).map (fun d => d.parameters.length) = some 2 := by decide +kernel
section
variable {p : Program} {l : Launch} {e : Env} {R : Room} {s : State} {m : MethodId} {args : Array Value} {below : List Frame} {meth : Method} {c : Code} {H : Heap} {locs : List Loc} {cells slots : Nat} {Q : State → Prop} {cc : ByteArray} {nL : Nat} {ret : Option FieldType} {pc : Nat} {ls : Array Slot} {rest : List Value}
set_option maxHeartbeats 4000000 in
set_option maxRecDepth 100000 in
theorem inv_q896 {σ : Type} {D : va_G} {dT : Nat → ClassId} {Wd : σ → va_W} {I : σ → Prop} {A : Nat → Prop} {x : σ} {p0 : Int32} {p1 : Int32} {post : Int32 → Prop} (hC : wCx RX0 cc nL ret D dT p s m args meth c) (hS : wSt D Wd I A s x H locs) (hl : ls.size = nL) (hw : v_J2_min p0 p1 post) (hR : rmJ2_min.frames + 1 ≤ R.frames ∧ 8 + (2 + 11) + rmJ2_min.locals ≤ R.locals) (hrest : (rest.map fun v => v.category).sum ≤ 8) (hf : cells ≤ R.cells ∧ slots ≤ R.slots) (hdg : decode cc pc = .ok (.invokestatic 352, 3)) (kk : ∀ (r : Int32) (H1 : Heap) (locs1 : List Loc), post r → wSt D Wd I A s x H1 locs1 → W p l e R s m args below meth c H1 locs1 cells slots Q (F0 m (pc + 3) ls (.int r :: rest))) : W p l e R s m args below meth c H locs cells slots Q (F0 m pc ls (.int p1 :: .int p0 :: rest)) :=
  wCallSi (As := [.int p0, .int p1]) (rest := rest) hC (met_J2_min l p0 p1 post hw) (lw_S q896 q897 q93 q898) ⟨⟨rfl, rfl⟩, hd_J2_min, hR, hf⟩ hS hl rfl hrest hdg kk
set_option maxHeartbeats 4000000 in
set_option maxRecDepth 100000 in
theorem invs_q896 {p0 : Int32} {p1 : Int32} {post : Int32 → Prop} (hC : sCx RX0 cc nL ret p s m args meth c) (hS : va_S (fun _ => False) s.heap H locs) (hl : ls.size = nL) (hw : v_J2_min p0 p1 post) (hR : rmJ2_min.frames + 1 ≤ R.frames ∧ 8 + (2 + 11) + rmJ2_min.locals ≤ R.locals) (hrest : (rest.map fun v => v.category).sum ≤ 8) (hf : cells ≤ R.cells ∧ slots ≤ R.slots) (hdg : decode cc pc = .ok (.invokestatic 352, 3)) (kk : ∀ (r : Int32) (H1 : Heap) (locs1 : List Loc), post r → va_S (fun _ => False) s.heap H1 locs1 → W p l e R s m args below meth c H1 locs1 cells slots Q (F0 m (pc + 3) ls (.int r :: rest))) : W p l e R s m args below meth c H locs cells slots Q (F0 m pc ls (.int p1 :: .int p0 :: rest)) :=
  sCallSi (As := [.int p0, .int p1]) (rest := rest) hC (met_J2_min l p0 p1 post hw) (lw_S q896 q897 q93 q898) ⟨⟨rfl, rfl⟩, hd_J2_min, hR, hf⟩ hS hl rfl hrest hdg kk
end
/-! java/lang/Integer.bitCount -/
def w_J3_bitCount (post : Int32 → Prop) (p0 : Int32) : Prop :=
  ∀ v1 : Int32, v1 = p0 - (((p0.toUInt32 >>> ((1 : Int32).toUInt32 &&& Int32.toUInt32 31)).toInt32) &&& 1431655765) → (∀ v2 : Int32, v2 = (v1 &&& 858993459) + (((v1.toUInt32 >>> ((2 : Int32).toUInt32 &&& Int32.toUInt32 31)).toInt32) &&& 858993459) → (∀ v3 : Int32, v3 = (v2 + ((v2.toUInt32 >>> ((4 : Int32).toUInt32 &&& Int32.toUInt32 31)).toInt32)) &&& 252645135 → (∀ v4 : Int32, v4 = v3 + ((v3.toUInt32 >>> ((8 : Int32).toUInt32 &&& Int32.toUInt32 31)).toInt32) → (∀ v5 : Int32, v5 = v4 + ((v4.toUInt32 >>> ((16 : Int32).toUInt32 &&& Int32.toUInt32 31)).toInt32) → (post (v5 &&& 63))))))
abbrev rmJ3_bitCount : Room := { frames := 0, cells := 0, slots := 0, locals := 0 }
set_option maxHeartbeats 4000000 in
set_option maxRecDepth 100000 in
theorem k_J3_bitCount_0 {p : Program} {l : Launch} {e : Env} {s : State} {m : MethodId} {args : Array Value} {below : List Frame} {meth : Method} {c : Code}  {post : Int32 → Prop} (hC : sCx RJ3 cJ3_bitCount 1 (some .int) p s m args meth c) (p0 : Int32) {H : Heap} {locs : List Loc} {ls : Array Slot} (hS : va_S (fun _ => False) s.heap H locs) (hl : lv_has ls 1 [(0, .int p0)])  (hw : w_J3_bitCount post p0) : W p l e rmJ3_bitCount s m args below meth c H locs 0 0 (MQ below (va_Qi (fun r (_ : Unit) => post r) (fun _ _ => True) (fun _ => False)) args s 0 0 (fun _ => False)) (F0 m 0 ls []) := by
  have hx := hC.1
  have hb := hC.2.1
  have hown := hC.2.2.2.1
  have hts := hC.2.2.2.2.1
  unfold w_J3_bitCount at hw
  refine lv_iload_n hx hb dJ3_bitCount_0 rfl (lv_at hl 0 rfl) ?_
  refine lv_iload_n hx hb dJ3_bitCount_1 rfl (lv_at hl 0 rfl) ?_
  refine lv_iconst (v := 1) hx hb dJ3_bitCount_2 (by decide) ?_
  refine lv_iushr hx hb dJ3_bitCount_3 rfl ?_
  refine lv_ldcw (v := 1431655765) hx hb hown (hts _ q664) dJ3_bitCount_4 ?_
  refine lv_iand hx hb dJ3_bitCount_7 ?_
  refine lv_isub hx hb dJ3_bitCount_8 ?_
  refine lv_topi (fun v1 ev1 => ?_)
  have hw := hw v1 ev1
  refine lv_istore_n (lv' := [(0, .int v1)]) hx hb dJ3_bitCount_9 rfl hl (by decide) rfl (fun ls hl => ?_)
  refine lv_iload_n hx hb dJ3_bitCount_10 rfl (lv_at hl 0 rfl) ?_
  refine lv_ldcw (v := 858993459) hx hb hown (hts _ q665) dJ3_bitCount_11 ?_
  refine lv_iand hx hb dJ3_bitCount_14 ?_
  refine lv_iload_n hx hb dJ3_bitCount_15 rfl (lv_at hl 0 rfl) ?_
  refine lv_iconst (v := 2) hx hb dJ3_bitCount_16 (by decide) ?_
  refine lv_iushr hx hb dJ3_bitCount_17 rfl ?_
  refine lv_ldcw (v := 858993459) hx hb hown (hts _ q665) dJ3_bitCount_18 ?_
  refine lv_iand hx hb dJ3_bitCount_21 ?_
  refine lv_iadd hx hb dJ3_bitCount_22 ?_
  refine lv_topi (fun v2 ev2 => ?_)
  have hw := hw v2 ev2
  refine lv_istore_n (lv' := [(0, .int v2)]) hx hb dJ3_bitCount_23 rfl hl (by decide) rfl (fun ls hl => ?_)
  refine lv_iload_n hx hb dJ3_bitCount_24 rfl (lv_at hl 0 rfl) ?_
  refine lv_iload_n hx hb dJ3_bitCount_25 rfl (lv_at hl 0 rfl) ?_
  refine lv_iconst (v := 4) hx hb dJ3_bitCount_26 (by decide) ?_
  refine lv_iushr hx hb dJ3_bitCount_27 rfl ?_
  refine lv_iadd hx hb dJ3_bitCount_28 ?_
  refine lv_ldcw (v := 252645135) hx hb hown (hts _ q666) dJ3_bitCount_29 ?_
  refine lv_iand hx hb dJ3_bitCount_32 ?_
  refine lv_topi (fun v3 ev3 => ?_)
  have hw := hw v3 ev3
  refine lv_istore_n (lv' := [(0, .int v3)]) hx hb dJ3_bitCount_33 rfl hl (by decide) rfl (fun ls hl => ?_)
  refine lv_iload_n hx hb dJ3_bitCount_34 rfl (lv_at hl 0 rfl) ?_
  refine lv_iload_n hx hb dJ3_bitCount_35 rfl (lv_at hl 0 rfl) ?_
  refine lv_bipush (v := 8) hx hb dJ3_bitCount_36 (by decide) ?_
  refine lv_iushr hx hb dJ3_bitCount_38 rfl ?_
  refine lv_iadd hx hb dJ3_bitCount_39 ?_
  refine lv_topi (fun v4 ev4 => ?_)
  have hw := hw v4 ev4
  refine lv_istore_n (lv' := [(0, .int v4)]) hx hb dJ3_bitCount_40 rfl hl (by decide) rfl (fun ls hl => ?_)
  refine lv_iload_n hx hb dJ3_bitCount_41 rfl (lv_at hl 0 rfl) ?_
  refine lv_iload_n hx hb dJ3_bitCount_42 rfl (lv_at hl 0 rfl) ?_
  refine lv_bipush (v := 16) hx hb dJ3_bitCount_43 (by decide) ?_
  refine lv_iushr hx hb dJ3_bitCount_45 rfl ?_
  refine lv_iadd hx hb dJ3_bitCount_46 ?_
  refine lv_topi (fun v5 ev5 => ?_)
  have hw := hw v5 ev5
  refine lv_istore_n (lv' := [(0, .int v5)]) hx hb dJ3_bitCount_47 rfl hl (by decide) rfl (fun ls hl => ?_)
  refine lv_iload_n hx hb dJ3_bitCount_48 rfl (lv_at hl 0 rfl) ?_
  refine lv_bipush (v := 63) hx hb dJ3_bitCount_49 (by decide) ?_
  refine lv_iand hx hb dJ3_bitCount_51 ?_
  exact sReti hC hS hw dJ3_bitCount_52
abbrev v_J3_bitCount (p0 : Int32) (post : Int32 → Prop) : Prop := w_J3_bitCount post p0
set_option maxHeartbeats 4000000 in
set_option maxRecDepth 100000 in
theorem met_J3_bitCount (l : Launch) (p0 : Int32) (post : Int32 → Prop) (hw : v_J3_bitCount p0 post) : Met l yJ3_bitCount (ws_ yJ3_bitCount cJ3_bitCount 1 (some .int)) rmJ3_bitCount (va_Pc [.int p0] (fun _ => True)) (va_Qi (fun r (_ : Unit) => post r) (fun _ _ => True) (fun _ => False)) 0 0 (fun _ => False) :=
  sEntF (by decide +kernel) (Nat.le_of_ble_eq_true rfl) (fun p e s m below meth c ls hC hS hl => k_J3_bitCount_0 hC _ hS hl hw)
theorem hd_J3_bitCount : yJ3_bitCount.cls ≠ "java/lang/invoke/MethodHandle" ∧ yJ3_bitCount.cls ≠ "java/lang/invoke/VarHandle" ∧ (parseMethodDescriptor yJ3_bitCount.desc).map (fun d => d.parameters.length) = some 1 := by decide +kernel
section
variable {p : Program} {l : Launch} {e : Env} {R : Room} {s : State} {m : MethodId} {args : Array Value} {below : List Frame} {meth : Method} {c : Code} {H : Heap} {locs : List Loc} {cells slots : Nat} {Q : State → Prop} {cc : ByteArray} {nL : Nat} {ret : Option FieldType} {pc : Nat} {ls : Array Slot} {rest : List Value}
set_option maxHeartbeats 4000000 in
set_option maxRecDepth 100000 in
theorem inv_q661 {σ : Type} {D : va_G} {dT : Nat → ClassId} {Wd : σ → va_W} {I : σ → Prop} {A : Nat → Prop} {x : σ} {p0 : Int32} {post : Int32 → Prop} (hC : wCx RX0 cc nL ret D dT p s m args meth c) (hS : wSt D Wd I A s x H locs) (hl : ls.size = nL) (hw : v_J3_bitCount p0 post) (hR : rmJ3_bitCount.frames + 1 ≤ R.frames ∧ 8 + (1 + 11) + rmJ3_bitCount.locals ≤ R.locals) (hrest : (rest.map fun v => v.category).sum ≤ 8) (hf : cells ≤ R.cells ∧ slots ≤ R.slots) (hdg : decode cc pc = .ok (.invokestatic 267, 3)) (kk : ∀ (r : Int32) (H1 : Heap) (locs1 : List Loc), post r → wSt D Wd I A s x H1 locs1 → W p l e R s m args below meth c H1 locs1 cells slots Q (F0 m (pc + 3) ls (.int r :: rest))) : W p l e R s m args below meth c H locs cells slots Q (F0 m pc ls (.int p0 :: rest)) :=
  wCallSi (As := [.int p0]) (rest := rest) hC (met_J3_bitCount l p0 post hw) (lw_S q661 q662 q96 q663) ⟨⟨rfl, rfl⟩, hd_J3_bitCount, hR, hf⟩ hS hl rfl hrest hdg kk
set_option maxHeartbeats 4000000 in
set_option maxRecDepth 100000 in
theorem invs_q661 {p0 : Int32} {post : Int32 → Prop} (hC : sCx RX0 cc nL ret p s m args meth c) (hS : va_S (fun _ => False) s.heap H locs) (hl : ls.size = nL) (hw : v_J3_bitCount p0 post) (hR : rmJ3_bitCount.frames + 1 ≤ R.frames ∧ 8 + (1 + 11) + rmJ3_bitCount.locals ≤ R.locals) (hrest : (rest.map fun v => v.category).sum ≤ 8) (hf : cells ≤ R.cells ∧ slots ≤ R.slots) (hdg : decode cc pc = .ok (.invokestatic 267, 3)) (kk : ∀ (r : Int32) (H1 : Heap) (locs1 : List Loc), post r → va_S (fun _ => False) s.heap H1 locs1 → W p l e R s m args below meth c H1 locs1 cells slots Q (F0 m (pc + 3) ls (.int r :: rest))) : W p l e R s m args below meth c H locs cells slots Q (F0 m pc ls (.int p0 :: rest)) :=
  sCallSi (As := [.int p0]) (rest := rest) hC (met_J3_bitCount l p0 post hw) (lw_S q661 q662 q96 q663) ⟨⟨rfl, rfl⟩, hd_J3_bitCount, hR, hf⟩ hS hl rfl hrest hdg kk
end
/-! java/lang/Integer.signum -/
def w_J3_signum (p0 : Int32) (post : Int32 → Prop) : Prop :=
  post ((p0 >>> (31 &&& 31)) ||| (((-p0).toUInt32 >>> ((31 : Int32).toUInt32 &&& Int32.toUInt32 31)).toInt32))
abbrev rmJ3_signum : Room := { frames := 0, cells := 0, slots := 0, locals := 0 }
set_option maxHeartbeats 4000000 in
set_option maxRecDepth 100000 in
theorem k_J3_signum_0 {p : Program} {l : Launch} {e : Env} {s : State} {m : MethodId} {args : Array Value} {below : List Frame} {meth : Method} {c : Code}  {p0 : Int32} {post : Int32 → Prop} (hC : sCx RJ3 cJ3_signum 1 (some .int) p s m args meth c) {H : Heap} {locs : List Loc} {ls : Array Slot} (hS : va_S (fun _ => False) s.heap H locs) (hl : lv_has ls 1 [(0, .int p0)])  (hw : w_J3_signum p0 post) : W p l e rmJ3_signum s m args below meth c H locs 0 0 (MQ below (va_Qi (fun r (_ : Unit) => post r) (fun _ _ => True) (fun _ => False)) args s 0 0 (fun _ => False)) (F0 m 0 ls []) := by
  have hx := hC.1
  have hb := hC.2.1
  have hown := hC.2.2.2.1
  have hts := hC.2.2.2.2.1
  unfold w_J3_signum at hw
  refine lv_iload_n hx hb dJ3_signum_0 rfl (lv_at hl 0 rfl) ?_
  refine lv_bipush (v := 31) hx hb dJ3_signum_1 (by decide) ?_
  refine lv_ishr hx hb dJ3_signum_3 ?_
  refine lv_iload_n hx hb dJ3_signum_4 rfl (lv_at hl 0 rfl) ?_
  refine lv_ineg hx hb dJ3_signum_5 ?_
  refine lv_bipush (v := 31) hx hb dJ3_signum_6 (by decide) ?_
  refine lv_iushr hx hb dJ3_signum_8 rfl ?_
  refine lv_ior hx hb dJ3_signum_9 ?_
  exact sReti hC hS hw dJ3_signum_10
abbrev v_J3_signum (p0 : Int32) (post : Int32 → Prop) : Prop := w_J3_signum p0 post
set_option maxHeartbeats 4000000 in
set_option maxRecDepth 100000 in
theorem met_J3_signum (l : Launch) (p0 : Int32) (post : Int32 → Prop) (hw : v_J3_signum p0 post) : Met l yJ3_signum (ws_ yJ3_signum cJ3_signum 1 (some .int)) rmJ3_signum (va_Pc [.int p0] (fun _ => True)) (va_Qi (fun r (_ : Unit) => post r) (fun _ _ => True) (fun _ => False)) 0 0 (fun _ => False) :=
  sEntF (by decide +kernel) (Nat.le_of_ble_eq_true rfl) (fun p e s m below meth c ls hC hS hl => k_J3_signum_0 hC  hS hl hw)
theorem hd_J3_signum : yJ3_signum.cls ≠ "java/lang/invoke/MethodHandle" ∧ yJ3_signum.cls ≠ "java/lang/invoke/VarHandle" ∧ (parseMethodDescriptor yJ3_signum.desc).map (fun d => d.parameters.length) = some 1 := by decide +kernel
section
variable {p : Program} {l : Launch} {e : Env} {R : Room} {s : State} {m : MethodId} {args : Array Value} {below : List Frame} {meth : Method} {c : Code} {H : Heap} {locs : List Loc} {cells slots : Nat} {Q : State → Prop} {cc : ByteArray} {nL : Nat} {ret : Option FieldType} {pc : Nat} {ls : Array Slot} {rest : List Value}
set_option maxHeartbeats 4000000 in
set_option maxRecDepth 100000 in
theorem inv_q731 {σ : Type} {D : va_G} {dT : Nat → ClassId} {Wd : σ → va_W} {I : σ → Prop} {A : Nat → Prop} {x : σ} {p0 : Int32} {post : Int32 → Prop} (hC : wCx RX0 cc nL ret D dT p s m args meth c) (hS : wSt D Wd I A s x H locs) (hl : ls.size = nL) (hw : v_J3_signum p0 post) (hR : rmJ3_signum.frames + 1 ≤ R.frames ∧ 8 + (1 + 11) + rmJ3_signum.locals ≤ R.locals) (hrest : (rest.map fun v => v.category).sum ≤ 8) (hf : cells ≤ R.cells ∧ slots ≤ R.slots) (hdg : decode cc pc = .ok (.invokestatic 301, 3)) (kk : ∀ (r : Int32) (H1 : Heap) (locs1 : List Loc), post r → wSt D Wd I A s x H1 locs1 → W p l e R s m args below meth c H1 locs1 cells slots Q (F0 m (pc + 3) ls (.int r :: rest))) : W p l e R s m args below meth c H locs cells slots Q (F0 m pc ls (.int p0 :: rest)) :=
  wCallSi (As := [.int p0]) (rest := rest) hC (met_J3_signum l p0 post hw) (lw_S q731 q732 q96 q733) ⟨⟨rfl, rfl⟩, hd_J3_signum, hR, hf⟩ hS hl rfl hrest hdg kk
set_option maxHeartbeats 4000000 in
set_option maxRecDepth 100000 in
theorem invs_q731 {p0 : Int32} {post : Int32 → Prop} (hC : sCx RX0 cc nL ret p s m args meth c) (hS : va_S (fun _ => False) s.heap H locs) (hl : ls.size = nL) (hw : v_J3_signum p0 post) (hR : rmJ3_signum.frames + 1 ≤ R.frames ∧ 8 + (1 + 11) + rmJ3_signum.locals ≤ R.locals) (hrest : (rest.map fun v => v.category).sum ≤ 8) (hf : cells ≤ R.cells ∧ slots ≤ R.slots) (hdg : decode cc pc = .ok (.invokestatic 301, 3)) (kk : ∀ (r : Int32) (H1 : Heap) (locs1 : List Loc), post r → va_S (fun _ => False) s.heap H1 locs1 → W p l e R s m args below meth c H1 locs1 cells slots Q (F0 m (pc + 3) ls (.int r :: rest))) : W p l e R s m args below meth c H locs cells slots Q (F0 m pc ls (.int p0 :: rest)) :=
  sCallSi (As := [.int p0]) (rest := rest) hC (met_J3_signum l p0 post hw) (lw_S q731 q732 q96 q733) ⟨⟨rfl, rfl⟩, hd_J3_signum, hR, hf⟩ hS hl rfl hrest hdg kk
end
/-! LeastFrames.in -/
def w_X0_in (p0 : Int64) (p2 : Int64) (p4 : Int64) (post : Int32 → Prop) : Prop :=
  (p0 < p2 → (post (0 : Int32))) ∧ (¬ p0 < p2 → ((p4 < p0 → (post (0 : Int32))) ∧ (¬ p4 < p0 → (post (1 : Int32)))))
abbrev rmX0_in : Room := { frames := 0, cells := 0, slots := 0, locals := 0 }
set_option maxHeartbeats 4000000 in
set_option maxRecDepth 100000 in
theorem k_X0_in_0 {p : Program} {l : Launch} {e : Env} {s : State} {m : MethodId} {args : Array Value} {below : List Frame} {meth : Method} {c : Code}  {p0 : Int64} {p2 : Int64} {p4 : Int64} {post : Int32 → Prop} (hC : sCx RX0 cX0_in 6 (some .boolean) p s m args meth c) {H : Heap} {locs : List Loc} {ls : Array Slot} (hS : va_S (fun _ => False) s.heap H locs) (hl : lv_has ls 6 [(0, .long p0), (2, .long p2), (4, .long p4)])  (hw : w_X0_in p0 p2 p4 post) : W p l e rmX0_in s m args below meth c H locs 0 0 (MQ below (va_Qi (fun r (_ : Unit) => post r) (fun _ _ => True) (fun _ => False)) args s 0 0 (fun _ => False)) (F0 m 0 ls []) := by
  have hx := hC.1
  have hb := hC.2.1
  have hown := hC.2.2.2.1
  have hts := hC.2.2.2.2.1
  unfold w_X0_in at hw
  refine lv_lload_n hx hb dX0_in_0 rfl (lv_at hl 0 rfl) ?_
  refine lv_lload_n hx hb dX0_in_1 rfl (lv_at hl 1 rfl) ?_
  refine lc_if_lt (tgt := 17) hx hb dX0_in_2 dX0_in_3 (by decide) (fun c1 => ?_) (fun c1 => ?_)
  · have hw := hw.1 c1
    refine lv_iconst (v := 0) hx hb dX0_in_17 (by decide) ?_
    exact sRetz hC hS (by decide) hw dX0_in_18
  · have hw := hw.2 c1
    refine lv_lload_n hx hb dX0_in_6 rfl (lv_at hl 0 rfl) ?_
    refine lv_lload hx hb dX0_in_7 (lv_at hl 2 rfl) ?_
    refine lc_if_gt (tgt := 17) hx hb dX0_in_9 dX0_in_10 (by decide) (fun c2 => ?_) (fun c2 => ?_)
    · have hw := hw.1 c2
      refine lv_iconst (v := 0) hx hb dX0_in_17 (by decide) ?_
      exact sRetz hC hS (by decide) hw dX0_in_18
    · have hw := hw.2 c2
      refine lv_iconst (v := 1) hx hb dX0_in_13 (by decide) ?_
      refine lv_goto (tgt := 18) hx hb dX0_in_14 (by decide) ?_
      exact sRetz hC hS (by decide) hw dX0_in_18
abbrev v_X0_in (p0 : Int64) (p2 : Int64) (p4 : Int64) (post : Int32 → Prop) : Prop := w_X0_in p0 p2 p4 post
set_option maxHeartbeats 4000000 in
set_option maxRecDepth 100000 in
theorem met_X0_in (l : Launch) (p0 : Int64) (p2 : Int64) (p4 : Int64) (post : Int32 → Prop) (hw : v_X0_in p0 p2 p4 post) : Met l yX0_in (ws_ yX0_in cX0_in 6 (some .boolean)) rmX0_in (va_Pc [.long p0, .long p2, .long p4] (fun _ => True)) (va_Qi (fun r (_ : Unit) => post r) (fun _ _ => True) (fun _ => False)) 0 0 (fun _ => False) :=
  sEnt (by decide) (Nat.le_of_ble_eq_true rfl) (fun p e s m below meth c ls hC hS hl => k_X0_in_0 hC  hS hl hw)
theorem hd_X0_in : yX0_in.cls ≠ "java/lang/invoke/MethodHandle" ∧ yX0_in.cls ≠ "java/lang/invoke/VarHandle" ∧ (parseMethodDescriptor yX0_in.desc).map (fun d => d.parameters.length) = some 3 := by decide +kernel
section
variable {p : Program} {l : Launch} {e : Env} {R : Room} {s : State} {m : MethodId} {args : Array Value} {below : List Frame} {meth : Method} {c : Code} {H : Heap} {locs : List Loc} {cells slots : Nat} {Q : State → Prop} {cc : ByteArray} {nL : Nat} {ret : Option FieldType} {pc : Nat} {ls : Array Slot} {rest : List Value}
set_option maxHeartbeats 4000000 in
set_option maxRecDepth 100000 in
theorem inv_q239 {σ : Type} {D : va_G} {dT : Nat → ClassId} {Wd : σ → va_W} {I : σ → Prop} {A : Nat → Prop} {x : σ} {p0 : Int64} {p2 : Int64} {p4 : Int64} {post : Int32 → Prop} (hC : wCx RX0 cc nL ret D dT p s m args meth c) (hS : wSt D Wd I A s x H locs) (hl : ls.size = nL) (hw : v_X0_in p0 p2 p4 post) (hR : rmX0_in.frames + 1 ≤ R.frames ∧ 8 + (6 + 11) + rmX0_in.locals ≤ R.locals) (hrest : (rest.map fun v => v.category).sum ≤ 8) (hf : cells ≤ R.cells ∧ slots ≤ R.slots) (hdg : decode cc pc = .ok (.invokestatic 40, 3)) (kk : ∀ (r : Int32) (H1 : Heap) (locs1 : List Loc), post r → wSt D Wd I A s x H1 locs1 → W p l e R s m args below meth c H1 locs1 cells slots Q (F0 m (pc + 3) ls (.int r :: rest))) : W p l e R s m args below meth c H locs cells slots Q (F0 m pc ls (.long p4 :: .long p2 :: .long p0 :: rest)) :=
  wCallSi (As := [.long p0, .long p2, .long p4]) (rest := rest) hC (met_X0_in l p0 p2 p4 post hw) (lw_S q239 q240 q85 q241) ⟨⟨rfl, rfl⟩, hd_X0_in, hR, hf⟩ hS hl rfl hrest hdg kk
set_option maxHeartbeats 4000000 in
set_option maxRecDepth 100000 in
theorem invs_q239 {p0 : Int64} {p2 : Int64} {p4 : Int64} {post : Int32 → Prop} (hC : sCx RX0 cc nL ret p s m args meth c) (hS : va_S (fun _ => False) s.heap H locs) (hl : ls.size = nL) (hw : v_X0_in p0 p2 p4 post) (hR : rmX0_in.frames + 1 ≤ R.frames ∧ 8 + (6 + 11) + rmX0_in.locals ≤ R.locals) (hrest : (rest.map fun v => v.category).sum ≤ 8) (hf : cells ≤ R.cells ∧ slots ≤ R.slots) (hdg : decode cc pc = .ok (.invokestatic 40, 3)) (kk : ∀ (r : Int32) (H1 : Heap) (locs1 : List Loc), post r → va_S (fun _ => False) s.heap H1 locs1 → W p l e R s m args below meth c H1 locs1 cells slots Q (F0 m (pc + 3) ls (.int r :: rest))) : W p l e R s m args below meth c H locs cells slots Q (F0 m pc ls (.long p4 :: .long p2 :: .long p0 :: rest)) :=
  sCallSi (As := [.long p0, .long p2, .long p4]) (rest := rest) hC (met_X0_in l p0 p2 p4 post hw) (lw_S q239 q240 q85 q241) ⟨⟨rfl, rfl⟩, hd_X0_in, hR, hf⟩ hS hl rfl hrest hdg kk
end
/-! LeastFrames_Point.becomes -/
def w_X1_becomes_17b (j : Nat) (p1 : Int32) (p2 : Int32) (K17 : XS → Int32 → Prop) (post : XS → Prop) (X : XS) (x3 : Int32) : Prop :=
  ((2 : Int32) ≤ x3 → (post X)) ∧ (¬ (2 : Int32) ≤ x3 → (vp_in x3 2 ∧ (∀ X2 : XS, X2 = sX_pl X (upd2 (X_pl X) j x3.toNatClampNeg 0) → (vp_in x3 2 ∧ (∀ X3 : XS, X3 = sX_ps X2 (upd2 (X_ps X2) j x3.toNatClampNeg 0) → (∀ v4 : Int32, v4 = x3 + 1 → (K17 X3 v4)))))))
def w_X1_becomes_17 (j : Nat) (p1 : Int32) (p2 : Int32) (post : XS → Prop) : Nat → XS → Int32 → Prop
  | 0, _, _ => False
  | n + 1, X, x3 => w_X1_becomes_17b j p1 p2 (w_X1_becomes_17 j p1 p2 post n) post X x3
def w_X1_becomes (j : Nat) (p1 : Int32) (p2 : Int32) (post : XS → Prop) (X : XS) : Prop :=
  ∀ X1 : XS, X1 = sX_px X (upd (X_px X) j p1) → (∀ X2 : XS, X2 = sX_py X1 (upd (X_py X1) j p2) → (∀ X3 : XS, X3 = sX_ph X2 (upd (X_ph X2) j 0) → (∃ n, w_X1_becomes_17 j p1 p2 post n X3 0)))
abbrev rmX1_becomes : Room := { frames := 0, cells := 0, slots := 0, locals := 0 }
set_option maxHeartbeats 4000000 in
set_option maxRecDepth 100000 in
theorem k_X1_becomes_17b {p : Program} {l : Launch} {e : Env} {s : State} {m : MethodId} {args : Array Value} {below : List Frame} {meth : Method} {c : Code} {D : va_G} {dT : Nat → ClassId} {a : Nat → Nat} {A : Nat → Prop} {vs0 : XE} {j : Nat} {p1 : Int32} {p2 : Int32} {K17 : XS → Int32 → Prop} {post : XS → Prop} (hC : wCx RX1 cX1_becomes 4 (none) D dT p s m args meth c) (hA : wAz A s) (hj : j < 5) (hK17 : ∀ (X : XS) (x3 : Int32), K17 X x3 → ∀ {vs : XE} {H : Heap} {locs : List Loc} {ls : Array Slot}, StX D dT a A s vs0 X vs H locs → lv_has ls 4 [(0, .ref (a (2 + j))), (3, .int x3)] → W p l e rmX1_becomes s m args below meth c H locs 0 0 (MQ below (va_Qv (fun u9 => post u9.1) (wB D (XW dT a) (XI vs0) A) A) args s 0 0 A) (F0 m 17 ls [])) (X : XS) (x3 : Int32) {vs : XE} {H : Heap} {locs : List Loc} {ls : Array Slot} (hS : StX D dT a A s vs0 X vs H locs) (hl : lv_has ls 4 [(0, .ref (a (2 + j))), (3, .int x3)])  (hw : w_X1_becomes_17b j p1 p2 K17 post X x3) : W p l e rmX1_becomes s m args below meth c H locs 0 0 (MQ below (va_Qv (fun u9 => post u9.1) (wB D (XW dT a) (XI vs0) A) A) args s 0 0 A) (F0 m 17 ls []) := by
  have hx := hC.1
  have hb := hC.2.1
  have hown := hC.2.2.2.1
  have hts := hC.2.2.2.2.1
  unfold w_X1_becomes_17b at hw
  refine lv_iload_n hx hb dX1_becomes_17 rfl (lv_at hl 1 rfl) ?_
  refine lv_iconst (v := 2) hx hb dX1_becomes_18 (by decide) ?_
  refine lv_icmp_ge (tgt := 42) hx hb dX1_becomes_19 (by decide) (fun c1 => ?_) (fun c1 => ?_)
  · have hw := hw.1 c1
    exact wRetv hC hS hw (Nat.le_refl _) (Nat.le_refl _) dX1_becomes_42
  · have hw := hw.2 c1
    refine lv_aload_n hx hb dX1_becomes_22 rfl (lv_at hl 0 rfl) ?_
    refine ld_q128 hC hS hj dX1_becomes_23 ?_
    refine lv_iload_n hx hb dX1_becomes_26 rfl (lv_at hl 1 rfl) ?_
    refine lv_iconst (v := 0) hx hb dX1_becomes_27 (by decide) ?_
    have hi := hw.1
    have hw := hw.2
    refine as_PL hC hS hj hi dX1_becomes_28 (fun H locs hS => ?_)
    have hw := hw (sX_pl X (upd2 (X_pl X) j x3.toNatClampNeg 0)) rfl
    generalize sX_pl X (upd2 (X_pl X) j x3.toNatClampNeg 0) = X2 at hS hw
    refine lv_aload_n hx hb dX1_becomes_29 rfl (lv_at hl 0 rfl) ?_
    refine ld_q131 hC hS hj dX1_becomes_30 ?_
    refine lv_iload_n hx hb dX1_becomes_33 rfl (lv_at hl 1 rfl) ?_
    refine lv_iconst (v := 0) hx hb dX1_becomes_34 (by decide) ?_
    have hi := hw.1
    have hw := hw.2
    refine as_PS hC hS hj hi dX1_becomes_35 (fun H locs hS => ?_)
    have hw := hw (sX_ps X2 (upd2 (X_ps X2) j x3.toNatClampNeg 0)) rfl
    generalize sX_ps X2 (upd2 (X_ps X2) j x3.toNatClampNeg 0) = X3 at hS hw
    obtain ⟨v4, ev4⟩ : ∃ y : Int32, y = x3 + 1 := ⟨_, rfl⟩
    have hw := hw v4 ev4
    refine lv_iinc (v := v4) (lv' := [(3, .int v4), (0, .ref (a (2 + j)))]) hx hb dX1_becomes_36 hl (k := 1) rfl (by rw [ev4]; rfl) (by decide) rfl (fun ls hl => ?_)
    refine lv_goto (tgt := 17) hx hb dX1_becomes_39 (by decide) ?_
    exact hK17 _ _ hw hS (lv_sub hl [1, 0] rfl)
set_option maxHeartbeats 4000000 in
set_option maxRecDepth 100000 in
theorem k_X1_becomes_17 {p : Program} {l : Launch} {e : Env} {s : State} {m : MethodId} {args : Array Value} {below : List Frame} {meth : Method} {c : Code} {D : va_G} {dT : Nat → ClassId} {a : Nat → Nat} {A : Nat → Prop} {vs0 : XE} {j : Nat} {p1 : Int32} {p2 : Int32} {post : XS → Prop} (hC : wCx RX1 cX1_becomes 4 (none) D dT p s m args meth c) (hA : wAz A s) (hj : j < 5) : ∀ (X : XS) (x3 : Int32) (n : Nat), ∀ {vs : XE} {H : Heap} {locs : List Loc} {ls : Array Slot}, StX D dT a A s vs0 X vs H locs → lv_has ls 4 [(0, .ref (a (2 + j))), (3, .int x3)] → w_X1_becomes_17 j p1 p2 post n X x3 → W p l e rmX1_becomes s m args below meth c H locs 0 0 (MQ below (va_Qv (fun u9 => post u9.1) (wB D (XW dT a) (XI vs0) A) A) args s 0 0 A) (F0 m 17 ls []) := by
  intro X x3 n
  induction n generalizing X x3 with
  | zero => intro vs H locs ls  hS hl hw; exact hw.elim
  | succ n ih =>
    intro vs H locs ls  hS hl hw
    exact k_X1_becomes_17b hC hA hj (fun X x3 hk {vs} {H} {locs} {ls}  hS hl => ih X x3  hS hl hk) X x3  hS hl hw
set_option maxHeartbeats 4000000 in
set_option maxRecDepth 100000 in
theorem k_X1_becomes_0 {p : Program} {l : Launch} {e : Env} {s : State} {m : MethodId} {args : Array Value} {below : List Frame} {meth : Method} {c : Code} {D : va_G} {dT : Nat → ClassId} {a : Nat → Nat} {A : Nat → Prop} {vs0 : XE} {j : Nat} {p1 : Int32} {p2 : Int32} {post : XS → Prop} (hC : wCx RX1 cX1_becomes 4 (none) D dT p s m args meth c) (hA : wAz A s) (hj : j < 5) (X : XS) {vs : XE} {H : Heap} {locs : List Loc} {ls : Array Slot} (hS : StX D dT a A s vs0 X vs H locs) (hl : lv_has ls 4 [(0, .ref (a (2 + j))), (1, .int p1), (2, .int p2)])  (hw : w_X1_becomes j p1 p2 post X) : W p l e rmX1_becomes s m args below meth c H locs 0 0 (MQ below (va_Qv (fun u9 => post u9.1) (wB D (XW dT a) (XI vs0) A) A) args s 0 0 A) (F0 m 0 ls []) := by
  have hx := hC.1
  have hb := hC.2.1
  have hown := hC.2.2.2.1
  have hts := hC.2.2.2.2.1
  unfold w_X1_becomes at hw
  refine lv_aload_n hx hb dX1_becomes_0 rfl (lv_at hl 0 rfl) ?_
  refine lv_iload_n hx hb dX1_becomes_1 rfl (lv_at hl 1 rfl) ?_
  refine st_q122 hC hS hj dX1_becomes_2 (fun H locs hS => ?_)
  have hw := hw (sX_px X (upd (X_px X) j p1)) rfl
  generalize sX_px X (upd (X_px X) j p1) = X1 at hS hw
  refine lv_aload_n hx hb dX1_becomes_5 rfl (lv_at hl 0 rfl) ?_
  refine lv_iload_n hx hb dX1_becomes_6 rfl (lv_at hl 2 rfl) ?_
  refine st_q124 hC hS hj dX1_becomes_7 (fun H locs hS => ?_)
  have hw := hw (sX_py X1 (upd (X_py X1) j p2)) rfl
  generalize sX_py X1 (upd (X_py X1) j p2) = X2 at hS hw
  refine lv_aload_n hx hb dX1_becomes_10 rfl (lv_at hl 0 rfl) ?_
  refine lv_iconst (v := 0) hx hb dX1_becomes_11 (by decide) ?_
  refine st_q126 hC hS hj dX1_becomes_12 (fun H locs hS => ?_)
  have hw := hw (sX_ph X2 (upd (X_ph X2) j 0)) rfl
  generalize sX_ph X2 (upd (X_ph X2) j 0) = X3 at hS hw
  refine lv_iconst (v := 0) hx hb dX1_becomes_15 (by decide) ?_
  refine lv_istore_n (lv' := [(3, .int 0), (0, .ref (a (2 + j))), (1, .int p1), (2, .int p2)]) hx hb dX1_becomes_16 rfl hl (by decide) rfl (fun ls hl => ?_)
  obtain ⟨n, hw⟩ := hw
  exact k_X1_becomes_17 hC hA hj _ _ n hS (lv_sub hl [1, 0] rfl) hw
abbrev v_X1_becomes (X : XS) (j : Nat) (p1 : Int32) (p2 : Int32) (post : XS → Prop) : Prop := w_X1_becomes j p1 p2 post X
set_option maxHeartbeats 4000000 in
set_option maxRecDepth 100000 in
theorem met_X1_becomes (l : Launch) (D : va_G) (dT : Nat → ClassId) (a : Nat → Nat) (sz : Nat) (X : XS) (vs0 : XE) (j : Nat) (p1 : Int32) (p2 : Int32) (hj : j < 5) (post : XS → Prop) (hw : v_X1_becomes X j p1 p2 post) : Met l yX1_becomes (ws_ yX1_becomes cX1_becomes 4 (none)) rmX1_becomes (wPc D dT (XW dT a) (XI vs0) sz (X, vs0) [.ref (a (2 + j)), .int p1, .int p2]) (va_Qv (fun u9 => post u9.1) (wB D (XW dT a) (XI vs0) (va_A ((XW dT a) (X, vs0)) sz)) (va_A ((XW dT a) (X, vs0)) sz)) 0 0 (va_A ((XW dT a) (X, vs0)) sz) :=
  wEnt (Q := fun A => (va_Qv (fun u9 => post u9.1) (wB D (XW dT a) (XI vs0) A) A)) (by decide) (Nat.le_of_ble_eq_true rfl) (fun p e s m below meth c A ls hC _ hA hS hl => k_X1_becomes_0 hC hA hj _ hS hl hw) sz
theorem hd_X1_becomes : yX1_becomes.cls ≠ "java/lang/invoke/MethodHandle" ∧ yX1_becomes.cls ≠ "java/lang/invoke/VarHandle" ∧ (parseMethodDescriptor yX1_becomes.desc).map (fun d => d.parameters.length) = some 2 := by decide +kernel
section
variable {p : Program} {l : Launch} {e : Env} {R : Room} {s : State} {m : MethodId} {args : Array Value} {below : List Frame} {meth : Method} {c : Code} {H : Heap} {locs : List Loc} {cells slots : Nat} {Q : State → Prop} {cc : ByteArray} {nL : Nat} {ret : Option FieldType} {pc : Nat} {ls : Array Slot} {rest : List Value}
set_option maxHeartbeats 4000000 in
set_option maxRecDepth 100000 in
theorem inv_q242 {D : va_G} {dT : Nat → ClassId} {a : Nat → Nat} {A : Nat → Prop} {vs0 : XE} {vs : XE} {X : XS} {j : Nat} {p1 : Int32} {p2 : Int32} {post : XS → Prop} (hC : wCx RX0 cc nL ret D dT p s m args meth c) (hA : wAz A s) (hS : StX D dT a A s vs0 X vs H locs) (hj : j < 5) (hl : ls.size = nL) (hw : v_X1_becomes X j p1 p2 post) (hR : rmX1_becomes.frames + 1 ≤ R.frames ∧ 8 + (4 + 11) + rmX1_becomes.locals ≤ R.locals) (hrest : (rest.map fun v => v.category).sum ≤ 8) (hf : cells ≤ R.cells ∧ slots ≤ R.slots) (hdg : decode cc pc = .ok (.invokevirtual 149, 3)) (kk : ∀ (X1 : XS) (vs1 : XE) (H1 : Heap) (locs1 : List Loc), post X1 → (∀ v ∈ vs, v ∈ vs1) → StX D dT a A s vs0 X1 vs1 H1 locs1 → W p l e R s m args below meth c H1 locs1 cells slots Q (F0 m (pc + 3) ls rest)) : W p l e R s m args below meth c H locs cells slots Q (F0 m pc ls (.int p2 :: .int p1 :: .ref (a (2 + j)) :: rest)) := by
  exact wCallVv (As := [.int p1, .int p2]) (rest := rest) (mc := 0) (ms := 0) (2 + j) hC (met_X1_becomes l D dT a H.size X vs j p1 p2 hj post hw) (lw_V q242 q243 q244 q86 q245) ⟨⟨rfl, rfl⟩, hd_X1_becomes, hR, hf⟩ (XW_P hj) rfl rfl hA hS.self hl rfl hrest hdg (fun  u H1 locs1 hp hS1 => kk  u.1 u.2 H1 locs1 hp hS1.2.2.2.2 (hS.back hS1))
end
/-! LeastFrames.point -/
def w_X0_point_29b (p1 : Int32) (p2 : Int32) (K29 : XS → Int32 → Prop) (post : Int32 → XS → Prop) (X : XS) (x3 : Int32) : Prop :=
  ((X_many X) ≤ x3 → (((X_many X) = (5 : Int32) → (post ((-4) : Int32) X)) ∧ (¬ (X_many X) = (5 : Int32) → (vp_in (X_many X) 5 ∧ (v_X1_becomes X ((X_many X).toNatClampNeg) p1 p2 (fun  X4 => ∀ X5 : XS, X5 = sX_many X4 ((X_many X4) + 1) → (post ((X_many X5) - 1) X5))))))) ∧ (¬ (X_many X) ≤ x3 → (vp_in x3 5 ∧ (((X_px X x3.toNatClampNeg) = p1 → (vp_in x3 5 ∧ (((X_py X x3.toNatClampNeg) = p2 → (post ((-3) : Int32) X)) ∧ (¬ (X_py X x3.toNatClampNeg) = p2 → (∀ v11 : Int32, v11 = x3 + 1 → (K29 X v11)))))) ∧ (¬ (X_px X x3.toNatClampNeg) = p1 → (∀ v8 : Int32, v8 = x3 + 1 → (K29 X v8))))))
def w_X0_point_29 (p1 : Int32) (p2 : Int32) (post : Int32 → XS → Prop) : Nat → XS → Int32 → Prop
  | 0, _, _ => False
  | n + 1, X, x3 => w_X0_point_29b p1 p2 (w_X0_point_29 p1 p2 post n) post X x3
def w_X0_point (p1 : Int32) (p2 : Int32) (post : Int32 → XS → Prop) (X : XS) : Prop :=
  v_X0_in p1.toInt64 (0 : Int64) (4 : Int64) (fun r1 => (r1 = (0 : Int32) → (post ((-2) : Int32) X)) ∧ (¬ r1 = (0 : Int32) → (v_X0_in p2.toInt64 (0 : Int64) (4 : Int64) (fun r3 => (r3 = (0 : Int32) → (post ((-2) : Int32) X)) ∧ (¬ r3 = (0 : Int32) → (∃ n, w_X0_point_29 p1 p2 post n X 0))))))
abbrev rmX0_point : Room := { frames := 1, cells := 0, slots := 0, locals := 25 }
set_option maxHeartbeats 4000000 in
set_option maxRecDepth 100000 in
theorem k_X0_point_29b {p : Program} {l : Launch} {e : Env} {s : State} {m : MethodId} {args : Array Value} {below : List Frame} {meth : Method} {c : Code} {D : va_G} {dT : Nat → ClassId} {a : Nat → Nat} {A : Nat → Prop} {vs0 : XE} {p1 : Int32} {p2 : Int32} {K29 : XS → Int32 → Prop} {post : Int32 → XS → Prop} (hC : wCx RX0 cX0_point 4 (some .int) D dT p s m args meth c) (hA : wAz A s) (hK29 : ∀ (X : XS) (x3 : Int32), K29 X x3 → ∀ {vs : XE} {H : Heap} {locs : List Loc} {ls : Array Slot}, StX D dT a A s vs0 X vs H locs → lv_has ls 4 [(0, .ref (a 0)), (1, .int p1), (2, .int p2), (3, .int x3)] → W p l e rmX0_point s m args below meth c H locs 0 0 (MQ below (va_Qi (fun r u9 => post r u9.1) (wB D (XW dT a) (XI vs0) A) A) args s 0 0 A) (F0 m 29 ls [])) (X : XS) (x3 : Int32) {vs : XE} {H : Heap} {locs : List Loc} {ls : Array Slot} (hS : StX D dT a A s vs0 X vs H locs) (hl : lv_has ls 4 [(0, .ref (a 0)), (1, .int p1), (2, .int p2), (3, .int x3)])  (hw : w_X0_point_29b p1 p2 K29 post X x3) : W p l e rmX0_point s m args below meth c H locs 0 0 (MQ below (va_Qi (fun r u9 => post r u9.1) (wB D (XW dT a) (XI vs0) A) A) args s 0 0 A) (F0 m 29 ls []) := by
  have hx := hC.1
  have hb := hC.2.1
  have hown := hC.2.2.2.1
  have hts := hC.2.2.2.2.1
  unfold w_X0_point_29b at hw
  refine lv_iload_n hx hb dX0_point_29 rfl (lv_at hl 3 rfl) ?_
  refine lv_aload_n hx hb dX0_point_30 rfl (lv_at hl 0 rfl) ?_
  refine ld_q196 hC hS dX0_point_31 ?_
  refine lv_icmp_ge (tgt := 72) hx hb dX0_point_34 (by decide) (fun c1 => ?_) (fun c1 => ?_)
  · have hw := hw.1 c1
    refine lv_aload_n hx hb dX0_point_72 rfl (lv_at hl 0 rfl) ?_
    refine ld_q196 hC hS dX0_point_73 ?_
    refine lv_iconst (v := 5) hx hb dX0_point_76 (by decide) ?_
    refine lv_icmp_ne (tgt := 83) hx hb dX0_point_77 (by decide) (fun c2 => ?_) (fun c2 => ?_)
    · have hw := hw.2 c2
      refine lv_aload_n hx hb dX0_point_83 rfl (lv_at hl 0 rfl) ?_
      refine ld_q193 hC hS dX0_point_84 ?_
      refine lv_aload_n hx hb dX0_point_87 rfl (lv_at hl 0 rfl) ?_
      refine ld_q196 hC hS dX0_point_88 ?_
      have hi3 := hw.1
      have hw := hw.2
      refine aa_PA hC hS hi3 dX0_point_91 ?_
      refine lv_iload_n hx hb dX0_point_92 rfl (lv_at hl 1 rfl) ?_
      refine lv_iload_n hx hb dX0_point_93 rfl (lv_at hl 2 rfl) ?_
      refine inv_q242 hC hA hS (vp_lt hi3) hl.1 hw ⟨Nat.le_of_ble_eq_true rfl, Nat.le_of_ble_eq_true rfl⟩ (Nat.le_of_ble_eq_true rfl) ⟨Nat.zero_le _, Nat.zero_le _⟩ dX0_point_94 (fun  X4 vs H locs hw hv9 hS => ?_)
      refine lv_aload_n hx hb dX0_point_97 rfl (lv_at hl 0 rfl) ?_
      refine lv_dup hx hb dX0_point_98 rfl ?_
      refine ld_q196 hC hS dX0_point_99 ?_
      refine lv_iconst (v := 1) hx hb dX0_point_102 (by decide) ?_
      refine lv_iadd hx hb dX0_point_103 ?_
      refine st_q196 hC hS dX0_point_104 (fun H locs hS => ?_)
      have hw := hw (sX_many X4 ((X_many X4) + 1)) rfl
      generalize sX_many X4 ((X_many X4) + 1) = X5 at hS hw
      refine lv_aload_n hx hb dX0_point_107 rfl (lv_at hl 0 rfl) ?_
      refine ld_q196 hC hS dX0_point_108 ?_
      refine lv_iconst (v := 1) hx hb dX0_point_111 (by decide) ?_
      refine lv_isub hx hb dX0_point_112 ?_
      exact wReti hC hS hw (Nat.le_refl _) (Nat.le_refl _) dX0_point_113
    · have hw := hw.1 c2
      refine lv_bipush (v := (-4)) hx hb dX0_point_80 (by decide) ?_
      exact wReti hC hS hw (Nat.le_refl _) (Nat.le_refl _) dX0_point_82
  · have hw := hw.2 c1
    refine lv_aload_n hx hb dX0_point_37 rfl (lv_at hl 0 rfl) ?_
    refine ld_q193 hC hS dX0_point_38 ?_
    refine lv_iload_n hx hb dX0_point_41 rfl (lv_at hl 3 rfl) ?_
    have hi6 := hw.1
    have hw := hw.2
    refine aa_PA hC hS hi6 dX0_point_42 ?_
    refine ld_q123 hC hS (vp_lt hi6) dX0_point_43 ?_
    refine lv_iload_n hx hb dX0_point_46 rfl (lv_at hl 1 rfl) ?_
    refine lv_icmp_ne (tgt := 66) hx hb dX0_point_47 (by decide) (fun c7 => ?_) (fun c7 => ?_)
    · have hw := hw.2 c7
      obtain ⟨v8, ev8⟩ : ∃ y : Int32, y = x3 + 1 := ⟨_, rfl⟩
      have hw := hw v8 ev8
      refine lv_iinc (v := v8) (lv' := [(3, .int v8), (0, .ref (a 0)), (1, .int p1), (2, .int p2)]) hx hb dX0_point_66 hl (k := 3) rfl (by rw [ev8]; rfl) (by decide) rfl (fun ls hl => ?_)
      refine lv_goto (tgt := 29) hx hb dX0_point_69 (by decide) ?_
      exact hK29 _ _ hw hS (lv_sub hl [1, 2, 3, 0] rfl)
    · have hw := hw.1 c7
      refine lv_aload_n hx hb dX0_point_50 rfl (lv_at hl 0 rfl) ?_
      refine ld_q193 hC hS dX0_point_51 ?_
      refine lv_iload_n hx hb dX0_point_54 rfl (lv_at hl 3 rfl) ?_
      have hi9 := hw.1
      have hw := hw.2
      refine aa_PA hC hS hi9 dX0_point_55 ?_
      refine ld_q125 hC hS (vp_lt hi9) dX0_point_56 ?_
      refine lv_iload_n hx hb dX0_point_59 rfl (lv_at hl 2 rfl) ?_
      refine lv_icmp_ne (tgt := 66) hx hb dX0_point_60 (by decide) (fun c10 => ?_) (fun c10 => ?_)
      · have hw := hw.2 c10
        obtain ⟨v11, ev11⟩ : ∃ y : Int32, y = x3 + 1 := ⟨_, rfl⟩
        have hw := hw v11 ev11
        refine lv_iinc (v := v11) (lv' := [(3, .int v11), (0, .ref (a 0)), (1, .int p1), (2, .int p2)]) hx hb dX0_point_66 hl (k := 3) rfl (by rw [ev11]; rfl) (by decide) rfl (fun ls hl => ?_)
        refine lv_goto (tgt := 29) hx hb dX0_point_69 (by decide) ?_
        exact hK29 _ _ hw hS (lv_sub hl [1, 2, 3, 0] rfl)
      · have hw := hw.1 c10
        refine lv_bipush (v := (-3)) hx hb dX0_point_63 (by decide) ?_
        exact wReti hC hS hw (Nat.le_refl _) (Nat.le_refl _) dX0_point_65
set_option maxHeartbeats 4000000 in
set_option maxRecDepth 100000 in
theorem k_X0_point_29 {p : Program} {l : Launch} {e : Env} {s : State} {m : MethodId} {args : Array Value} {below : List Frame} {meth : Method} {c : Code} {D : va_G} {dT : Nat → ClassId} {a : Nat → Nat} {A : Nat → Prop} {vs0 : XE} {p1 : Int32} {p2 : Int32} {post : Int32 → XS → Prop} (hC : wCx RX0 cX0_point 4 (some .int) D dT p s m args meth c) (hA : wAz A s) : ∀ (X : XS) (x3 : Int32) (n : Nat), ∀ {vs : XE} {H : Heap} {locs : List Loc} {ls : Array Slot}, StX D dT a A s vs0 X vs H locs → lv_has ls 4 [(0, .ref (a 0)), (1, .int p1), (2, .int p2), (3, .int x3)] → w_X0_point_29 p1 p2 post n X x3 → W p l e rmX0_point s m args below meth c H locs 0 0 (MQ below (va_Qi (fun r u9 => post r u9.1) (wB D (XW dT a) (XI vs0) A) A) args s 0 0 A) (F0 m 29 ls []) := by
  intro X x3 n
  induction n generalizing X x3 with
  | zero => intro vs H locs ls  hS hl hw; exact hw.elim
  | succ n ih =>
    intro vs H locs ls  hS hl hw
    exact k_X0_point_29b hC hA (fun X x3 hk {vs} {H} {locs} {ls}  hS hl => ih X x3  hS hl hk) X x3  hS hl hw
set_option maxHeartbeats 4000000 in
set_option maxRecDepth 100000 in
theorem k_X0_point_0 {p : Program} {l : Launch} {e : Env} {s : State} {m : MethodId} {args : Array Value} {below : List Frame} {meth : Method} {c : Code} {D : va_G} {dT : Nat → ClassId} {a : Nat → Nat} {A : Nat → Prop} {vs0 : XE} {p1 : Int32} {p2 : Int32} {post : Int32 → XS → Prop} (hC : wCx RX0 cX0_point 4 (some .int) D dT p s m args meth c) (hA : wAz A s) (X : XS) {vs : XE} {H : Heap} {locs : List Loc} {ls : Array Slot} (hS : StX D dT a A s vs0 X vs H locs) (hl : lv_has ls 4 [(0, .ref (a 0)), (1, .int p1), (2, .int p2)])  (hw : w_X0_point p1 p2 post X) : W p l e rmX0_point s m args below meth c H locs 0 0 (MQ below (va_Qi (fun r u9 => post r u9.1) (wB D (XW dT a) (XI vs0) A) A) args s 0 0 A) (F0 m 0 ls []) := by
  have hx := hC.1
  have hb := hC.2.1
  have hown := hC.2.2.2.1
  have hts := hC.2.2.2.2.1
  unfold w_X0_point at hw
  refine lv_iload_n hx hb dX0_point_0 rfl (lv_at hl 1 rfl) ?_
  refine lv_i2l hx hb dX0_point_1 rfl ?_
  refine lv_lconst (v := 0) hx hb dX0_point_2 (by decide) ?_
  refine lv_ldc2 (v := 4) hx hb hown (hts _ q238) dX0_point_3 ?_
  refine inv_q239 hC hS hl.1 hw ⟨Nat.le_of_ble_eq_true rfl, Nat.le_of_ble_eq_true rfl⟩ (Nat.le_of_ble_eq_true rfl) ⟨Nat.zero_le _, Nat.zero_le _⟩ dX0_point_6 (fun r1 H locs hw hS => ?_)
  refine lv_if_eq (tgt := 24) hx hb dX0_point_9 (by decide) (fun c2 => ?_) (fun c2 => ?_)
  · have hw := hw.1 c2
    refine lv_bipush (v := (-2)) hx hb dX0_point_24 (by decide) ?_
    exact wReti hC hS hw (Nat.le_refl _) (Nat.le_refl _) dX0_point_26
  · have hw := hw.2 c2
    refine lv_iload_n hx hb dX0_point_12 rfl (lv_at hl 2 rfl) ?_
    refine lv_i2l hx hb dX0_point_13 rfl ?_
    refine lv_lconst (v := 0) hx hb dX0_point_14 (by decide) ?_
    refine lv_ldc2 (v := 4) hx hb hown (hts _ q238) dX0_point_15 ?_
    refine inv_q239 hC hS hl.1 hw ⟨Nat.le_of_ble_eq_true rfl, Nat.le_of_ble_eq_true rfl⟩ (Nat.le_of_ble_eq_true rfl) ⟨Nat.zero_le _, Nat.zero_le _⟩ dX0_point_18 (fun r3 H locs hw hS => ?_)
    refine lv_if_ne (tgt := 27) hx hb dX0_point_21 (by decide) (fun c4 => ?_) (fun c4 => ?_)
    · have hw := hw.2 c4
      refine lv_iconst (v := 0) hx hb dX0_point_27 (by decide) ?_
      refine lv_istore_n (lv' := [(3, .int 0), (0, .ref (a 0)), (1, .int p1), (2, .int p2)]) hx hb dX0_point_28 rfl hl (by decide) rfl (fun ls hl => ?_)
      obtain ⟨n, hw⟩ := hw
      exact k_X0_point_29 hC hA _ _ n hS (lv_sub hl [1, 2, 3, 0] rfl) hw
    · have hw := hw.1 c4
      refine lv_bipush (v := (-2)) hx hb dX0_point_24 (by decide) ?_
      exact wReti hC hS hw (Nat.le_refl _) (Nat.le_refl _) dX0_point_26
abbrev v_X0_point (X : XS) (p1 : Int32) (p2 : Int32) (post : Int32 → XS → Prop) : Prop := w_X0_point p1 p2 post X
set_option maxHeartbeats 4000000 in
set_option maxRecDepth 100000 in
theorem met_X0_point (l : Launch) (D : va_G) (dT : Nat → ClassId) (a : Nat → Nat) (sz : Nat) (X : XS) (vs0 : XE) (p1 : Int32) (p2 : Int32) (post : Int32 → XS → Prop) (hw : v_X0_point X p1 p2 post) : Met l yX0_point (ws_ yX0_point cX0_point 4 (some .int)) rmX0_point (wPc D dT (XW dT a) (XI vs0) sz (X, vs0) [.ref (a 0), .int p1, .int p2]) (va_Qi (fun r u9 => post r u9.1) (wB D (XW dT a) (XI vs0) (va_A ((XW dT a) (X, vs0)) sz)) (va_A ((XW dT a) (X, vs0)) sz)) 0 0 (va_A ((XW dT a) (X, vs0)) sz) :=
  wEnt (Q := fun A => (va_Qi (fun r u9 => post r u9.1) (wB D (XW dT a) (XI vs0) A) A)) (by decide) (Nat.le_of_ble_eq_true rfl) (fun p e s m below meth c A ls hC _ hA hS hl => k_X0_point_0 hC hA _ hS hl hw) sz
theorem hd_X0_point : yX0_point.cls ≠ "java/lang/invoke/MethodHandle" ∧ yX0_point.cls ≠ "java/lang/invoke/VarHandle" ∧ (parseMethodDescriptor yX0_point.desc).map (fun d => d.parameters.length) = some 2 := by decide +kernel
/-! LeastFrames.pairs -/
def w_X0_pairs (X : XS) (post : Int32 → Prop) : Prop :=
  post (((X_many X) * ((X_many X) - 1)) / 2)
abbrev rmX0_pairs : Room := { frames := 0, cells := 0, slots := 0, locals := 0 }
set_option maxHeartbeats 4000000 in
set_option maxRecDepth 100000 in
theorem k_X0_pairs_0 {p : Program} {l : Launch} {e : Env} {s : State} {m : MethodId} {args : Array Value} {below : List Frame} {meth : Method} {c : Code} {D : va_G} {dT : Nat → ClassId} {a : Nat → Nat} {A : Nat → Prop} {vs0 : XE} {X : XS} {post : Int32 → Prop} (hC : wCx RX0 cX0_pairs 1 (some .int) D dT p s m args meth c) (hA : wAz A s) {H : Heap} {locs : List Loc} {ls : Array Slot} (hS : StX D dT a A s vs0 X vs0 H locs) (hl : lv_has ls 1 [(0, .ref (a 0))])  (hw : w_X0_pairs X post) : W p l e rmX0_pairs s m args below meth c H locs 0 0 (MQ below (va_Qi (fun r u9 => u9 = (X, vs0) ∧ post r) (wB D (XW dT a) (XI vs0) A) A) args s 0 0 A) (F0 m 0 ls []) := by
  have hx := hC.1
  have hb := hC.2.1
  have hown := hC.2.2.2.1
  have hts := hC.2.2.2.2.1
  unfold w_X0_pairs at hw
  refine lv_aload_n hx hb dX0_pairs_0 rfl (lv_at hl 0 rfl) ?_
  refine ld_q196 hC hS dX0_pairs_1 ?_
  refine lv_aload_n hx hb dX0_pairs_4 rfl (lv_at hl 0 rfl) ?_
  refine ld_q196 hC hS dX0_pairs_5 ?_
  refine lv_iconst (v := 1) hx hb dX0_pairs_8 (by decide) ?_
  refine lv_isub hx hb dX0_pairs_9 ?_
  refine lv_imul hx hb dX0_pairs_10 ?_
  refine lv_iconst (v := 2) hx hb dX0_pairs_11 (by decide) ?_
  refine lv_idiv hx hb dX0_pairs_12 (by decide) ?_
  exact wReti hC hS ⟨rfl, hw⟩ (Nat.le_refl _) (Nat.le_refl _) dX0_pairs_13
abbrev v_X0_pairs (X : XS) (post : Int32 → Prop) : Prop := w_X0_pairs X post
set_option maxHeartbeats 4000000 in
set_option maxRecDepth 100000 in
theorem met_X0_pairs (l : Launch) (D : va_G) (dT : Nat → ClassId) (a : Nat → Nat) (sz : Nat) (X : XS) (vs0 : XE) (post : Int32 → Prop) (hw : v_X0_pairs X post) : Met l yX0_pairs (ws_ yX0_pairs cX0_pairs 1 (some .int)) rmX0_pairs (wPc D dT (XW dT a) (XI vs0) sz (X, vs0) [.ref (a 0)]) (va_Qi (fun r u9 => u9 = (X, vs0) ∧ post r) (wB D (XW dT a) (XI vs0) (va_A ((XW dT a) (X, vs0)) sz)) (va_A ((XW dT a) (X, vs0)) sz)) 0 0 (va_A ((XW dT a) (X, vs0)) sz) :=
  wEnt (Q := fun A => (va_Qi (fun r u9 => u9 = (X, vs0) ∧ post r) (wB D (XW dT a) (XI vs0) A) A)) (by decide) (Nat.le_of_ble_eq_true rfl) (fun p e s m below meth c A ls hC _ hA hS hl => k_X0_pairs_0 hC hA  hS hl hw) sz
theorem hd_X0_pairs : yX0_pairs.cls ≠ "java/lang/invoke/MethodHandle" ∧ yX0_pairs.cls ≠ "java/lang/invoke/VarHandle" ∧ (parseMethodDescriptor yX0_pairs.desc).map (fun d => d.parameters.length) = some 0 := by decide +kernel
section
variable {p : Program} {l : Launch} {e : Env} {R : Room} {s : State} {m : MethodId} {args : Array Value} {below : List Frame} {meth : Method} {c : Code} {H : Heap} {locs : List Loc} {cells slots : Nat} {Q : State → Prop} {cc : ByteArray} {nL : Nat} {ret : Option FieldType} {pc : Nat} {ls : Array Slot} {rest : List Value}
set_option maxHeartbeats 4000000 in
set_option maxRecDepth 100000 in
theorem inv_q250 {D : va_G} {dT : Nat → ClassId} {a : Nat → Nat} {A : Nat → Prop} {vs0 : XE} {vs : XE} {X : XS} {post : Int32 → Prop} (hC : wCx RX0 cc nL ret D dT p s m args meth c) (hA : wAz A s) (hS : StX D dT a A s vs0 X vs H locs) (hl : ls.size = nL) (hw : v_X0_pairs X post) (hR : rmX0_pairs.frames + 1 ≤ R.frames ∧ 8 + (1 + 11) + rmX0_pairs.locals ≤ R.locals) (hrest : (rest.map fun v => v.category).sum ≤ 8) (hf : cells ≤ R.cells ∧ slots ≤ R.slots) (hdg : decode cc pc = .ok (.invokevirtual 153, 3)) (kk : ∀ (r : Int32) (H1 : Heap) (locs1 : List Loc), post r → StX D dT a A s vs0 X vs H1 locs1 → W p l e R s m args below meth c H1 locs1 cells slots Q (F0 m (pc + 3) ls (.int r :: rest))) : W p l e R s m args below meth c H locs cells slots Q (F0 m pc ls (.ref (a 0) :: rest)) := by
  exact wCallVi (As := []) (rest := rest) (mc := 0) (ms := 0) 0 hC (met_X0_pairs l D dT a H.size X vs post hw) (lw_V q250 q252 qs0 q85 q253) ⟨⟨rfl, rfl⟩, hd_X0_pairs, hR, hf⟩ XW_0 rfl rfl hA hS.self hl rfl hrest hdg (fun r u H1 locs1 hp hS1 => kk r H1 locs1 hp.2 (by have h9 := hS.back hS1; rw [hp.1] at h9; exact h9))
end
section
variable {p : Program} {l : Launch} {e : Env} {R : Room} {s : State} {m : MethodId} {args : Array Value} {below : List Frame} {meth : Method} {c : Code} {H : Heap} {locs : List Loc} {cells slots : Nat} {Q : State → Prop} {cc : ByteArray} {nL : Nat} {ret : Option FieldType} {pc : Nat} {ls : Array Slot} {rest : List Value}
set_option maxHeartbeats 4000000 in
set_option maxRecDepth 100000 in
theorem inv_q387 {D : va_G} {dT : Nat → ClassId} {a : Nat → Nat} {A : Nat → Prop} {vs0 : XE} {vs : XE} {X : XS} {post : Int32 → Prop} (hC : wCx RX2 cc nL ret D dT p s m args meth c) (hA : wAz A s) (hS : StX D dT a A s vs0 X vs H locs) (hl : ls.size = nL) (hw : v_X0_pairs X post) (hR : rmX0_pairs.frames + 1 ≤ R.frames ∧ 8 + (1 + 11) + rmX0_pairs.locals ≤ R.locals) (hrest : (rest.map fun v => v.category).sum ≤ 8) (hf : cells ≤ R.cells ∧ slots ≤ R.slots) (hdg : decode cc pc = .ok (.invokevirtual 62, 3)) (kk : ∀ (r : Int32) (H1 : Heap) (locs1 : List Loc), post r → StX D dT a A s vs0 X vs H1 locs1 → W p l e R s m args below meth c H1 locs1 cells slots Q (F0 m (pc + 3) ls (.int r :: rest))) : W p l e R s m args below meth c H locs cells slots Q (F0 m pc ls (.ref (a 0) :: rest)) := by
  exact wCallVNi (As := []) (rest := rest) (mc := 0) (ms := 0) 0 hC (met_X0_pairs l D dT a H.size X vs post hw) nw_q387 q253 q85 q252 qs0 ⟨⟨rfl, rfl⟩, hd_X0_pairs, hR, hf⟩ XW_0 rfl rfl hA hS.self hl rfl hrest hdg (fun r u H1 locs1 hp hS1 => kk r H1 locs1 hp.2 (by have h9 := hS.back hS1; rw [hp.1] at h9; exact h9))
end
/-! LeastFrames.back -/
def w_X0_back (post : Int32 → XS → Prop) (X : XS) : Prop :=
  ((X_many X) = (0 : Int32) → (post ((-3) : Int32) X)) ∧ (¬ (X_many X) = (0 : Int32) → (∀ X2 : XS, X2 = sX_many X ((X_many X) - 1) → (v_X0_pairs X2 (fun r3 => ∀ X4 : XS, X4 = sX_bars X2 ((X_bars X2) &&& ((1 <<< (r3 &&& 31)) - 1)) → (post (X_many X4) X4)))))
abbrev rmX0_back : Room := { frames := 1, cells := 0, slots := 0, locals := 20 }
set_option maxHeartbeats 4000000 in
set_option maxRecDepth 100000 in
theorem k_X0_back_0 {p : Program} {l : Launch} {e : Env} {s : State} {m : MethodId} {args : Array Value} {below : List Frame} {meth : Method} {c : Code} {D : va_G} {dT : Nat → ClassId} {a : Nat → Nat} {A : Nat → Prop} {vs0 : XE} {post : Int32 → XS → Prop} (hC : wCx RX0 cX0_back 1 (some .int) D dT p s m args meth c) (hA : wAz A s) (X : XS) {vs : XE} {H : Heap} {locs : List Loc} {ls : Array Slot} (hS : StX D dT a A s vs0 X vs H locs) (hl : lv_has ls 1 [(0, .ref (a 0))])  (hw : w_X0_back post X) : W p l e rmX0_back s m args below meth c H locs 0 0 (MQ below (va_Qi (fun r u9 => post r u9.1) (wB D (XW dT a) (XI vs0) A) A) args s 0 0 A) (F0 m 0 ls []) := by
  have hx := hC.1
  have hb := hC.2.1
  have hown := hC.2.2.2.1
  have hts := hC.2.2.2.2.1
  unfold w_X0_back at hw
  refine lv_aload_n hx hb dX0_back_0 rfl (lv_at hl 0 rfl) ?_
  refine ld_q196 hC hS dX0_back_1 ?_
  refine lv_if_ne (tgt := 10) hx hb dX0_back_4 (by decide) (fun c1 => ?_) (fun c1 => ?_)
  · have hw := hw.2 c1
    refine lv_aload_n hx hb dX0_back_10 rfl (lv_at hl 0 rfl) ?_
    refine lv_dup hx hb dX0_back_11 rfl ?_
    refine ld_q196 hC hS dX0_back_12 ?_
    refine lv_iconst (v := 1) hx hb dX0_back_15 (by decide) ?_
    refine lv_isub hx hb dX0_back_16 ?_
    refine st_q196 hC hS dX0_back_17 (fun H locs hS => ?_)
    have hw := hw (sX_many X ((X_many X) - 1)) rfl
    generalize sX_many X ((X_many X) - 1) = X2 at hS hw
    refine lv_aload_n hx hb dX0_back_20 rfl (lv_at hl 0 rfl) ?_
    refine lv_dup hx hb dX0_back_21 rfl ?_
    refine ld_q197 hC hS dX0_back_22 ?_
    refine lv_iconst (v := 1) hx hb dX0_back_25 (by decide) ?_
    refine lv_aload_n hx hb dX0_back_26 rfl (lv_at hl 0 rfl) ?_
    refine inv_q250 hC hA hS hl.1 hw ⟨Nat.le_of_ble_eq_true rfl, Nat.le_of_ble_eq_true rfl⟩ (Nat.le_of_ble_eq_true rfl) ⟨Nat.zero_le _, Nat.zero_le _⟩ dX0_back_27 (fun r3 H locs hw hS => ?_)
    refine lv_ishl hx hb dX0_back_30 ?_
    refine lv_iconst (v := 1) hx hb dX0_back_31 (by decide) ?_
    refine lv_isub hx hb dX0_back_32 ?_
    refine lv_iand hx hb dX0_back_33 ?_
    refine st_q197 hC hS dX0_back_34 (fun H locs hS => ?_)
    have hw := hw (sX_bars X2 ((X_bars X2) &&& ((1 <<< (r3 &&& 31)) - 1))) rfl
    generalize sX_bars X2 ((X_bars X2) &&& ((1 <<< (r3 &&& 31)) - 1)) = X4 at hS hw
    refine lv_aload_n hx hb dX0_back_37 rfl (lv_at hl 0 rfl) ?_
    refine ld_q196 hC hS dX0_back_38 ?_
    exact wReti hC hS hw (Nat.le_refl _) (Nat.le_refl _) dX0_back_41
  · have hw := hw.1 c1
    refine lv_bipush (v := (-3)) hx hb dX0_back_7 (by decide) ?_
    exact wReti hC hS hw (Nat.le_refl _) (Nat.le_refl _) dX0_back_9
abbrev v_X0_back (X : XS) (post : Int32 → XS → Prop) : Prop := w_X0_back post X
set_option maxHeartbeats 4000000 in
set_option maxRecDepth 100000 in
theorem met_X0_back (l : Launch) (D : va_G) (dT : Nat → ClassId) (a : Nat → Nat) (sz : Nat) (X : XS) (vs0 : XE) (post : Int32 → XS → Prop) (hw : v_X0_back X post) : Met l yX0_back (ws_ yX0_back cX0_back 1 (some .int)) rmX0_back (wPc D dT (XW dT a) (XI vs0) sz (X, vs0) [.ref (a 0)]) (va_Qi (fun r u9 => post r u9.1) (wB D (XW dT a) (XI vs0) (va_A ((XW dT a) (X, vs0)) sz)) (va_A ((XW dT a) (X, vs0)) sz)) 0 0 (va_A ((XW dT a) (X, vs0)) sz) :=
  wEnt (Q := fun A => (va_Qi (fun r u9 => post r u9.1) (wB D (XW dT a) (XI vs0) A) A)) (by decide) (Nat.le_of_ble_eq_true rfl) (fun p e s m below meth c A ls hC _ hA hS hl => k_X0_back_0 hC hA _ hS hl hw) sz
theorem hd_X0_back : yX0_back.cls ≠ "java/lang/invoke/MethodHandle" ∧ yX0_back.cls ≠ "java/lang/invoke/VarHandle" ∧ (parseMethodDescriptor yX0_back.desc).map (fun d => d.parameters.length) = some 0 := by decide +kernel
/-! LeastFrames.isPoint -/
def w_X0_isPoint (X : XS) (p1 : Int32) (post : Int32 → Prop) : Prop :=
  v_X0_in p1.toInt64 (0 : Int64) (((X_many X) - 1).toInt64) (fun r1 => (r1 &&& 1 = r1) ∧ (post r1))
abbrev rmX0_isPoint : Room := { frames := 1, cells := 0, slots := 0, locals := 25 }
set_option maxHeartbeats 4000000 in
set_option maxRecDepth 100000 in
theorem k_X0_isPoint_0 {p : Program} {l : Launch} {e : Env} {s : State} {m : MethodId} {args : Array Value} {below : List Frame} {meth : Method} {c : Code} {D : va_G} {dT : Nat → ClassId} {a : Nat → Nat} {A : Nat → Prop} {vs0 : XE} {X : XS} {p1 : Int32} {post : Int32 → Prop} (hC : wCx RX0 cX0_isPoint 2 (some .boolean) D dT p s m args meth c) (hA : wAz A s) {H : Heap} {locs : List Loc} {ls : Array Slot} (hS : StX D dT a A s vs0 X vs0 H locs) (hl : lv_has ls 2 [(0, .ref (a 0)), (1, .int p1)])  (hw : w_X0_isPoint X p1 post) : W p l e rmX0_isPoint s m args below meth c H locs 0 0 (MQ below (va_Qi (fun r u9 => u9 = (X, vs0) ∧ post r) (wB D (XW dT a) (XI vs0) A) A) args s 0 0 A) (F0 m 0 ls []) := by
  have hx := hC.1
  have hb := hC.2.1
  have hown := hC.2.2.2.1
  have hts := hC.2.2.2.2.1
  unfold w_X0_isPoint at hw
  refine lv_iload_n hx hb dX0_isPoint_0 rfl (lv_at hl 1 rfl) ?_
  refine lv_i2l hx hb dX0_isPoint_1 rfl ?_
  refine lv_lconst (v := 0) hx hb dX0_isPoint_2 (by decide) ?_
  refine lv_aload_n hx hb dX0_isPoint_3 rfl (lv_at hl 0 rfl) ?_
  refine ld_q196 hC hS dX0_isPoint_4 ?_
  refine lv_iconst (v := 1) hx hb dX0_isPoint_7 (by decide) ?_
  refine lv_isub hx hb dX0_isPoint_8 ?_
  refine lv_i2l hx hb dX0_isPoint_9 rfl ?_
  refine inv_q239 hC hS hl.1 hw ⟨Nat.le_of_ble_eq_true rfl, Nat.le_of_ble_eq_true rfl⟩ (Nat.le_of_ble_eq_true rfl) ⟨Nat.zero_le _, Nat.zero_le _⟩ dX0_isPoint_10 (fun r1 H locs hw hS => ?_)
  exact wRetz hC hS hw.1 ⟨rfl, hw.2⟩ (Nat.le_refl _) (Nat.le_refl _) dX0_isPoint_13
abbrev v_X0_isPoint (X : XS) (p1 : Int32) (post : Int32 → Prop) : Prop := w_X0_isPoint X p1 post
set_option maxHeartbeats 4000000 in
set_option maxRecDepth 100000 in
theorem met_X0_isPoint (l : Launch) (D : va_G) (dT : Nat → ClassId) (a : Nat → Nat) (sz : Nat) (X : XS) (vs0 : XE) (p1 : Int32) (post : Int32 → Prop) (hw : v_X0_isPoint X p1 post) : Met l yX0_isPoint (ws_ yX0_isPoint cX0_isPoint 2 (some .boolean)) rmX0_isPoint (wPc D dT (XW dT a) (XI vs0) sz (X, vs0) [.ref (a 0), .int p1]) (va_Qi (fun r u9 => u9 = (X, vs0) ∧ post r) (wB D (XW dT a) (XI vs0) (va_A ((XW dT a) (X, vs0)) sz)) (va_A ((XW dT a) (X, vs0)) sz)) 0 0 (va_A ((XW dT a) (X, vs0)) sz) :=
  wEnt (Q := fun A => (va_Qi (fun r u9 => u9 = (X, vs0) ∧ post r) (wB D (XW dT a) (XI vs0) A) A)) (by decide) (Nat.le_of_ble_eq_true rfl) (fun p e s m below meth c A ls hC _ hA hS hl => k_X0_isPoint_0 hC hA  hS hl hw) sz
theorem hd_X0_isPoint : yX0_isPoint.cls ≠ "java/lang/invoke/MethodHandle" ∧ yX0_isPoint.cls ≠ "java/lang/invoke/VarHandle" ∧ (parseMethodDescriptor yX0_isPoint.desc).map (fun d => d.parameters.length) = some 1 := by decide +kernel
section
variable {p : Program} {l : Launch} {e : Env} {R : Room} {s : State} {m : MethodId} {args : Array Value} {below : List Frame} {meth : Method} {c : Code} {H : Heap} {locs : List Loc} {cells slots : Nat} {Q : State → Prop} {cc : ByteArray} {nL : Nat} {ret : Option FieldType} {pc : Nat} {ls : Array Slot} {rest : List Value}
set_option maxHeartbeats 4000000 in
set_option maxRecDepth 100000 in
theorem inv_q258 {D : va_G} {dT : Nat → ClassId} {a : Nat → Nat} {A : Nat → Prop} {vs0 : XE} {vs : XE} {X : XS} {p1 : Int32} {post : Int32 → Prop} (hC : wCx RX0 cc nL ret D dT p s m args meth c) (hA : wAz A s) (hS : StX D dT a A s vs0 X vs H locs) (hl : ls.size = nL) (hw : v_X0_isPoint X p1 post) (hR : rmX0_isPoint.frames + 1 ≤ R.frames ∧ 8 + (2 + 11) + rmX0_isPoint.locals ≤ R.locals) (hrest : (rest.map fun v => v.category).sum ≤ 8) (hf : cells ≤ R.cells ∧ slots ≤ R.slots) (hdg : decode cc pc = .ok (.invokevirtual 160, 3)) (kk : ∀ (r : Int32) (H1 : Heap) (locs1 : List Loc), post r → StX D dT a A s vs0 X vs H1 locs1 → W p l e R s m args below meth c H1 locs1 cells slots Q (F0 m (pc + 3) ls (.int r :: rest))) : W p l e R s m args below meth c H locs cells slots Q (F0 m pc ls (.int p1 :: .ref (a 0) :: rest)) := by
  exact wCallVi (As := [.int p1]) (rest := rest) (mc := 0) (ms := 0) 0 hC (met_X0_isPoint l D dT a H.size X vs p1 post hw) (lw_V q258 q260 qs1 q85 q261) ⟨⟨rfl, rfl⟩, hd_X0_isPoint, hR, hf⟩ XW_0 rfl rfl hA hS.self hl rfl hrest hdg (fun r u H1 locs1 hp hS1 => kk r H1 locs1 hp.2 (by have h9 := hS.back hS1; rw [hp.1] at h9; exact h9))
end
/-! LeastFrames.hold -/
def w_X0_hold (p1 : Int32) (p2 : Int32) (post : Int32 → XS → Prop) (X : XS) : Prop :=
  v_X0_isPoint X p1 (fun r1 => (r1 = (0 : Int32) → (post ((-2) : Int32) X)) ∧ (¬ r1 = (0 : Int32) → (v_X0_in p2.toInt64 (0 : Int64) (3 : Int64) (fun r3 => (r3 = (0 : Int32) → (post ((-2) : Int32) X)) ∧ (¬ r3 = (0 : Int32) → (vp_in p1 5 ∧ (∀ v6 : Int32, v6 = X_ph X p1.toNatClampNeg → (vp_in p1 5 ∧ (∀ X8 : XS, X8 = sX_ph X (upd (X_ph X) p1.toNatClampNeg p2) → (post v6 X8))))))))))
abbrev rmX0_hold : Room := { frames := 2, cells := 0, slots := 0, locals := 46 }
set_option maxHeartbeats 4000000 in
set_option maxRecDepth 100000 in
theorem k_X0_hold_0 {p : Program} {l : Launch} {e : Env} {s : State} {m : MethodId} {args : Array Value} {below : List Frame} {meth : Method} {c : Code} {D : va_G} {dT : Nat → ClassId} {a : Nat → Nat} {A : Nat → Prop} {vs0 : XE} {p1 : Int32} {p2 : Int32} {post : Int32 → XS → Prop} (hC : wCx RX0 cX0_hold 4 (some .int) D dT p s m args meth c) (hA : wAz A s) (X : XS) {vs : XE} {H : Heap} {locs : List Loc} {ls : Array Slot} (hS : StX D dT a A s vs0 X vs H locs) (hl : lv_has ls 4 [(0, .ref (a 0)), (1, .int p1), (2, .int p2)])  (hw : w_X0_hold p1 p2 post X) : W p l e rmX0_hold s m args below meth c H locs 0 0 (MQ below (va_Qi (fun r u9 => post r u9.1) (wB D (XW dT a) (XI vs0) A) A) args s 0 0 A) (F0 m 0 ls []) := by
  have hx := hC.1
  have hb := hC.2.1
  have hown := hC.2.2.2.1
  have hts := hC.2.2.2.2.1
  unfold w_X0_hold at hw
  refine lv_aload_n hx hb dX0_hold_0 rfl (lv_at hl 0 rfl) ?_
  refine lv_iload_n hx hb dX0_hold_1 rfl (lv_at hl 1 rfl) ?_
  refine inv_q258 hC hA hS hl.1 hw ⟨Nat.le_of_ble_eq_true rfl, Nat.le_of_ble_eq_true rfl⟩ (Nat.le_of_ble_eq_true rfl) ⟨Nat.zero_le _, Nat.zero_le _⟩ dX0_hold_2 (fun r1 H locs hw hS => ?_)
  refine lv_if_eq (tgt := 20) hx hb dX0_hold_5 (by decide) (fun c2 => ?_) (fun c2 => ?_)
  · have hw := hw.1 c2
    refine lv_bipush (v := (-2)) hx hb dX0_hold_20 (by decide) ?_
    exact wReti hC hS hw (Nat.le_refl _) (Nat.le_refl _) dX0_hold_22
  · have hw := hw.2 c2
    refine lv_iload_n hx hb dX0_hold_8 rfl (lv_at hl 2 rfl) ?_
    refine lv_i2l hx hb dX0_hold_9 rfl ?_
    refine lv_lconst (v := 0) hx hb dX0_hold_10 (by decide) ?_
    refine lv_ldc2 (v := 3) hx hb hown (hts _ q262) dX0_hold_11 ?_
    refine inv_q239 hC hS hl.1 hw ⟨Nat.le_of_ble_eq_true rfl, Nat.le_of_ble_eq_true rfl⟩ (Nat.le_of_ble_eq_true rfl) ⟨Nat.zero_le _, Nat.zero_le _⟩ dX0_hold_14 (fun r3 H locs hw hS => ?_)
    refine lv_if_ne (tgt := 23) hx hb dX0_hold_17 (by decide) (fun c4 => ?_) (fun c4 => ?_)
    · have hw := hw.2 c4
      refine lv_aload_n hx hb dX0_hold_23 rfl (lv_at hl 0 rfl) ?_
      refine ld_q193 hC hS dX0_hold_24 ?_
      refine lv_iload_n hx hb dX0_hold_27 rfl (lv_at hl 1 rfl) ?_
      have hi5 := hw.1
      have hw := hw.2
      refine aa_PA hC hS hi5 dX0_hold_28 ?_
      refine ld_q127 hC hS (vp_lt hi5) dX0_hold_29 ?_
      refine lv_topi (fun v6 ev6 => ?_)
      have hw := hw v6 ev6
      refine lv_istore_n (lv' := [(3, .int v6), (0, .ref (a 0)), (1, .int p1), (2, .int p2)]) hx hb dX0_hold_32 rfl hl (by decide) rfl (fun ls hl => ?_)
      refine lv_aload_n hx hb dX0_hold_33 rfl (lv_at hl 1 rfl) ?_
      refine ld_q193 hC hS dX0_hold_34 ?_
      refine lv_iload_n hx hb dX0_hold_37 rfl (lv_at hl 2 rfl) ?_
      have hi7 := hw.1
      have hw := hw.2
      refine aa_PA hC hS hi7 dX0_hold_38 ?_
      refine lv_iload_n hx hb dX0_hold_39 rfl (lv_at hl 3 rfl) ?_
      refine st_q127 hC hS (vp_lt hi7) dX0_hold_40 (fun H locs hS => ?_)
      have hw := hw (sX_ph X (upd (X_ph X) p1.toNatClampNeg p2)) rfl
      generalize sX_ph X (upd (X_ph X) p1.toNatClampNeg p2) = X8 at hS hw
      refine lv_iload_n hx hb dX0_hold_43 rfl (lv_at hl 0 rfl) ?_
      exact wReti hC hS hw (Nat.le_refl _) (Nat.le_refl _) dX0_hold_44
    · have hw := hw.1 c4
      refine lv_bipush (v := (-2)) hx hb dX0_hold_20 (by decide) ?_
      exact wReti hC hS hw (Nat.le_refl _) (Nat.le_refl _) dX0_hold_22
abbrev v_X0_hold (X : XS) (p1 : Int32) (p2 : Int32) (post : Int32 → XS → Prop) : Prop := w_X0_hold p1 p2 post X
set_option maxHeartbeats 4000000 in
set_option maxRecDepth 100000 in
theorem met_X0_hold (l : Launch) (D : va_G) (dT : Nat → ClassId) (a : Nat → Nat) (sz : Nat) (X : XS) (vs0 : XE) (p1 : Int32) (p2 : Int32) (post : Int32 → XS → Prop) (hw : v_X0_hold X p1 p2 post) : Met l yX0_hold (ws_ yX0_hold cX0_hold 4 (some .int)) rmX0_hold (wPc D dT (XW dT a) (XI vs0) sz (X, vs0) [.ref (a 0), .int p1, .int p2]) (va_Qi (fun r u9 => post r u9.1) (wB D (XW dT a) (XI vs0) (va_A ((XW dT a) (X, vs0)) sz)) (va_A ((XW dT a) (X, vs0)) sz)) 0 0 (va_A ((XW dT a) (X, vs0)) sz) :=
  wEnt (Q := fun A => (va_Qi (fun r u9 => post r u9.1) (wB D (XW dT a) (XI vs0) A) A)) (by decide) (Nat.le_of_ble_eq_true rfl) (fun p e s m below meth c A ls hC _ hA hS hl => k_X0_hold_0 hC hA _ hS hl hw) sz
theorem hd_X0_hold : yX0_hold.cls ≠ "java/lang/invoke/MethodHandle" ∧ yX0_hold.cls ≠ "java/lang/invoke/VarHandle" ∧ (parseMethodDescriptor yX0_hold.desc).map (fun d => d.parameters.length) = some 2 := by decide +kernel
/-! LeastFrames.isTwo -/
def w_X0_isTwo (p0 : Int32) (post : Int32 → Prop) : Prop :=
  v_X0_in p0.toInt64 (0 : Int64) (1 : Int64) (fun r1 => (r1 &&& 1 = r1) ∧ (post r1))
abbrev rmX0_isTwo : Room := { frames := 1, cells := 0, slots := 0, locals := 25 }
set_option maxHeartbeats 4000000 in
set_option maxRecDepth 100000 in
theorem k_X0_isTwo_0 {p : Program} {l : Launch} {e : Env} {s : State} {m : MethodId} {args : Array Value} {below : List Frame} {meth : Method} {c : Code}  {p0 : Int32} {post : Int32 → Prop} (hC : sCx RX0 cX0_isTwo 1 (some .boolean) p s m args meth c) {H : Heap} {locs : List Loc} {ls : Array Slot} (hS : va_S (fun _ => False) s.heap H locs) (hl : lv_has ls 1 [(0, .int p0)])  (hw : w_X0_isTwo p0 post) : W p l e rmX0_isTwo s m args below meth c H locs 0 0 (MQ below (va_Qi (fun r (_ : Unit) => post r) (fun _ _ => True) (fun _ => False)) args s 0 0 (fun _ => False)) (F0 m 0 ls []) := by
  have hx := hC.1
  have hb := hC.2.1
  have hown := hC.2.2.2.1
  have hts := hC.2.2.2.2.1
  unfold w_X0_isTwo at hw
  refine lv_iload_n hx hb dX0_isTwo_0 rfl (lv_at hl 0 rfl) ?_
  refine lv_i2l hx hb dX0_isTwo_1 rfl ?_
  refine lv_lconst (v := 0) hx hb dX0_isTwo_2 (by decide) ?_
  refine lv_lconst (v := 1) hx hb dX0_isTwo_3 (by decide) ?_
  refine invs_q239 hC hS hl.1 hw ⟨Nat.le_of_ble_eq_true rfl, Nat.le_of_ble_eq_true rfl⟩ (Nat.le_of_ble_eq_true rfl) ⟨Nat.zero_le _, Nat.zero_le _⟩ dX0_isTwo_4 (fun r1 H locs hw hS => ?_)
  exact sRetz hC hS hw.1 hw.2 dX0_isTwo_7
abbrev v_X0_isTwo (p0 : Int32) (post : Int32 → Prop) : Prop := w_X0_isTwo p0 post
set_option maxHeartbeats 4000000 in
set_option maxRecDepth 100000 in
theorem met_X0_isTwo (l : Launch) (p0 : Int32) (post : Int32 → Prop) (hw : v_X0_isTwo p0 post) : Met l yX0_isTwo (ws_ yX0_isTwo cX0_isTwo 1 (some .boolean)) rmX0_isTwo (va_Pc [.int p0] (fun _ => True)) (va_Qi (fun r (_ : Unit) => post r) (fun _ _ => True) (fun _ => False)) 0 0 (fun _ => False) :=
  sEnt (by decide) (Nat.le_of_ble_eq_true rfl) (fun p e s m below meth c ls hC hS hl => k_X0_isTwo_0 hC  hS hl hw)
theorem hd_X0_isTwo : yX0_isTwo.cls ≠ "java/lang/invoke/MethodHandle" ∧ yX0_isTwo.cls ≠ "java/lang/invoke/VarHandle" ∧ (parseMethodDescriptor yX0_isTwo.desc).map (fun d => d.parameters.length) = some 1 := by decide +kernel
section
variable {p : Program} {l : Launch} {e : Env} {R : Room} {s : State} {m : MethodId} {args : Array Value} {below : List Frame} {meth : Method} {c : Code} {H : Heap} {locs : List Loc} {cells slots : Nat} {Q : State → Prop} {cc : ByteArray} {nL : Nat} {ret : Option FieldType} {pc : Nat} {ls : Array Slot} {rest : List Value}
set_option maxHeartbeats 4000000 in
set_option maxRecDepth 100000 in
theorem inv_q267 {σ : Type} {D : va_G} {dT : Nat → ClassId} {Wd : σ → va_W} {I : σ → Prop} {A : Nat → Prop} {x : σ} {p0 : Int32} {post : Int32 → Prop} (hC : wCx RX0 cc nL ret D dT p s m args meth c) (hS : wSt D Wd I A s x H locs) (hl : ls.size = nL) (hw : v_X0_isTwo p0 post) (hR : rmX0_isTwo.frames + 1 ≤ R.frames ∧ 8 + (1 + 11) + rmX0_isTwo.locals ≤ R.locals) (hrest : (rest.map fun v => v.category).sum ≤ 8) (hf : cells ≤ R.cells ∧ slots ≤ R.slots) (hdg : decode cc pc = .ok (.invokestatic 168, 3)) (kk : ∀ (r : Int32) (H1 : Heap) (locs1 : List Loc), post r → wSt D Wd I A s x H1 locs1 → W p l e R s m args below meth c H1 locs1 cells slots Q (F0 m (pc + 3) ls (.int r :: rest))) : W p l e R s m args below meth c H locs cells slots Q (F0 m pc ls (.int p0 :: rest)) :=
  wCallSi (As := [.int p0]) (rest := rest) hC (met_X0_isTwo l p0 post hw) (lw_S q267 q268 q85 q269) ⟨⟨rfl, rfl⟩, hd_X0_isTwo, hR, hf⟩ hS hl rfl hrest hdg kk
set_option maxHeartbeats 4000000 in
set_option maxRecDepth 100000 in
theorem invs_q267 {p0 : Int32} {post : Int32 → Prop} (hC : sCx RX0 cc nL ret p s m args meth c) (hS : va_S (fun _ => False) s.heap H locs) (hl : ls.size = nL) (hw : v_X0_isTwo p0 post) (hR : rmX0_isTwo.frames + 1 ≤ R.frames ∧ 8 + (1 + 11) + rmX0_isTwo.locals ≤ R.locals) (hrest : (rest.map fun v => v.category).sum ≤ 8) (hf : cells ≤ R.cells ∧ slots ≤ R.slots) (hdg : decode cc pc = .ok (.invokestatic 168, 3)) (kk : ∀ (r : Int32) (H1 : Heap) (locs1 : List Loc), post r → va_S (fun _ => False) s.heap H1 locs1 → W p l e R s m args below meth c H1 locs1 cells slots Q (F0 m (pc + 3) ls (.int r :: rest))) : W p l e R s m args below meth c H locs cells slots Q (F0 m pc ls (.int p0 :: rest)) :=
  sCallSi (As := [.int p0]) (rest := rest) hC (met_X0_isTwo l p0 post hw) (lw_S q267 q268 q85 q269) ⟨⟨rfl, rfl⟩, hd_X0_isTwo, hR, hf⟩ hS hl rfl hrest hdg kk
end
/-! LeastFrames.load -/
def w_X0_load (p1 : Int32) (p2 : Int32) (p3 : Int32) (post : Int32 → XS → Prop) (X : XS) : Prop :=
  v_X0_isPoint X p1 (fun r1 => (r1 = (0 : Int32) → (post ((-2147483648) : Int32) X)) ∧ (¬ r1 = (0 : Int32) → (v_X0_isTwo p2 (fun r3 => (r3 = (0 : Int32) → (post ((-2147483648) : Int32) X)) ∧ (¬ r3 = (0 : Int32) → (v_X0_in p3.toInt64 ((-9) : Int64) (9 : Int64) (fun r5 => (r5 = (0 : Int32) → (post ((-2147483648) : Int32) X)) ∧ (¬ r5 = (0 : Int32) → (vp_in p1 5 ∧ (vp_in p2 2 ∧ (∀ v8 : Int32, v8 = X_pl X p1.toNatClampNeg p2.toNatClampNeg → (vp_in p1 5 ∧ (vp_in p2 2 ∧ (∀ X10 : XS, X10 = sX_pl X (upd2 (X_pl X) p1.toNatClampNeg p2.toNatClampNeg p3) → (post v8 X10)))))))))))))))
abbrev rmX0_load : Room := { frames := 2, cells := 0, slots := 0, locals := 46 }
set_option maxHeartbeats 4000000 in
set_option maxRecDepth 100000 in
theorem k_X0_load_0 {p : Program} {l : Launch} {e : Env} {s : State} {m : MethodId} {args : Array Value} {below : List Frame} {meth : Method} {c : Code} {D : va_G} {dT : Nat → ClassId} {a : Nat → Nat} {A : Nat → Prop} {vs0 : XE} {p1 : Int32} {p2 : Int32} {p3 : Int32} {post : Int32 → XS → Prop} (hC : wCx RX0 cX0_load 5 (some .int) D dT p s m args meth c) (hA : wAz A s) (X : XS) {vs : XE} {H : Heap} {locs : List Loc} {ls : Array Slot} (hS : StX D dT a A s vs0 X vs H locs) (hl : lv_has ls 5 [(0, .ref (a 0)), (1, .int p1), (2, .int p2), (3, .int p3)])  (hw : w_X0_load p1 p2 p3 post X) : W p l e rmX0_load s m args below meth c H locs 0 0 (MQ below (va_Qi (fun r u9 => post r u9.1) (wB D (XW dT a) (XI vs0) A) A) args s 0 0 A) (F0 m 0 ls []) := by
  have hx := hC.1
  have hb := hC.2.1
  have hown := hC.2.2.2.1
  have hts := hC.2.2.2.2.1
  unfold w_X0_load at hw
  refine lv_aload_n hx hb dX0_load_0 rfl (lv_at hl 0 rfl) ?_
  refine lv_iload_n hx hb dX0_load_1 rfl (lv_at hl 1 rfl) ?_
  refine inv_q258 hC hA hS hl.1 hw ⟨Nat.le_of_ble_eq_true rfl, Nat.le_of_ble_eq_true rfl⟩ (Nat.le_of_ble_eq_true rfl) ⟨Nat.zero_le _, Nat.zero_le _⟩ dX0_load_2 (fun r1 H locs hw hS => ?_)
  refine lv_if_eq (tgt := 29) hx hb dX0_load_5 (by decide) (fun c2 => ?_) (fun c2 => ?_)
  · have hw := hw.1 c2
    refine lv_ldc (v := (-2147483648)) hx hb hown (hts _ q272) dX0_load_29 ?_
    exact wReti hC hS hw (Nat.le_refl _) (Nat.le_refl _) dX0_load_31
  · have hw := hw.2 c2
    refine lv_iload_n hx hb dX0_load_8 rfl (lv_at hl 2 rfl) ?_
    refine inv_q267 hC hS hl.1 hw ⟨Nat.le_of_ble_eq_true rfl, Nat.le_of_ble_eq_true rfl⟩ (Nat.le_of_ble_eq_true rfl) ⟨Nat.zero_le _, Nat.zero_le _⟩ dX0_load_9 (fun r3 H locs hw hS => ?_)
    refine lv_if_eq (tgt := 29) hx hb dX0_load_12 (by decide) (fun c4 => ?_) (fun c4 => ?_)
    · have hw := hw.1 c4
      refine lv_ldc (v := (-2147483648)) hx hb hown (hts _ q272) dX0_load_29 ?_
      exact wReti hC hS hw (Nat.le_refl _) (Nat.le_refl _) dX0_load_31
    · have hw := hw.2 c4
      refine lv_iload_n hx hb dX0_load_15 rfl (lv_at hl 3 rfl) ?_
      refine lv_i2l hx hb dX0_load_16 rfl ?_
      refine lv_ldc2 (v := (-9)) hx hb hown (hts _ q270) dX0_load_17 ?_
      refine lv_ldc2 (v := 9) hx hb hown (hts _ q271) dX0_load_20 ?_
      refine inv_q239 hC hS hl.1 hw ⟨Nat.le_of_ble_eq_true rfl, Nat.le_of_ble_eq_true rfl⟩ (Nat.le_of_ble_eq_true rfl) ⟨Nat.zero_le _, Nat.zero_le _⟩ dX0_load_23 (fun r5 H locs hw hS => ?_)
      refine lv_if_ne (tgt := 32) hx hb dX0_load_26 (by decide) (fun c6 => ?_) (fun c6 => ?_)
      · have hw := hw.2 c6
        refine lv_aload_n hx hb dX0_load_32 rfl (lv_at hl 0 rfl) ?_
        refine ld_q193 hC hS dX0_load_33 ?_
        refine lv_iload_n hx hb dX0_load_36 rfl (lv_at hl 1 rfl) ?_
        have hi7 := hw.1
        have hw := hw.2
        refine aa_PA hC hS hi7 dX0_load_37 ?_
        refine ld_q130 hC hS (vp_lt hi7) dX0_load_38 ?_
        refine lv_iload_n hx hb dX0_load_41 rfl (lv_at hl 2 rfl) ?_
        refine al_PL hC hS (vp_lt hi7) hw.1 dX0_load_42 ?_
        have hw := hw.2
        refine lv_topi (fun v8 ev8 => ?_)
        have hw := hw v8 ev8
        refine lv_istore (lv' := [(4, .int v8), (0, .ref (a 0)), (1, .int p1), (2, .int p2), (3, .int p3)]) hx hb dX0_load_43 hl (by decide) rfl (fun ls hl => ?_)
        refine lv_aload_n hx hb dX0_load_45 rfl (lv_at hl 1 rfl) ?_
        refine ld_q193 hC hS dX0_load_46 ?_
        refine lv_iload_n hx hb dX0_load_49 rfl (lv_at hl 2 rfl) ?_
        have hi9 := hw.1
        have hw := hw.2
        refine aa_PA hC hS hi9 dX0_load_50 ?_
        refine ld_q130 hC hS (vp_lt hi9) dX0_load_51 ?_
        refine lv_iload_n hx hb dX0_load_54 rfl (lv_at hl 3 rfl) ?_
        refine lv_iload_n hx hb dX0_load_55 rfl (lv_at hl 4 rfl) ?_
        have hi := hw.1
        have hw := hw.2
        refine as_PL hC hS (vp_lt hi9) hi dX0_load_56 (fun H locs hS => ?_)
        have hw := hw (sX_pl X (upd2 (X_pl X) p1.toNatClampNeg p2.toNatClampNeg p3)) rfl
        generalize sX_pl X (upd2 (X_pl X) p1.toNatClampNeg p2.toNatClampNeg p3) = X10 at hS hw
        refine lv_iload hx hb dX0_load_57 (lv_at hl 0 rfl) ?_
        exact wReti hC hS hw (Nat.le_refl _) (Nat.le_refl _) dX0_load_59
      · have hw := hw.1 c6
        refine lv_ldc (v := (-2147483648)) hx hb hown (hts _ q272) dX0_load_29 ?_
        exact wReti hC hS hw (Nat.le_refl _) (Nat.le_refl _) dX0_load_31
abbrev v_X0_load (X : XS) (p1 : Int32) (p2 : Int32) (p3 : Int32) (post : Int32 → XS → Prop) : Prop := w_X0_load p1 p2 p3 post X
set_option maxHeartbeats 4000000 in
set_option maxRecDepth 100000 in
theorem met_X0_load (l : Launch) (D : va_G) (dT : Nat → ClassId) (a : Nat → Nat) (sz : Nat) (X : XS) (vs0 : XE) (p1 : Int32) (p2 : Int32) (p3 : Int32) (post : Int32 → XS → Prop) (hw : v_X0_load X p1 p2 p3 post) : Met l yX0_load (ws_ yX0_load cX0_load 5 (some .int)) rmX0_load (wPc D dT (XW dT a) (XI vs0) sz (X, vs0) [.ref (a 0), .int p1, .int p2, .int p3]) (va_Qi (fun r u9 => post r u9.1) (wB D (XW dT a) (XI vs0) (va_A ((XW dT a) (X, vs0)) sz)) (va_A ((XW dT a) (X, vs0)) sz)) 0 0 (va_A ((XW dT a) (X, vs0)) sz) :=
  wEnt (Q := fun A => (va_Qi (fun r u9 => post r u9.1) (wB D (XW dT a) (XI vs0) A) A)) (by decide) (Nat.le_of_ble_eq_true rfl) (fun p e s m below meth c A ls hC _ hA hS hl => k_X0_load_0 hC hA _ hS hl hw) sz
theorem hd_X0_load : yX0_load.cls ≠ "java/lang/invoke/MethodHandle" ∧ yX0_load.cls ≠ "java/lang/invoke/VarHandle" ∧ (parseMethodDescriptor yX0_load.desc).map (fun d => d.parameters.length) = some 3 := by decide +kernel
/-! LeastFrames.isPair -/
def w_X0_isPair (X : XS) (p1 : Int32) (post : Int32 → Prop) : Prop :=
  v_X0_pairs X (fun r1 => v_X0_in p1.toInt64 (0 : Int64) ((r1 - 1).toInt64) (fun r2 => (r2 &&& 1 = r2) ∧ (post r2)))
abbrev rmX0_isPair : Room := { frames := 1, cells := 0, slots := 0, locals := 25 }
set_option maxHeartbeats 4000000 in
set_option maxRecDepth 100000 in
theorem k_X0_isPair_0 {p : Program} {l : Launch} {e : Env} {s : State} {m : MethodId} {args : Array Value} {below : List Frame} {meth : Method} {c : Code} {D : va_G} {dT : Nat → ClassId} {a : Nat → Nat} {A : Nat → Prop} {vs0 : XE} {X : XS} {p1 : Int32} {post : Int32 → Prop} (hC : wCx RX0 cX0_isPair 2 (some .boolean) D dT p s m args meth c) (hA : wAz A s) {H : Heap} {locs : List Loc} {ls : Array Slot} (hS : StX D dT a A s vs0 X vs0 H locs) (hl : lv_has ls 2 [(0, .ref (a 0)), (1, .int p1)])  (hw : w_X0_isPair X p1 post) : W p l e rmX0_isPair s m args below meth c H locs 0 0 (MQ below (va_Qi (fun r u9 => u9 = (X, vs0) ∧ post r) (wB D (XW dT a) (XI vs0) A) A) args s 0 0 A) (F0 m 0 ls []) := by
  have hx := hC.1
  have hb := hC.2.1
  have hown := hC.2.2.2.1
  have hts := hC.2.2.2.2.1
  unfold w_X0_isPair at hw
  refine lv_iload_n hx hb dX0_isPair_0 rfl (lv_at hl 1 rfl) ?_
  refine lv_i2l hx hb dX0_isPair_1 rfl ?_
  refine lv_lconst (v := 0) hx hb dX0_isPair_2 (by decide) ?_
  refine lv_aload_n hx hb dX0_isPair_3 rfl (lv_at hl 0 rfl) ?_
  refine inv_q250 hC hA hS hl.1 hw ⟨Nat.le_of_ble_eq_true rfl, Nat.le_of_ble_eq_true rfl⟩ (Nat.le_of_ble_eq_true rfl) ⟨Nat.zero_le _, Nat.zero_le _⟩ dX0_isPair_4 (fun r1 H locs hw hS => ?_)
  refine lv_iconst (v := 1) hx hb dX0_isPair_7 (by decide) ?_
  refine lv_isub hx hb dX0_isPair_8 ?_
  refine lv_i2l hx hb dX0_isPair_9 rfl ?_
  refine inv_q239 hC hS hl.1 hw ⟨Nat.le_of_ble_eq_true rfl, Nat.le_of_ble_eq_true rfl⟩ (Nat.le_of_ble_eq_true rfl) ⟨Nat.zero_le _, Nat.zero_le _⟩ dX0_isPair_10 (fun r2 H locs hw hS => ?_)
  exact wRetz hC hS hw.1 ⟨rfl, hw.2⟩ (Nat.le_refl _) (Nat.le_refl _) dX0_isPair_13
abbrev v_X0_isPair (X : XS) (p1 : Int32) (post : Int32 → Prop) : Prop := w_X0_isPair X p1 post
set_option maxHeartbeats 4000000 in
set_option maxRecDepth 100000 in
theorem met_X0_isPair (l : Launch) (D : va_G) (dT : Nat → ClassId) (a : Nat → Nat) (sz : Nat) (X : XS) (vs0 : XE) (p1 : Int32) (post : Int32 → Prop) (hw : v_X0_isPair X p1 post) : Met l yX0_isPair (ws_ yX0_isPair cX0_isPair 2 (some .boolean)) rmX0_isPair (wPc D dT (XW dT a) (XI vs0) sz (X, vs0) [.ref (a 0), .int p1]) (va_Qi (fun r u9 => u9 = (X, vs0) ∧ post r) (wB D (XW dT a) (XI vs0) (va_A ((XW dT a) (X, vs0)) sz)) (va_A ((XW dT a) (X, vs0)) sz)) 0 0 (va_A ((XW dT a) (X, vs0)) sz) :=
  wEnt (Q := fun A => (va_Qi (fun r u9 => u9 = (X, vs0) ∧ post r) (wB D (XW dT a) (XI vs0) A) A)) (by decide) (Nat.le_of_ble_eq_true rfl) (fun p e s m below meth c A ls hC _ hA hS hl => k_X0_isPair_0 hC hA  hS hl hw) sz
theorem hd_X0_isPair : yX0_isPair.cls ≠ "java/lang/invoke/MethodHandle" ∧ yX0_isPair.cls ≠ "java/lang/invoke/VarHandle" ∧ (parseMethodDescriptor yX0_isPair.desc).map (fun d => d.parameters.length) = some 1 := by decide +kernel
section
variable {p : Program} {l : Launch} {e : Env} {R : Room} {s : State} {m : MethodId} {args : Array Value} {below : List Frame} {meth : Method} {c : Code} {H : Heap} {locs : List Loc} {cells slots : Nat} {Q : State → Prop} {cc : ByteArray} {nL : Nat} {ret : Option FieldType} {pc : Nat} {ls : Array Slot} {rest : List Value}
set_option maxHeartbeats 4000000 in
set_option maxRecDepth 100000 in
theorem inv_q277 {D : va_G} {dT : Nat → ClassId} {a : Nat → Nat} {A : Nat → Prop} {vs0 : XE} {vs : XE} {X : XS} {p1 : Int32} {post : Int32 → Prop} (hC : wCx RX0 cc nL ret D dT p s m args meth c) (hA : wAz A s) (hS : StX D dT a A s vs0 X vs H locs) (hl : ls.size = nL) (hw : v_X0_isPair X p1 post) (hR : rmX0_isPair.frames + 1 ≤ R.frames ∧ 8 + (2 + 11) + rmX0_isPair.locals ≤ R.locals) (hrest : (rest.map fun v => v.category).sum ≤ 8) (hf : cells ≤ R.cells ∧ slots ≤ R.slots) (hdg : decode cc pc = .ok (.invokevirtual 156, 3)) (kk : ∀ (r : Int32) (H1 : Heap) (locs1 : List Loc), post r → StX D dT a A s vs0 X vs H1 locs1 → W p l e R s m args below meth c H1 locs1 cells slots Q (F0 m (pc + 3) ls (.int r :: rest))) : W p l e R s m args below meth c H locs cells slots Q (F0 m pc ls (.int p1 :: .ref (a 0) :: rest)) := by
  exact wCallVi (As := [.int p1]) (rest := rest) (mc := 0) (ms := 0) 0 hC (met_X0_isPair l D dT a H.size X vs p1 post hw) (lw_V q277 q279 qs2 q85 q280) ⟨⟨rfl, rfl⟩, hd_X0_isPair, hR, hf⟩ XW_0 rfl rfl hA hS.self hl rfl hrest hdg (fun r u H1 locs1 hp hS1 => kk r H1 locs1 hp.2 (by have h9 := hS.back hS1; rw [hp.1] at h9; exact h9))
end
/-! LeastFrames.bar -/
def w_X0_bar (p1 : Int32) (post : Int32 → XS → Prop) (X : XS) : Prop :=
  v_X0_isPair X p1 (fun r1 => (r1 = (0 : Int32) → (post ((-2) : Int32) X)) ∧ (¬ r1 = (0 : Int32) → (∀ X3 : XS, X3 = sX_bars X ((X_bars X) ^^^ (1 <<< (p1 &&& 31))) → (post (X_bars X3) X3))))
abbrev rmX0_bar : Room := { frames := 2, cells := 0, slots := 0, locals := 46 }
set_option maxHeartbeats 4000000 in
set_option maxRecDepth 100000 in
theorem k_X0_bar_0 {p : Program} {l : Launch} {e : Env} {s : State} {m : MethodId} {args : Array Value} {below : List Frame} {meth : Method} {c : Code} {D : va_G} {dT : Nat → ClassId} {a : Nat → Nat} {A : Nat → Prop} {vs0 : XE} {p1 : Int32} {post : Int32 → XS → Prop} (hC : wCx RX0 cX0_bar 2 (some .int) D dT p s m args meth c) (hA : wAz A s) (X : XS) {vs : XE} {H : Heap} {locs : List Loc} {ls : Array Slot} (hS : StX D dT a A s vs0 X vs H locs) (hl : lv_has ls 2 [(0, .ref (a 0)), (1, .int p1)])  (hw : w_X0_bar p1 post X) : W p l e rmX0_bar s m args below meth c H locs 0 0 (MQ below (va_Qi (fun r u9 => post r u9.1) (wB D (XW dT a) (XI vs0) A) A) args s 0 0 A) (F0 m 0 ls []) := by
  have hx := hC.1
  have hb := hC.2.1
  have hown := hC.2.2.2.1
  have hts := hC.2.2.2.2.1
  unfold w_X0_bar at hw
  refine lv_aload_n hx hb dX0_bar_0 rfl (lv_at hl 0 rfl) ?_
  refine lv_iload_n hx hb dX0_bar_1 rfl (lv_at hl 1 rfl) ?_
  refine inv_q277 hC hA hS hl.1 hw ⟨Nat.le_of_ble_eq_true rfl, Nat.le_of_ble_eq_true rfl⟩ (Nat.le_of_ble_eq_true rfl) ⟨Nat.zero_le _, Nat.zero_le _⟩ dX0_bar_2 (fun r1 H locs hw hS => ?_)
  refine lv_if_ne (tgt := 11) hx hb dX0_bar_5 (by decide) (fun c2 => ?_) (fun c2 => ?_)
  · have hw := hw.2 c2
    refine lv_aload_n hx hb dX0_bar_11 rfl (lv_at hl 0 rfl) ?_
    refine lv_dup hx hb dX0_bar_12 rfl ?_
    refine ld_q197 hC hS dX0_bar_13 ?_
    refine lv_iconst (v := 1) hx hb dX0_bar_16 (by decide) ?_
    refine lv_iload_n hx hb dX0_bar_17 rfl (lv_at hl 1 rfl) ?_
    refine lv_ishl hx hb dX0_bar_18 ?_
    refine lv_ixor hx hb dX0_bar_19 ?_
    refine st_q197 hC hS dX0_bar_20 (fun H locs hS => ?_)
    have hw := hw (sX_bars X ((X_bars X) ^^^ (1 <<< (p1 &&& 31)))) rfl
    generalize sX_bars X ((X_bars X) ^^^ (1 <<< (p1 &&& 31))) = X3 at hS hw
    refine lv_aload_n hx hb dX0_bar_23 rfl (lv_at hl 0 rfl) ?_
    refine ld_q197 hC hS dX0_bar_24 ?_
    exact wReti hC hS hw (Nat.le_refl _) (Nat.le_refl _) dX0_bar_27
  · have hw := hw.1 c2
    refine lv_bipush (v := (-2)) hx hb dX0_bar_8 (by decide) ?_
    exact wReti hC hS hw (Nat.le_refl _) (Nat.le_refl _) dX0_bar_10
abbrev v_X0_bar (X : XS) (p1 : Int32) (post : Int32 → XS → Prop) : Prop := w_X0_bar p1 post X
set_option maxHeartbeats 4000000 in
set_option maxRecDepth 100000 in
theorem met_X0_bar (l : Launch) (D : va_G) (dT : Nat → ClassId) (a : Nat → Nat) (sz : Nat) (X : XS) (vs0 : XE) (p1 : Int32) (post : Int32 → XS → Prop) (hw : v_X0_bar X p1 post) : Met l yX0_bar (ws_ yX0_bar cX0_bar 2 (some .int)) rmX0_bar (wPc D dT (XW dT a) (XI vs0) sz (X, vs0) [.ref (a 0), .int p1]) (va_Qi (fun r u9 => post r u9.1) (wB D (XW dT a) (XI vs0) (va_A ((XW dT a) (X, vs0)) sz)) (va_A ((XW dT a) (X, vs0)) sz)) 0 0 (va_A ((XW dT a) (X, vs0)) sz) :=
  wEnt (Q := fun A => (va_Qi (fun r u9 => post r u9.1) (wB D (XW dT a) (XI vs0) A) A)) (by decide) (Nat.le_of_ble_eq_true rfl) (fun p e s m below meth c A ls hC _ hA hS hl => k_X0_bar_0 hC hA _ hS hl hw) sz
theorem hd_X0_bar : yX0_bar.cls ≠ "java/lang/invoke/MethodHandle" ∧ yX0_bar.cls ≠ "java/lang/invoke/VarHandle" ∧ (parseMethodDescriptor yX0_bar.desc).map (fun d => d.parameters.length) = some 1 := by decide +kernel
/-! LeastFrames.all -/
def w_X0_all (post : Int32 → XS → Prop) (X : XS) : Prop :=
  v_X0_pairs X (fun r1 => ∀ X2 : XS, X2 = sX_bars X ((1 <<< (r1 &&& 31)) - 1) → (v_X0_pairs X2 (fun r3 => post r3 X2)))
abbrev rmX0_all : Room := { frames := 1, cells := 0, slots := 0, locals := 20 }
set_option maxHeartbeats 4000000 in
set_option maxRecDepth 100000 in
theorem k_X0_all_0 {p : Program} {l : Launch} {e : Env} {s : State} {m : MethodId} {args : Array Value} {below : List Frame} {meth : Method} {c : Code} {D : va_G} {dT : Nat → ClassId} {a : Nat → Nat} {A : Nat → Prop} {vs0 : XE} {post : Int32 → XS → Prop} (hC : wCx RX0 cX0_all 1 (some .int) D dT p s m args meth c) (hA : wAz A s) (X : XS) {vs : XE} {H : Heap} {locs : List Loc} {ls : Array Slot} (hS : StX D dT a A s vs0 X vs H locs) (hl : lv_has ls 1 [(0, .ref (a 0))])  (hw : w_X0_all post X) : W p l e rmX0_all s m args below meth c H locs 0 0 (MQ below (va_Qi (fun r u9 => post r u9.1) (wB D (XW dT a) (XI vs0) A) A) args s 0 0 A) (F0 m 0 ls []) := by
  have hx := hC.1
  have hb := hC.2.1
  have hown := hC.2.2.2.1
  have hts := hC.2.2.2.2.1
  unfold w_X0_all at hw
  refine lv_aload_n hx hb dX0_all_0 rfl (lv_at hl 0 rfl) ?_
  refine lv_iconst (v := 1) hx hb dX0_all_1 (by decide) ?_
  refine lv_aload_n hx hb dX0_all_2 rfl (lv_at hl 0 rfl) ?_
  refine inv_q250 hC hA hS hl.1 hw ⟨Nat.le_of_ble_eq_true rfl, Nat.le_of_ble_eq_true rfl⟩ (Nat.le_of_ble_eq_true rfl) ⟨Nat.zero_le _, Nat.zero_le _⟩ dX0_all_3 (fun r1 H locs hw hS => ?_)
  refine lv_ishl hx hb dX0_all_6 ?_
  refine lv_iconst (v := 1) hx hb dX0_all_7 (by decide) ?_
  refine lv_isub hx hb dX0_all_8 ?_
  refine st_q197 hC hS dX0_all_9 (fun H locs hS => ?_)
  have hw := hw (sX_bars X ((1 <<< (r1 &&& 31)) - 1)) rfl
  generalize sX_bars X ((1 <<< (r1 &&& 31)) - 1) = X2 at hS hw
  refine lv_aload_n hx hb dX0_all_12 rfl (lv_at hl 0 rfl) ?_
  refine inv_q250 hC hA hS hl.1 hw ⟨Nat.le_of_ble_eq_true rfl, Nat.le_of_ble_eq_true rfl⟩ (Nat.le_of_ble_eq_true rfl) ⟨Nat.zero_le _, Nat.zero_le _⟩ dX0_all_13 (fun r3 H locs hw hS => ?_)
  exact wReti hC hS hw (Nat.le_refl _) (Nat.le_refl _) dX0_all_16
abbrev v_X0_all (X : XS) (post : Int32 → XS → Prop) : Prop := w_X0_all post X
set_option maxHeartbeats 4000000 in
set_option maxRecDepth 100000 in
theorem met_X0_all (l : Launch) (D : va_G) (dT : Nat → ClassId) (a : Nat → Nat) (sz : Nat) (X : XS) (vs0 : XE) (post : Int32 → XS → Prop) (hw : v_X0_all X post) : Met l yX0_all (ws_ yX0_all cX0_all 1 (some .int)) rmX0_all (wPc D dT (XW dT a) (XI vs0) sz (X, vs0) [.ref (a 0)]) (va_Qi (fun r u9 => post r u9.1) (wB D (XW dT a) (XI vs0) (va_A ((XW dT a) (X, vs0)) sz)) (va_A ((XW dT a) (X, vs0)) sz)) 0 0 (va_A ((XW dT a) (X, vs0)) sz) :=
  wEnt (Q := fun A => (va_Qi (fun r u9 => post r u9.1) (wB D (XW dT a) (XI vs0) A) A)) (by decide) (Nat.le_of_ble_eq_true rfl) (fun p e s m below meth c A ls hC _ hA hS hl => k_X0_all_0 hC hA _ hS hl hw) sz
theorem hd_X0_all : yX0_all.cls ≠ "java/lang/invoke/MethodHandle" ∧ yX0_all.cls ≠ "java/lang/invoke/VarHandle" ∧ (parseMethodDescriptor yX0_all.desc).map (fun d => d.parameters.length) = some 0 := by decide +kernel
/-! LeastFrames.isSheet -/
def w_X0_isSheet (p0 : Int32) (post : Int32 → Prop) : Prop :=
  v_X0_in p0.toInt64 (0 : Int64) (3 : Int64) (fun r1 => (r1 &&& 1 = r1) ∧ (post r1))
abbrev rmX0_isSheet : Room := { frames := 1, cells := 0, slots := 0, locals := 25 }
set_option maxHeartbeats 4000000 in
set_option maxRecDepth 100000 in
theorem k_X0_isSheet_0 {p : Program} {l : Launch} {e : Env} {s : State} {m : MethodId} {args : Array Value} {below : List Frame} {meth : Method} {c : Code}  {p0 : Int32} {post : Int32 → Prop} (hC : sCx RX0 cX0_isSheet 1 (some .boolean) p s m args meth c) {H : Heap} {locs : List Loc} {ls : Array Slot} (hS : va_S (fun _ => False) s.heap H locs) (hl : lv_has ls 1 [(0, .int p0)])  (hw : w_X0_isSheet p0 post) : W p l e rmX0_isSheet s m args below meth c H locs 0 0 (MQ below (va_Qi (fun r (_ : Unit) => post r) (fun _ _ => True) (fun _ => False)) args s 0 0 (fun _ => False)) (F0 m 0 ls []) := by
  have hx := hC.1
  have hb := hC.2.1
  have hown := hC.2.2.2.1
  have hts := hC.2.2.2.2.1
  unfold w_X0_isSheet at hw
  refine lv_iload_n hx hb dX0_isSheet_0 rfl (lv_at hl 0 rfl) ?_
  refine lv_i2l hx hb dX0_isSheet_1 rfl ?_
  refine lv_lconst (v := 0) hx hb dX0_isSheet_2 (by decide) ?_
  refine lv_ldc2 (v := 3) hx hb hown (hts _ q262) dX0_isSheet_3 ?_
  refine invs_q239 hC hS hl.1 hw ⟨Nat.le_of_ble_eq_true rfl, Nat.le_of_ble_eq_true rfl⟩ (Nat.le_of_ble_eq_true rfl) ⟨Nat.zero_le _, Nat.zero_le _⟩ dX0_isSheet_6 (fun r1 H locs hw hS => ?_)
  exact sRetz hC hS hw.1 hw.2 dX0_isSheet_9
abbrev v_X0_isSheet (p0 : Int32) (post : Int32 → Prop) : Prop := w_X0_isSheet p0 post
set_option maxHeartbeats 4000000 in
set_option maxRecDepth 100000 in
theorem met_X0_isSheet (l : Launch) (p0 : Int32) (post : Int32 → Prop) (hw : v_X0_isSheet p0 post) : Met l yX0_isSheet (ws_ yX0_isSheet cX0_isSheet 1 (some .boolean)) rmX0_isSheet (va_Pc [.int p0] (fun _ => True)) (va_Qi (fun r (_ : Unit) => post r) (fun _ _ => True) (fun _ => False)) 0 0 (fun _ => False) :=
  sEnt (by decide) (Nat.le_of_ble_eq_true rfl) (fun p e s m below meth c ls hC hS hl => k_X0_isSheet_0 hC  hS hl hw)
theorem hd_X0_isSheet : yX0_isSheet.cls ≠ "java/lang/invoke/MethodHandle" ∧ yX0_isSheet.cls ≠ "java/lang/invoke/VarHandle" ∧ (parseMethodDescriptor yX0_isSheet.desc).map (fun d => d.parameters.length) = some 1 := by decide +kernel
section
variable {p : Program} {l : Launch} {e : Env} {R : Room} {s : State} {m : MethodId} {args : Array Value} {below : List Frame} {meth : Method} {c : Code} {H : Heap} {locs : List Loc} {cells slots : Nat} {Q : State → Prop} {cc : ByteArray} {nL : Nat} {ret : Option FieldType} {pc : Nat} {ls : Array Slot} {rest : List Value}
set_option maxHeartbeats 4000000 in
set_option maxRecDepth 100000 in
theorem inv_q289 {σ : Type} {D : va_G} {dT : Nat → ClassId} {Wd : σ → va_W} {I : σ → Prop} {A : Nat → Prop} {x : σ} {p0 : Int32} {post : Int32 → Prop} (hC : wCx RX0 cc nL ret D dT p s m args meth c) (hS : wSt D Wd I A s x H locs) (hl : ls.size = nL) (hw : v_X0_isSheet p0 post) (hR : rmX0_isSheet.frames + 1 ≤ R.frames ∧ 8 + (1 + 11) + rmX0_isSheet.locals ≤ R.locals) (hrest : (rest.map fun v => v.category).sum ≤ 8) (hf : cells ≤ R.cells ∧ slots ≤ R.slots) (hdg : decode cc pc = .ok (.invokestatic 179, 3)) (kk : ∀ (r : Int32) (H1 : Heap) (locs1 : List Loc), post r → wSt D Wd I A s x H1 locs1 → W p l e R s m args below meth c H1 locs1 cells slots Q (F0 m (pc + 3) ls (.int r :: rest))) : W p l e R s m args below meth c H locs cells slots Q (F0 m pc ls (.int p0 :: rest)) :=
  wCallSi (As := [.int p0]) (rest := rest) hC (met_X0_isSheet l p0 post hw) (lw_S q289 q290 q85 q291) ⟨⟨rfl, rfl⟩, hd_X0_isSheet, hR, hf⟩ hS hl rfl hrest hdg kk
set_option maxHeartbeats 4000000 in
set_option maxRecDepth 100000 in
theorem invs_q289 {p0 : Int32} {post : Int32 → Prop} (hC : sCx RX0 cc nL ret p s m args meth c) (hS : va_S (fun _ => False) s.heap H locs) (hl : ls.size = nL) (hw : v_X0_isSheet p0 post) (hR : rmX0_isSheet.frames + 1 ≤ R.frames ∧ 8 + (1 + 11) + rmX0_isSheet.locals ≤ R.locals) (hrest : (rest.map fun v => v.category).sum ≤ 8) (hf : cells ≤ R.cells ∧ slots ≤ R.slots) (hdg : decode cc pc = .ok (.invokestatic 179, 3)) (kk : ∀ (r : Int32) (H1 : Heap) (locs1 : List Loc), post r → va_S (fun _ => False) s.heap H1 locs1 → W p l e R s m args below meth c H1 locs1 cells slots Q (F0 m (pc + 3) ls (.int r :: rest))) : W p l e R s m args below meth c H locs cells slots Q (F0 m pc ls (.int p0 :: rest)) :=
  sCallSi (As := [.int p0]) (rest := rest) hC (met_X0_isSheet l p0 post hw) (lw_S q289 q290 q85 q291) ⟨⟨rfl, rfl⟩, hd_X0_isSheet, hR, hf⟩ hS hl rfl hrest hdg kk
end
/-! LeastFrames.finds -/
def w_X0_finds (p1 : Int32) (post : Int32 → XS → Prop) (X : XS) : Prop :=
  ∀ X1 : XS, X1 = sX_latest X p1 → (post ((-10) - p1) X1)
abbrev rmX0_finds : Room := { frames := 0, cells := 0, slots := 0, locals := 0 }
set_option maxHeartbeats 4000000 in
set_option maxRecDepth 100000 in
theorem k_X0_finds_0 {p : Program} {l : Launch} {e : Env} {s : State} {m : MethodId} {args : Array Value} {below : List Frame} {meth : Method} {c : Code} {D : va_G} {dT : Nat → ClassId} {a : Nat → Nat} {A : Nat → Prop} {vs0 : XE} {p1 : Int32} {post : Int32 → XS → Prop} (hC : wCx RX0 cX0_finds 2 (some .int) D dT p s m args meth c) (hA : wAz A s) (X : XS) {vs : XE} {H : Heap} {locs : List Loc} {ls : Array Slot} (hS : StX D dT a A s vs0 X vs H locs) (hl : lv_has ls 2 [(0, .ref (a 0)), (1, .int p1)])  (hw : w_X0_finds p1 post X) : W p l e rmX0_finds s m args below meth c H locs 0 0 (MQ below (va_Qi (fun r u9 => post r u9.1) (wB D (XW dT a) (XI vs0) A) A) args s 0 0 A) (F0 m 0 ls []) := by
  have hx := hC.1
  have hb := hC.2.1
  have hown := hC.2.2.2.1
  have hts := hC.2.2.2.2.1
  unfold w_X0_finds at hw
  refine lv_aload_n hx hb dX0_finds_0 rfl (lv_at hl 0 rfl) ?_
  refine lv_iload_n hx hb dX0_finds_1 rfl (lv_at hl 1 rfl) ?_
  refine st_q192 hC hS dX0_finds_2 (fun H locs hS => ?_)
  have hw := hw (sX_latest X p1) rfl
  generalize sX_latest X p1 = X1 at hS hw
  refine lv_bipush (v := (-10)) hx hb dX0_finds_5 (by decide) ?_
  refine lv_iload_n hx hb dX0_finds_7 rfl (lv_at hl 1 rfl) ?_
  refine lv_isub hx hb dX0_finds_8 ?_
  exact wReti hC hS hw (Nat.le_refl _) (Nat.le_refl _) dX0_finds_9
abbrev v_X0_finds (X : XS) (p1 : Int32) (post : Int32 → XS → Prop) : Prop := w_X0_finds p1 post X
set_option maxHeartbeats 4000000 in
set_option maxRecDepth 100000 in
theorem met_X0_finds (l : Launch) (D : va_G) (dT : Nat → ClassId) (a : Nat → Nat) (sz : Nat) (X : XS) (vs0 : XE) (p1 : Int32) (post : Int32 → XS → Prop) (hw : v_X0_finds X p1 post) : Met l yX0_finds (ws_ yX0_finds cX0_finds 2 (some .int)) rmX0_finds (wPc D dT (XW dT a) (XI vs0) sz (X, vs0) [.ref (a 0), .int p1]) (va_Qi (fun r u9 => post r u9.1) (wB D (XW dT a) (XI vs0) (va_A ((XW dT a) (X, vs0)) sz)) (va_A ((XW dT a) (X, vs0)) sz)) 0 0 (va_A ((XW dT a) (X, vs0)) sz) :=
  wEnt (Q := fun A => (va_Qi (fun r u9 => post r u9.1) (wB D (XW dT a) (XI vs0) A) A)) (by decide) (Nat.le_of_ble_eq_true rfl) (fun p e s m below meth c A ls hC _ hA hS hl => k_X0_finds_0 hC hA _ hS hl hw) sz
theorem hd_X0_finds : yX0_finds.cls ≠ "java/lang/invoke/MethodHandle" ∧ yX0_finds.cls ≠ "java/lang/invoke/VarHandle" ∧ (parseMethodDescriptor yX0_finds.desc).map (fun d => d.parameters.length) = some 1 := by decide +kernel
section
variable {p : Program} {l : Launch} {e : Env} {R : Room} {s : State} {m : MethodId} {args : Array Value} {below : List Frame} {meth : Method} {c : Code} {H : Heap} {locs : List Loc} {cells slots : Nat} {Q : State → Prop} {cc : ByteArray} {nL : Nat} {ret : Option FieldType} {pc : Nat} {ls : Array Slot} {rest : List Value}
set_option maxHeartbeats 4000000 in
set_option maxRecDepth 100000 in
theorem inv_q292 {D : va_G} {dT : Nat → ClassId} {a : Nat → Nat} {A : Nat → Prop} {vs0 : XE} {vs : XE} {X : XS} {p1 : Int32} {post : Int32 → XS → Prop} (hC : wCx RX0 cc nL ret D dT p s m args meth c) (hA : wAz A s) (hS : StX D dT a A s vs0 X vs H locs) (hl : ls.size = nL) (hw : v_X0_finds X p1 post) (hR : rmX0_finds.frames + 1 ≤ R.frames ∧ 8 + (2 + 11) + rmX0_finds.locals ≤ R.locals) (hrest : (rest.map fun v => v.category).sum ≤ 8) (hf : cells ≤ R.cells ∧ slots ≤ R.slots) (hdg : decode cc pc = .ok (.invokevirtual 186, 3)) (kk : ∀ (r : Int32) (X1 : XS) (vs1 : XE) (H1 : Heap) (locs1 : List Loc), post r X1 → (∀ v ∈ vs, v ∈ vs1) → StX D dT a A s vs0 X1 vs1 H1 locs1 → W p l e R s m args below meth c H1 locs1 cells slots Q (F0 m (pc + 3) ls (.int r :: rest))) : W p l e R s m args below meth c H locs cells slots Q (F0 m pc ls (.int p1 :: .ref (a 0) :: rest)) := by
  exact wCallVi (As := [.int p1]) (rest := rest) (mc := 0) (ms := 0) 0 hC (met_X0_finds l D dT a H.size X vs p1 post hw) (lw_V q292 q294 qs3 q85 q295) ⟨⟨rfl, rfl⟩, hd_X0_finds, hR, hf⟩ XW_0 rfl rfl hA hS.self hl rfl hrest hdg (fun r u H1 locs1 hp hS1 => kk r u.1 u.2 H1 locs1 hp hS1.2.2.2.2 (hS.back hS1))
end
/-! LeastFrames_Sheet.size -/
def w_X3_size (X : XS) (j : Nat) (post : Int32 → Prop) : Prop :=
  ∃ o1, X_sr X j = some o1 ∧ ((∀ n2 f3, o1.2 = .inl (n2, f3) → (post (Int32.ofNat n2))) ∧ (∀ n2 f3, o1.2 = .inr (n2, f3) → (∃ o4, X_sr X j = some o4 ∧ (∃ n5 f6, o4.2 = .inr (n5, f6) ∧ (post (Int32.ofNat n5))))))
abbrev rmX3_size : Room := { frames := 0, cells := 0, slots := 0, locals := 0 }
set_option maxHeartbeats 4000000 in
set_option maxRecDepth 100000 in
theorem k_X3_size_0 {p : Program} {l : Launch} {e : Env} {s : State} {m : MethodId} {args : Array Value} {below : List Frame} {meth : Method} {c : Code} {D : va_G} {dT : Nat → ClassId} {a : Nat → Nat} {A : Nat → Prop} {vs0 : XE} {X : XS} {j : Nat} {post : Int32 → Prop} (hC : wCx RX3 cX3_size 3 (some .int) D dT p s m args meth c) (hA : wAz A s) (hj : j < 4) {H : Heap} {locs : List Loc} {ls : Array Slot} (hS : StX D dT a A s vs0 X vs0 H locs) (hl : lv_has ls 3 [(0, .ref (a (18 + j)))])  (hw : w_X3_size X j post) : W p l e rmX3_size s m args below meth c H locs 0 0 (MQ below (va_Qi (fun r u9 => u9 = (X, vs0) ∧ post r) (wB D (XW dT a) (XI vs0) A) A) args s 0 0 A) (F0 m 0 ls []) := by
  have hx := hC.1
  have hb := hC.2.1
  have hown := hC.2.2.2.1
  have hts := hC.2.2.2.2.1
  unfold w_X3_size at hw
  refine lv_aload_n hx hb dX3_size_0 rfl (lv_at hl 0 rfl) ?_
  obtain ⟨o1, h_o1, hw⟩ := hw
  refine ld_q187 hC hS hj dX3_size_1 ?_
  refine opt_ref h_o1 ?_
  refine lv_astore_n (lv' := [(2, .ref o1.1), (0, .ref (a (18 + j)))]) hx hb dX3_size_4 rfl hl (by decide) rfl (fun ls hl => ?_)
  refine lv_aload_n hx hb dX3_size_5 rfl (lv_at hl 0 rfl) ?_
  rcases kk_n2 : o1.2 with ⟨n2, f3⟩ | ⟨n2, f3⟩ <;> have k_n2 := kk_n2
  · have hw := hw.1 _ _ k_n2
    refine io_SRI hC hS hj h_o1 k_n2 (hC.2.2.2.2.1 _ q300) dX3_size_6 ?_
    refine lv_if_eq (tgt := 22) hx hb dX3_size_9 (by decide) (fun z => absurd z (by decide)) (fun _ => ?_)
    refine lv_aload_n hx hb dX3_size_12 rfl (lv_at hl 0 rfl) ?_
    refine cs_SRI hC hS hj h_o1 k_n2 (hC.2.2.2.2.1 _ q300) dX3_size_13 ?_
    refine lv_astore_n (lv' := [(1, .ref o1.1), (2, .ref o1.1), (0, .ref (a (18 + j)))]) hx hb dX3_size_16 rfl hl (by decide) rfl (fun ls hl => ?_)
    refine lv_aload_n hx hb dX3_size_17 rfl (lv_at hl 0 rfl) ?_
    refine ln_SRI hC hS hj h_o1 k_n2 dX3_size_18 ?_
    refine lv_goto (tgt := 30) hx hb dX3_size_19 (by decide) ?_
    exact wReti hC hS ⟨rfl, hw⟩ (Nat.le_refl _) (Nat.le_refl _) dX3_size_30
  · have hw := hw.2 _ _ k_n2
    refine io_SRJ hC hS hj h_o1 k_n2 (hC.2.2.2.2.1 _ q300) dX3_size_6 ?_
    refine lv_if_eq (tgt := 22) hx hb dX3_size_9 (by decide) (fun _ => ?_) (fun z => absurd rfl z)
    refine lv_aload_n hx hb dX3_size_22 rfl (lv_at hl 1 rfl) ?_
    obtain ⟨o4, h_o4, hw⟩ := hw
    refine ld_q187 hC hS hj dX3_size_23 ?_
    refine opt_ref h_o4 ?_
    obtain ⟨n5, f6, k_n5, hw⟩ := hw
    refine cs_SRJ hC hS hj h_o4 k_n5 (hC.2.2.2.2.1 _ q301) dX3_size_26 ?_
    refine ln_SRJ hC hS hj h_o4 k_n5 dX3_size_29 ?_
    exact wReti hC hS ⟨rfl, hw⟩ (Nat.le_refl _) (Nat.le_refl _) dX3_size_30
abbrev v_X3_size (X : XS) (j : Nat) (post : Int32 → Prop) : Prop := w_X3_size X j post
set_option maxHeartbeats 4000000 in
set_option maxRecDepth 100000 in
theorem met_X3_size (l : Launch) (D : va_G) (dT : Nat → ClassId) (a : Nat → Nat) (sz : Nat) (X : XS) (vs0 : XE) (j : Nat) (hj : j < 4) (post : Int32 → Prop) (hw : v_X3_size X j post) : Met l yX3_size (ws_ yX3_size cX3_size 3 (some .int)) rmX3_size (wPc D dT (XW dT a) (XI vs0) sz (X, vs0) [.ref (a (18 + j))]) (va_Qi (fun r u9 => u9 = (X, vs0) ∧ post r) (wB D (XW dT a) (XI vs0) (va_A ((XW dT a) (X, vs0)) sz)) (va_A ((XW dT a) (X, vs0)) sz)) 0 0 (va_A ((XW dT a) (X, vs0)) sz) :=
  wEnt (Q := fun A => (va_Qi (fun r u9 => u9 = (X, vs0) ∧ post r) (wB D (XW dT a) (XI vs0) A) A)) (by decide) (Nat.le_of_ble_eq_true rfl) (fun p e s m below meth c A ls hC _ hA hS hl => k_X3_size_0 hC hA hj hS hl hw) sz
theorem hd_X3_size : yX3_size.cls ≠ "java/lang/invoke/MethodHandle" ∧ yX3_size.cls ≠ "java/lang/invoke/VarHandle" ∧ (parseMethodDescriptor yX3_size.desc).map (fun d => d.parameters.length) = some 0 := by decide +kernel
section
variable {p : Program} {l : Launch} {e : Env} {R : Room} {s : State} {m : MethodId} {args : Array Value} {below : List Frame} {meth : Method} {c : Code} {H : Heap} {locs : List Loc} {cells slots : Nat} {Q : State → Prop} {cc : ByteArray} {nL : Nat} {ret : Option FieldType} {pc : Nat} {ls : Array Slot} {rest : List Value}
set_option maxHeartbeats 4000000 in
set_option maxRecDepth 100000 in
theorem inv_q296 {D : va_G} {dT : Nat → ClassId} {a : Nat → Nat} {A : Nat → Prop} {vs0 : XE} {vs : XE} {X : XS} {j : Nat} {post : Int32 → Prop} (hC : wCx RX0 cc nL ret D dT p s m args meth c) (hA : wAz A s) (hS : StX D dT a A s vs0 X vs H locs) (hj : j < 4) (hl : ls.size = nL) (hw : v_X3_size X j post) (hR : rmX3_size.frames + 1 ≤ R.frames ∧ 8 + (3 + 11) + rmX3_size.locals ≤ R.locals) (hrest : (rest.map fun v => v.category).sum ≤ 8) (hf : cells ≤ R.cells ∧ slots ≤ R.slots) (hdg : decode cc pc = .ok (.invokevirtual 189, 3)) (kk : ∀ (r : Int32) (H1 : Heap) (locs1 : List Loc), post r → StX D dT a A s vs0 X vs H1 locs1 → W p l e R s m args below meth c H1 locs1 cells slots Q (F0 m (pc + 3) ls (.int r :: rest))) : W p l e R s m args below meth c H locs cells slots Q (F0 m pc ls (.ref (a (18 + j)) :: rest)) := by
  exact wCallVi (As := []) (rest := rest) (mc := 0) (ms := 0) (18 + j) hC (met_X3_size l D dT a H.size X vs j hj post hw) (lw_V q296 q297 q298 q88 q299) ⟨⟨rfl, rfl⟩, hd_X3_size, hR, hf⟩ (XW_SH hj) rfl rfl hA hS.self hl rfl hrest hdg (fun r u H1 locs1 hp hS1 => kk r H1 locs1 hp.2 (by have h9 := hS.back hS1; rw [hp.1] at h9; exact h9))
end
/-! LeastFrames_Sheet.item -/
def w_X3_item (X : XS) (j : Nat) (p1 : Int32) (post : Int64 → Prop) : Prop :=
  ∃ o1, X_sr X j = some o1 ∧ ((∀ n2 f3, o1.2 = .inl (n2, f3) → (vp_in p1 n2 ∧ (post ((f3 p1.toNatClampNeg).toInt64)))) ∧ (∀ n2 f3, o1.2 = .inr (n2, f3) → (∃ o4, X_sr X j = some o4 ∧ (∃ n5 f6, o4.2 = .inr (n5, f6) ∧ (vp_in p1 n5 ∧ (post (f6 p1.toNatClampNeg)))))))
abbrev rmX3_item : Room := { frames := 0, cells := 0, slots := 0, locals := 0 }
set_option maxHeartbeats 4000000 in
set_option maxRecDepth 100000 in
theorem k_X3_item_0 {p : Program} {l : Launch} {e : Env} {s : State} {m : MethodId} {args : Array Value} {below : List Frame} {meth : Method} {c : Code} {D : va_G} {dT : Nat → ClassId} {a : Nat → Nat} {A : Nat → Prop} {vs0 : XE} {X : XS} {j : Nat} {p1 : Int32} {post : Int64 → Prop} (hC : wCx RX3 cX3_item 4 (some .long) D dT p s m args meth c) (hA : wAz A s) (hj : j < 4) {H : Heap} {locs : List Loc} {ls : Array Slot} (hS : StX D dT a A s vs0 X vs0 H locs) (hl : lv_has ls 4 [(0, .ref (a (18 + j))), (1, .int p1)])  (hw : w_X3_item X j p1 post) : W p l e rmX3_item s m args below meth c H locs 0 0 (MQ below (va_Ql (fun r u9 => u9 = (X, vs0) ∧ post r) (wB D (XW dT a) (XI vs0) A) A) args s 0 0 A) (F0 m 0 ls []) := by
  have hx := hC.1
  have hb := hC.2.1
  have hown := hC.2.2.2.1
  have hts := hC.2.2.2.2.1
  unfold w_X3_item at hw
  refine lv_aload_n hx hb dX3_item_0 rfl (lv_at hl 0 rfl) ?_
  obtain ⟨o1, h_o1, hw⟩ := hw
  refine ld_q187 hC hS hj dX3_item_1 ?_
  refine opt_ref h_o1 ?_
  refine lv_astore_n (lv' := [(3, .ref o1.1), (0, .ref (a (18 + j))), (1, .int p1)]) hx hb dX3_item_4 rfl hl (by decide) rfl (fun ls hl => ?_)
  refine lv_aload_n hx hb dX3_item_5 rfl (lv_at hl 0 rfl) ?_
  rcases kk_n2 : o1.2 with ⟨n2, f3⟩ | ⟨n2, f3⟩ <;> have k_n2 := kk_n2
  · have hw := hw.1 _ _ k_n2
    refine io_SRI hC hS hj h_o1 k_n2 (hC.2.2.2.2.1 _ q300) dX3_item_6 ?_
    refine lv_if_eq (tgt := 24) hx hb dX3_item_9 (by decide) (fun z => absurd z (by decide)) (fun _ => ?_)
    refine lv_aload_n hx hb dX3_item_12 rfl (lv_at hl 0 rfl) ?_
    refine cs_SRI hC hS hj h_o1 k_n2 (hC.2.2.2.2.1 _ q300) dX3_item_13 ?_
    refine lv_astore_n (lv' := [(2, .ref o1.1), (3, .ref o1.1), (0, .ref (a (18 + j))), (1, .int p1)]) hx hb dX3_item_16 rfl hl (by decide) rfl (fun ls hl => ?_)
    refine lv_aload_n hx hb dX3_item_17 rfl (lv_at hl 0 rfl) ?_
    refine lv_iload_n hx hb dX3_item_18 rfl (lv_at hl 3 rfl) ?_
    refine al_SRI hC hS hj h_o1 k_n2 hw.1 dX3_item_19 ?_
    have hw := hw.2
    refine lv_i2l hx hb dX3_item_20 rfl ?_
    refine lv_goto (tgt := 33) hx hb dX3_item_21 (by decide) ?_
    exact wRetl hC hS ⟨rfl, hw⟩ (Nat.le_refl _) (Nat.le_refl _) dX3_item_33
  · have hw := hw.2 _ _ k_n2
    refine io_SRJ hC hS hj h_o1 k_n2 (hC.2.2.2.2.1 _ q300) dX3_item_6 ?_
    refine lv_if_eq (tgt := 24) hx hb dX3_item_9 (by decide) (fun _ => ?_) (fun z => absurd rfl z)
    refine lv_aload_n hx hb dX3_item_24 rfl (lv_at hl 1 rfl) ?_
    obtain ⟨o4, h_o4, hw⟩ := hw
    refine ld_q187 hC hS hj dX3_item_25 ?_
    refine opt_ref h_o4 ?_
    obtain ⟨n5, f6, k_n5, hw⟩ := hw
    refine cs_SRJ hC hS hj h_o4 k_n5 (hC.2.2.2.2.1 _ q301) dX3_item_28 ?_
    refine lv_iload_n hx hb dX3_item_31 rfl (lv_at hl 2 rfl) ?_
    refine al_SRJ hC hS hj h_o4 k_n5 hw.1 dX3_item_32 ?_
    have hw := hw.2
    exact wRetl hC hS ⟨rfl, hw⟩ (Nat.le_refl _) (Nat.le_refl _) dX3_item_33
abbrev v_X3_item (X : XS) (j : Nat) (p1 : Int32) (post : Int64 → Prop) : Prop := w_X3_item X j p1 post
set_option maxHeartbeats 4000000 in
set_option maxRecDepth 100000 in
theorem met_X3_item (l : Launch) (D : va_G) (dT : Nat → ClassId) (a : Nat → Nat) (sz : Nat) (X : XS) (vs0 : XE) (j : Nat) (p1 : Int32) (hj : j < 4) (post : Int64 → Prop) (hw : v_X3_item X j p1 post) : Met l yX3_item (ws_ yX3_item cX3_item 4 (some .long)) rmX3_item (wPc D dT (XW dT a) (XI vs0) sz (X, vs0) [.ref (a (18 + j)), .int p1]) (va_Ql (fun r u9 => u9 = (X, vs0) ∧ post r) (wB D (XW dT a) (XI vs0) (va_A ((XW dT a) (X, vs0)) sz)) (va_A ((XW dT a) (X, vs0)) sz)) 0 0 (va_A ((XW dT a) (X, vs0)) sz) :=
  wEnt (Q := fun A => (va_Ql (fun r u9 => u9 = (X, vs0) ∧ post r) (wB D (XW dT a) (XI vs0) A) A)) (by decide) (Nat.le_of_ble_eq_true rfl) (fun p e s m below meth c A ls hC _ hA hS hl => k_X3_item_0 hC hA hj hS hl hw) sz
theorem hd_X3_item : yX3_item.cls ≠ "java/lang/invoke/MethodHandle" ∧ yX3_item.cls ≠ "java/lang/invoke/VarHandle" ∧ (parseMethodDescriptor yX3_item.desc).map (fun d => d.parameters.length) = some 1 := by decide +kernel
section
variable {p : Program} {l : Launch} {e : Env} {R : Room} {s : State} {m : MethodId} {args : Array Value} {below : List Frame} {meth : Method} {c : Code} {H : Heap} {locs : List Loc} {cells slots : Nat} {Q : State → Prop} {cc : ByteArray} {nL : Nat} {ret : Option FieldType} {pc : Nat} {ls : Array Slot} {rest : List Value}
set_option maxHeartbeats 4000000 in
set_option maxRecDepth 100000 in
theorem inv_q302 {D : va_G} {dT : Nat → ClassId} {a : Nat → Nat} {A : Nat → Prop} {vs0 : XE} {vs : XE} {X : XS} {j : Nat} {p1 : Int32} {post : Int64 → Prop} (hC : wCx RX0 cc nL ret D dT p s m args meth c) (hA : wAz A s) (hS : StX D dT a A s vs0 X vs H locs) (hj : j < 4) (hl : ls.size = nL) (hw : v_X3_item X j p1 post) (hR : rmX3_item.frames + 1 ≤ R.frames ∧ 8 + (4 + 11) + rmX3_item.locals ≤ R.locals) (hrest : (rest.map fun v => v.category).sum ≤ 8) (hf : cells ≤ R.cells ∧ slots ≤ R.slots) (hdg : decode cc pc = .ok (.invokevirtual 192, 3)) (kk : ∀ (r : Int64) (H1 : Heap) (locs1 : List Loc), post r → StX D dT a A s vs0 X vs H1 locs1 → W p l e R s m args below meth c H1 locs1 cells slots Q (F0 m (pc + 3) ls (.long r :: rest))) : W p l e R s m args below meth c H locs cells slots Q (F0 m pc ls (.int p1 :: .ref (a (18 + j)) :: rest)) := by
  exact wCallVl (As := [.int p1]) (rest := rest) (mc := 0) (ms := 0) (18 + j) hC (met_X3_item l D dT a H.size X vs j p1 hj post hw) (lw_V q302 q303 q304 q88 q305) ⟨⟨rfl, rfl⟩, hd_X3_item, hR, hf⟩ (XW_SH hj) rfl rfl hA hS.self hl rfl hrest hdg (fun r u H1 locs1 hp hS1 => kk r H1 locs1 hp.2 (by have h9 := hS.back hS1; rw [hp.1] at h9; exact h9))
end
/-! LeastFrames.read -/
def w_X0_read_32b (p1 : Int32) (K32 : XS → Nat → Int32 → Prop) (post : Int32 → XS → Prop) (X : XS) (x2 : Nat) (x3 : Int32) : Prop :=
  ((2 * (X_many X)) ≤ x3 → (post x3 X)) ∧ (¬ (2 * (X_many X)) ≤ x3 → (v_X3_size X x2 (fun r2 => (r2 ≤ x3 → (post x3 X)) ∧ (¬ r2 ≤ x3 → (v_X3_item X x2 x3 (fun r4 => v_X0_in r4 ((-9) : Int64) (9 : Int64) (fun r5 => (r5 = (0 : Int32) → (post x3 X)) ∧ (¬ r5 = (0 : Int32) → (vp_in (x3 / 2) 5 ∧ (v_X3_item X x2 x3 (fun r8 => vp_in (x3 - x3 / 2 * 2) 2 ∧ (∀ X9 : XS, X9 = sX_pl X (upd2 (X_pl X) ((x3 / 2).toNatClampNeg) (x3 - x3 / 2 * 2).toNatClampNeg r8.toInt32) → (∀ v10 : Int32, v10 = x3 + 1 → (K32 X9 x2 v10))))))))))))))
def w_X0_read_32 (p1 : Int32) (post : Int32 → XS → Prop) : Nat → XS → Nat → Int32 → Prop
  | 0, _, _, _ => False
  | n + 1, X, x2, x3 => w_X0_read_32b p1 (w_X0_read_32 p1 post n) post X x2 x3
def w_X0_read (p1 : Int32) (post : Int32 → XS → Prop) (X : XS) : Prop :=
  v_X0_isSheet p1 (fun r1 => (r1 = (0 : Int32) → (post ((-2) : Int32) X)) ∧ (¬ r1 = (0 : Int32) → (vp_in p1 4 ∧ ((X_sr X p1.toNatClampNeg = none → (v_X0_finds X (1 : Int32) (fun r5 X6 => post r5 X6))) ∧ (∀ r4, X_sr X p1.toNatClampNeg = some r4 → (∃ n, w_X0_read_32 p1 post n X p1.toNatClampNeg 0))))))
abbrev rmX0_read : Room := { frames := 2, cells := 0, slots := 0, locals := 45 }
set_option maxHeartbeats 4000000 in
set_option maxRecDepth 100000 in
theorem k_X0_read_32b {p : Program} {l : Launch} {e : Env} {s : State} {m : MethodId} {args : Array Value} {below : List Frame} {meth : Method} {c : Code} {D : va_G} {dT : Nat → ClassId} {a : Nat → Nat} {A : Nat → Prop} {vs0 : XE} {p1 : Int32} {K32 : XS → Nat → Int32 → Prop} {post : Int32 → XS → Prop} (hC : wCx RX0 cX0_read 4 (some .int) D dT p s m args meth c) (hA : wAz A s) (hK32 : ∀ (X : XS) (x2 : Nat) (x3 : Int32), K32 X x2 x3 → ∀ {vs : XE} {H : Heap} {locs : List Loc} {ls : Array Slot}, x2 < 4 → StX D dT a A s vs0 X vs H locs → lv_has ls 4 [(0, .ref (a 0)), (2, .ref (a (18 + x2))), (3, .int x3)] → W p l e rmX0_read s m args below meth c H locs 0 0 (MQ below (va_Qi (fun r u9 => post r u9.1) (wB D (XW dT a) (XI vs0) A) A) args s 0 0 A) (F0 m 32 ls [])) (X : XS) (x2 : Nat) (x3 : Int32) {vs : XE} {H : Heap} {locs : List Loc} {ls : Array Slot} (f_x2 : x2 < 4) (hS : StX D dT a A s vs0 X vs H locs) (hl : lv_has ls 4 [(0, .ref (a 0)), (2, .ref (a (18 + x2))), (3, .int x3)])  (hw : w_X0_read_32b p1 K32 post X x2 x3) : W p l e rmX0_read s m args below meth c H locs 0 0 (MQ below (va_Qi (fun r u9 => post r u9.1) (wB D (XW dT a) (XI vs0) A) A) args s 0 0 A) (F0 m 32 ls []) := by
  have hx := hC.1
  have hb := hC.2.1
  have hown := hC.2.2.2.1
  have hts := hC.2.2.2.2.1
  unfold w_X0_read_32b at hw
  refine lv_iload_n hx hb dX0_read_32 rfl (lv_at hl 2 rfl) ?_
  refine lv_iconst (v := 2) hx hb dX0_read_33 (by decide) ?_
  refine lv_aload_n hx hb dX0_read_34 rfl (lv_at hl 0 rfl) ?_
  refine ld_q196 hC hS dX0_read_35 ?_
  refine lv_imul hx hb dX0_read_38 ?_
  refine lv_icmp_ge (tgt := 94) hx hb dX0_read_39 (by decide) (fun c1 => ?_) (fun c1 => ?_)
  · have hw := hw.1 c1
    refine lv_iload_n hx hb dX0_read_94 rfl (lv_at hl 2 rfl) ?_
    exact wReti hC hS hw (Nat.le_refl _) (Nat.le_refl _) dX0_read_95
  · have hw := hw.2 c1
    refine lv_iload_n hx hb dX0_read_42 rfl (lv_at hl 2 rfl) ?_
    refine lv_aload_n hx hb dX0_read_43 rfl (lv_at hl 1 rfl) ?_
    refine inv_q296 hC hA hS f_x2 hl.1 hw ⟨Nat.le_of_ble_eq_true rfl, Nat.le_of_ble_eq_true rfl⟩ (Nat.le_of_ble_eq_true rfl) ⟨Nat.zero_le _, Nat.zero_le _⟩ dX0_read_44 (fun r2 H locs hw hS => ?_)
    refine lv_icmp_ge (tgt := 94) hx hb dX0_read_47 (by decide) (fun c3 => ?_) (fun c3 => ?_)
    · have hw := hw.1 c3
      refine lv_iload_n hx hb dX0_read_94 rfl (lv_at hl 2 rfl) ?_
      exact wReti hC hS hw (Nat.le_refl _) (Nat.le_refl _) dX0_read_95
    · have hw := hw.2 c3
      refine lv_aload_n hx hb dX0_read_50 rfl (lv_at hl 1 rfl) ?_
      refine lv_iload_n hx hb dX0_read_51 rfl (lv_at hl 2 rfl) ?_
      refine inv_q302 hC hA hS f_x2 hl.1 hw ⟨Nat.le_of_ble_eq_true rfl, Nat.le_of_ble_eq_true rfl⟩ (Nat.le_of_ble_eq_true rfl) ⟨Nat.zero_le _, Nat.zero_le _⟩ dX0_read_52 (fun r4 H locs hw hS => ?_)
      refine lv_ldc2 (v := (-9)) hx hb hown (hts _ q270) dX0_read_55 ?_
      refine lv_ldc2 (v := 9) hx hb hown (hts _ q271) dX0_read_58 ?_
      refine inv_q239 hC hS hl.1 hw ⟨Nat.le_of_ble_eq_true rfl, Nat.le_of_ble_eq_true rfl⟩ (Nat.le_of_ble_eq_true rfl) ⟨Nat.zero_le _, Nat.zero_le _⟩ dX0_read_61 (fun r5 H locs hw hS => ?_)
      refine lv_if_eq (tgt := 94) hx hb dX0_read_64 (by decide) (fun c6 => ?_) (fun c6 => ?_)
      · have hw := hw.1 c6
        refine lv_iload_n hx hb dX0_read_94 rfl (lv_at hl 2 rfl) ?_
        exact wReti hC hS hw (Nat.le_refl _) (Nat.le_refl _) dX0_read_95
      · have hw := hw.2 c6
        refine lv_aload_n hx hb dX0_read_67 rfl (lv_at hl 0 rfl) ?_
        refine ld_q193 hC hS dX0_read_68 ?_
        refine lv_iload_n hx hb dX0_read_71 rfl (lv_at hl 2 rfl) ?_
        refine lv_iconst (v := 2) hx hb dX0_read_72 (by decide) ?_
        refine lv_idiv hx hb dX0_read_73 (by decide) ?_
        have hi7 := hw.1
        have hw := hw.2
        refine aa_PA hC hS hi7 dX0_read_74 ?_
        refine ld_q130 hC hS (vp_lt hi7) dX0_read_75 ?_
        refine lv_iload_n hx hb dX0_read_78 rfl (lv_at hl 2 rfl) ?_
        refine lv_iconst (v := 2) hx hb dX0_read_79 (by decide) ?_
        refine lv_irem hx hb dX0_read_80 (by decide) ?_
        refine lv_aload_n hx hb dX0_read_81 rfl (lv_at hl 1 rfl) ?_
        refine lv_iload_n hx hb dX0_read_82 rfl (lv_at hl 2 rfl) ?_
        refine inv_q302 hC hA hS f_x2 hl.1 hw ⟨Nat.le_of_ble_eq_true rfl, Nat.le_of_ble_eq_true rfl⟩ (Nat.le_of_ble_eq_true rfl) ⟨Nat.zero_le _, Nat.zero_le _⟩ dX0_read_83 (fun r8 H locs hw hS => ?_)
        refine lv_l2i hx hb dX0_read_86 rfl ?_
        have hi := hw.1
        have hw := hw.2
        refine as_PL hC hS (vp_lt hi7) hi dX0_read_87 (fun H locs hS => ?_)
        have hw := hw (sX_pl X (upd2 (X_pl X) ((x3 / 2).toNatClampNeg) (x3 - x3 / 2 * 2).toNatClampNeg r8.toInt32)) rfl
        generalize sX_pl X (upd2 (X_pl X) ((x3 / 2).toNatClampNeg) (x3 - x3 / 2 * 2).toNatClampNeg r8.toInt32) = X9 at hS hw
        obtain ⟨v10, ev10⟩ : ∃ y : Int32, y = x3 + 1 := ⟨_, rfl⟩
        have hw := hw v10 ev10
        refine lv_iinc (v := v10) (lv' := [(3, .int v10), (0, .ref (a 0)), (2, .ref (a (18 + x2)))]) hx hb dX0_read_88 hl (k := 2) rfl (by rw [ev10]; rfl) (by decide) rfl (fun ls hl => ?_)
        refine lv_goto (tgt := 32) hx hb dX0_read_91 (by decide) ?_
        exact hK32 _ _ _ hw f_x2 hS (lv_sub hl [1, 2, 0] rfl)
set_option maxHeartbeats 4000000 in
set_option maxRecDepth 100000 in
theorem k_X0_read_32 {p : Program} {l : Launch} {e : Env} {s : State} {m : MethodId} {args : Array Value} {below : List Frame} {meth : Method} {c : Code} {D : va_G} {dT : Nat → ClassId} {a : Nat → Nat} {A : Nat → Prop} {vs0 : XE} {p1 : Int32} {post : Int32 → XS → Prop} (hC : wCx RX0 cX0_read 4 (some .int) D dT p s m args meth c) (hA : wAz A s) : ∀ (X : XS) (x2 : Nat) (x3 : Int32) (n : Nat), ∀ {vs : XE} {H : Heap} {locs : List Loc} {ls : Array Slot}, x2 < 4 → StX D dT a A s vs0 X vs H locs → lv_has ls 4 [(0, .ref (a 0)), (2, .ref (a (18 + x2))), (3, .int x3)] → w_X0_read_32 p1 post n X x2 x3 → W p l e rmX0_read s m args below meth c H locs 0 0 (MQ below (va_Qi (fun r u9 => post r u9.1) (wB D (XW dT a) (XI vs0) A) A) args s 0 0 A) (F0 m 32 ls []) := by
  intro X x2 x3 n
  induction n generalizing X x2 x3 with
  | zero => intro vs H locs ls f_x2 hS hl hw; exact hw.elim
  | succ n ih =>
    intro vs H locs ls f_x2 hS hl hw
    exact k_X0_read_32b hC hA (fun X x2 x3 hk {vs} {H} {locs} {ls} f_x2 hS hl => ih X x2 x3 f_x2 hS hl hk) X x2 x3 f_x2 hS hl hw
set_option maxHeartbeats 4000000 in
set_option maxRecDepth 100000 in
theorem k_X0_read_0 {p : Program} {l : Launch} {e : Env} {s : State} {m : MethodId} {args : Array Value} {below : List Frame} {meth : Method} {c : Code} {D : va_G} {dT : Nat → ClassId} {a : Nat → Nat} {A : Nat → Prop} {vs0 : XE} {p1 : Int32} {post : Int32 → XS → Prop} (hC : wCx RX0 cX0_read 4 (some .int) D dT p s m args meth c) (hA : wAz A s) (X : XS) {vs : XE} {H : Heap} {locs : List Loc} {ls : Array Slot} (hS : StX D dT a A s vs0 X vs H locs) (hl : lv_has ls 4 [(0, .ref (a 0)), (1, .int p1)])  (hw : w_X0_read p1 post X) : W p l e rmX0_read s m args below meth c H locs 0 0 (MQ below (va_Qi (fun r u9 => post r u9.1) (wB D (XW dT a) (XI vs0) A) A) args s 0 0 A) (F0 m 0 ls []) := by
  have hx := hC.1
  have hb := hC.2.1
  have hown := hC.2.2.2.1
  have hts := hC.2.2.2.2.1
  unfold w_X0_read at hw
  refine lv_iload_n hx hb dX0_read_0 rfl (lv_at hl 1 rfl) ?_
  refine inv_q289 hC hS hl.1 hw ⟨Nat.le_of_ble_eq_true rfl, Nat.le_of_ble_eq_true rfl⟩ (Nat.le_of_ble_eq_true rfl) ⟨Nat.zero_le _, Nat.zero_le _⟩ dX0_read_1 (fun r1 H locs hw hS => ?_)
  refine lv_if_ne (tgt := 10) hx hb dX0_read_4 (by decide) (fun c2 => ?_) (fun c2 => ?_)
  · have hw := hw.2 c2
    refine lv_aload_n hx hb dX0_read_10 rfl (lv_at hl 0 rfl) ?_
    refine ld_q206 hC hS dX0_read_11 ?_
    refine lv_iload_n hx hb dX0_read_14 rfl (lv_at hl 1 rfl) ?_
    have hi3 := hw.1
    have hw := hw.2
    refine aa_SA hC hS hi3 dX0_read_15 ?_
    refine lv_astore_n (lv' := [(2, .ref (a (18 + p1.toNatClampNeg))), (0, .ref (a 0)), (1, .int p1)]) hx hb dX0_read_16 rfl hl (by decide) rfl (fun ls hl => ?_)
    refine lv_aload_n hx hb dX0_read_17 rfl (lv_at hl 0 rfl) ?_
    refine ld_q188 hC hS (vp_lt hi3) dX0_read_18 ?_
    refine opt_nn (tgt := 30) hx hb dX0_read_21 (by decide) (fun hr4 => ?_) (fun r4 hr4 => ?_)
    · have hw := hw.1 hr4
      refine lv_aload_n hx hb dX0_read_24 rfl (lv_at hl 1 rfl) ?_
      refine lv_iconst (v := 1) hx hb dX0_read_25 (by decide) ?_
      refine inv_q292 hC hA hS hl.1 hw ⟨Nat.le_of_ble_eq_true rfl, Nat.le_of_ble_eq_true rfl⟩ (Nat.le_of_ble_eq_true rfl) ⟨Nat.zero_le _, Nat.zero_le _⟩ dX0_read_26 (fun r5 X6 vs H locs hw hv9 hS => ?_)
      exact wReti hC hS hw (Nat.le_refl _) (Nat.le_refl _) dX0_read_29
    · have hw := hw.2 _ hr4
      refine lv_iconst (v := 0) hx hb dX0_read_30 (by decide) ?_
      refine lv_istore_n (lv' := [(3, .int 0), (2, .ref (a (18 + p1.toNatClampNeg))), (0, .ref (a 0)), (1, .int p1)]) hx hb dX0_read_31 rfl hl (by decide) rfl (fun ls hl => ?_)
      obtain ⟨n, hw⟩ := hw
      exact k_X0_read_32 hC hA _ _ _ n (vp_lt hi3) hS (lv_sub hl [2, 1, 0] rfl) hw
  · have hw := hw.1 c2
    refine lv_bipush (v := (-2)) hx hb dX0_read_7 (by decide) ?_
    exact wReti hC hS hw (Nat.le_refl _) (Nat.le_refl _) dX0_read_9
abbrev v_X0_read (X : XS) (p1 : Int32) (post : Int32 → XS → Prop) : Prop := w_X0_read p1 post X
set_option maxHeartbeats 4000000 in
set_option maxRecDepth 100000 in
theorem met_X0_read (l : Launch) (D : va_G) (dT : Nat → ClassId) (a : Nat → Nat) (sz : Nat) (X : XS) (vs0 : XE) (p1 : Int32) (post : Int32 → XS → Prop) (hw : v_X0_read X p1 post) : Met l yX0_read (ws_ yX0_read cX0_read 4 (some .int)) rmX0_read (wPc D dT (XW dT a) (XI vs0) sz (X, vs0) [.ref (a 0), .int p1]) (va_Qi (fun r u9 => post r u9.1) (wB D (XW dT a) (XI vs0) (va_A ((XW dT a) (X, vs0)) sz)) (va_A ((XW dT a) (X, vs0)) sz)) 0 0 (va_A ((XW dT a) (X, vs0)) sz) :=
  wEnt (Q := fun A => (va_Qi (fun r u9 => post r u9.1) (wB D (XW dT a) (XI vs0) A) A)) (by decide) (Nat.le_of_ble_eq_true rfl) (fun p e s m below meth c A ls hC _ hA hS hl => k_X0_read_0 hC hA _ hS hl hw) sz
theorem hd_X0_read : yX0_read.cls ≠ "java/lang/invoke/MethodHandle" ∧ yX0_read.cls ≠ "java/lang/invoke/VarHandle" ∧ (parseMethodDescriptor yX0_read.desc).map (fun d => d.parameters.length) = some 1 := by decide +kernel
