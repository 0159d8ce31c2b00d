/-! LeastFrames$Volume(long, long) -/
def WV (base : va_W) (k q : Nat) (w : Int64 × Int64) : va_W := base.set k (q, .inr (6, [.long w.1, .long w.2]))
theorem WV_at {base : va_W} {k q : Nat} (hk : k < base.length) (w : Int64 × Int64) : (WV base k q w)[k]? = some (q, .inr (6, [.long w.1, .long w.2])) := List.getElem?_set_self hk
abbrev v_X6_init (p1 p3 : Int64) (post : Int64 → Int64 → Prop) : Prop := v_X0_part p1 p3 0 (fun r1 => v_X0_part p1 p3 1 (fun r2 => post r1 r2))
abbrev rmX6_init : Room := { frames := rmX0_part.frames + 1, cells := 0, slots := 0, locals := 8 + (5 + 11) + rmX0_part.locals }
set_option maxHeartbeats 4000000 in
set_option maxRecDepth 100000 in
theorem met_X6_init (l : Launch) (D : va_G) (dT : Nat → ClassId) (base : va_W) (k q : Nat) (hk : k < base.length) (sz : Nat) (p1 p3 : Int64) (post : Int64 → Int64 → Prop) (hw : v_X6_init p1 p3 post) : Met l yX6_init (ws_ yX6_init cX6_init 5 none) rmX6_init (wPc D dT (WV base k q) (fun _ => True) sz (0, 0) [.ref q, .long p1, .long p3]) (va_Qv (fun w => post w.1 w.2) (wB D (WV base k q) (fun _ => True) (va_A (WV base k q (0, 0)) sz)) (va_A (WV base k q (0, 0)) sz)) 0 0 (va_A (WV base k q (0, 0)) sz) := by
  refine wEnt (y := yX6_init) (cc := cX6_init) (maxL := 5) (ret := none) (av := [.ref q, .long p1, .long p3]) (Q := fun A => va_Qv (fun w => post w.1 w.2) (wB D (WV base k q) (fun _ => True) A) A) (by decide) (Nat.le_of_ble_eq_true rfl) (fun p e s m below meth c A ls hC hin hA hS hl => ?_) sz
  have hx := hC.1
  have hb := hC.2.1
  have hown := hC.2.2.2.1
  have hts := hC.2.2.2.2.1
  have hl : lv_has ls 5 [(0, .ref q), (1, .long p1), (3, .long p3)] := hl
  generalize hH : s.heap = H at hS ⊢
  have hS : wSt D (WV base k q) (fun _ => True) A s (0, 0) H [] := by rw [← hH] at hS ⊢; exact hS
  refine lv_aload_n hx hb dX6_init_0 rfl (lv_at hl 0 rfl) ?_
  refine W.objInit hx hb hown (hts _ q506) (hts _ q113) (hts _ q114) rfl (by rw [hC.2.2.1]; exact hl.1) rfl dX6_init_1 (Nat.le_of_ble_eq_true rfl) (Nat.le_of_ble_eq_true rfl) ?_
  refine W.eq (g2 := F0 m 4 ls []) rfl ?_
  refine lv_aload_n hx hb dX6_init_4 rfl (lv_at hl 0 rfl) ?_
  refine lv_lload_n hx hb dX6_init_5 rfl (lv_at hl 1 rfl) ?_
  refine lv_lload_n hx hb dX6_init_6 rfl (lv_at hl 2 rfl) ?_
  refine lv_iconst (v := 0) hx hb dX6_init_7 (by decide) ?_
  refine inv_q507 hC hS hl.1 hw ⟨Nat.le_of_ble_eq_true rfl, Nat.le_of_ble_eq_true rfl⟩ (Nat.le_of_ble_eq_true rfl) ⟨Nat.zero_le _, Nat.zero_le _⟩ dX6_init_8 (fun r1 H locs hw hS => ?_)
  refine va_putF (D := D) (ci := 6) (v := .long r1) (ty := .long) (C := RX6) (T := TX6) (N := 2) hx hb hts in_X6 tyX6 tyX6_ok nmX6 hown hC.2.2.2.2.2.2.2.1 hS.1 hS.2.1 hS.2.2.1 k (WV_at hk _) rfl 0 (by decide) (hts _ q514) (fun _ h9 => h9) rfl hin rfl (by decide +kernel) rfl rfl (Nat.le_of_ble_eq_true rfl) dX6_init_11 (fun H locs hP hD hS1 => ?_)
  have hS : wSt D (WV base k q) (fun _ => True) A s ((r1, 0)) H locs := ⟨by unfold WV at hP ⊢; rw [List.set_set] at hP; exact hP, by unfold WV at hD ⊢; rw [List.set_set] at hD; exact hD, hS1, trivial⟩
  refine lv_aload_n hx hb dX6_init_14 rfl (lv_at hl 0 rfl) ?_
  refine lv_lload_n hx hb dX6_init_15 rfl (lv_at hl 1 rfl) ?_
  refine lv_lload_n hx hb dX6_init_16 rfl (lv_at hl 2 rfl) ?_
  refine lv_iconst (v := 1) hx hb dX6_init_17 (by decide) ?_
  refine inv_q507 hC hS hl.1 hw ⟨Nat.le_of_ble_eq_true rfl, Nat.le_of_ble_eq_true rfl⟩ (Nat.le_of_ble_eq_true rfl) ⟨Nat.zero_le _, Nat.zero_le _⟩ dX6_init_18 (fun r2 H locs hw hS => ?_)
  refine va_putF (D := D) (ci := 6) (v := .long r2) (ty := .long) (C := RX6) (T := TX6) (N := 2) hx hb hts in_X6 tyX6 tyX6_ok nmX6 hown hC.2.2.2.2.2.2.2.1 hS.1 hS.2.1 hS.2.2.1 k (WV_at hk _) rfl 1 (by decide) (hts _ q516) (fun _ h9 => h9) rfl hin rfl (by decide +kernel) rfl rfl (Nat.le_of_ble_eq_true rfl) dX6_init_21 (fun H locs hP hD hS1 => ?_)
  have hS : wSt D (WV base k q) (fun _ => True) A s ((r1, r2)) H locs := ⟨by unfold WV at hP ⊢; rw [List.set_set] at hP; exact hP, by unfold WV at hD ⊢; rw [List.set_set] at hD; exact hD, hS1, trivial⟩
  exact wRetv hC hS hw (Nat.le_refl _) (Nat.le_refl _) dX6_init_24
theorem hd_X6_init : yX6_init.cls ≠ "java/lang/invoke/MethodHandle" ∧ yX6_init.cls ≠ "java/lang/invoke/VarHandle" ∧ (parseMethodDescriptor yX6_init.desc).map (fun d => d.parameters.length) = some 2 := by decide +kernel
/-! the exceptions' constructors -/
def WE (base : va_W) (k q ci : Nat) (fs : List Value) : va_W := base.set k (q, .inr (ci, fs))
abbrev rmX5_init : Room := { frames := 6, cells := 0, slots := 0, locals := 100 }
abbrev rmX7_init : Room := { frames := 6, cells := 0, slots := 0, locals := 100 }
theorem hd_X5_init : yX5_init.cls ≠ "java/lang/invoke/MethodHandle" ∧ yX5_init.cls ≠ "java/lang/invoke/VarHandle" ∧ (parseMethodDescriptor yX5_init.desc).map (fun d => d.parameters.length) = some 1 := by decide +kernel
theorem hd_X7_init : yX7_init.cls ≠ "java/lang/invoke/MethodHandle" ∧ yX7_init.cls ≠ "java/lang/invoke/VarHandle" ∧ (parseMethodDescriptor yX7_init.desc).map (fun d => d.parameters.length) = some 2 := by decide +kernel
theorem met_X5_init {l : Launch} (hfl : l.stackTraces = false) (l' : Launch) (D : va_G) (dT : Nat → ClassId) (base : va_W) (k q : Nat) (hk : k < base.length) (sz : Nat) (w : Int32) : Met l yX5_init (ws_ yX5_init cX5_init 2 none) rmX5_init (wPc D dT (WE base k q 5) (fun _ => True) sz d5 [.ref q, .int w]) (va_Qv (fun fs => fs[6]? = some (.int w)) (wB D (WE base k q 5) (fun _ => True) (va_A (WE base k q 5 d5) sz)) (va_A (WE base k q 5 d5) sz)) 0 0 (va_A (WE base k q 5 d5) sz) := sorry
theorem met_X7_init {l : Launch} (hfl : l.stackTraces = false) (l' : Launch) (D : va_G) (dT : Nat → ClassId) (base : va_W) (k q : Nat) (hk : k < base.length) (sz : Nat) (b : Int32) (x : Nat) : Met l yX7_init (ws_ yX7_init cX7_init 3 none) rmX7_init (wPc D dT (WE base k q 7) (fun _ => True) sz d5 [.ref q, .int b, .ref x]) (va_Qv (fun fs => fs[6]? = some (.int b) ∧ fs[0]? = some (.ref x)) (wB D (WE base k q 7) (fun _ => True) (va_A (WE base k q 7 d5) sz)) (va_A (WE base k q 7 d5) sz)) 0 0 (va_A (WE base k q 7 d5) sz) := sorry
theorem nw_new_q501 {p : Program} {l : Launch} {e : Env} {R : Room} {s : State} {m : MethodId} {args : Array Value} {below : List Frame} {meth : Method} {c : Code} {H : Heap} {locs : List Loc} {cells slots : Nat} {Q : State → Prop} {cc : ByteArray} {nL : Nat} {ret : Option FieldType} {pc : Nat} {ls : Array Slot} {rest : List Value} {D : va_G} {dT : Nat → ClassId} {a : Nat → Nat} {A : Nat → Prop} {vs0 vs : XE} {X : XS} (hC : wCx RX0 cc nL ret D dT p s m args meth c) (hA : wAz A s) (hS : StX D dT a A s vs0 X vs H locs) (hf : cells + 1 ≤ R.cells ∧ slots + 2 ≤ R.slots) (hdg : decode cc pc = .ok (.new 81, 3))
    (kk : ∀ (q : Nat) (vs1 : XE) (H1 : Heap), StX D dT a A s vs0 X vs1 H1 locs → (q, .inr (6, [.long 0, .long 0])) ∈ vs1 → (∀ z ∈ vs, z ∈ vs1) → (∀ z ∈ vs0, z.1 ≠ q) → (∀ v, X_least X = some v → v.1 ≠ q) → W p l e R s m args below meth c H1 locs (cells + 1) (slots + 2) Q (F0 m (pc + 3) ls (.ref q :: rest))) : W p l e R s m args below meth c H locs cells slots Q (F0 m pc ls rest) :=
  xNew (C := RX6) (T := TX6) (N := 2) (ci := 6) (fs := [.long 0, .long 0]) hC hA hS in_X6 tyX6 tyX6_ok q501 q502 q94 rfl (fun j hj => by rcases (show j = 0 ∨ j = 1 by omega) with rfl | rfl <;> rfl) hf hdg kk
theorem nw_new_q568 {p : Program} {l : Launch} {e : Env} {R : Room} {s : State} {m : MethodId} {args : Array Value} {below : List Frame} {meth : Method} {c : Code} {H : Heap} {locs : List Loc} {cells slots : Nat} {Q : State → Prop} {cc : ByteArray} {nL : Nat} {ret : Option FieldType} {pc : Nat} {ls : Array Slot} {rest : List Value} {D : va_G} {dT : Nat → ClassId} {a : Nat → Nat} {A : Nat → Prop} {vs0 vs : XE} {X : XS} (hC : wCx RX0 cc nL ret D dT p s m args meth c) (hA : wAz A s) (hS : StX D dT a A s vs0 X vs H locs) (hf : cells + 1 ≤ R.cells ∧ slots + 7 ≤ R.slots) (hdg : decode cc pc = .ok (.new 226, 3))
    (kk : ∀ (q : Nat) (vs1 : XE) (H1 : Heap), StX D dT a A s vs0 X vs1 H1 locs → (q, .inr (7, d5)) ∈ vs1 → (∀ z ∈ vs, z ∈ vs1) → (∀ z ∈ vs0, z.1 ≠ q) → (∀ v, X_least X = some v → v.1 ≠ q) → W p l e R s m args below meth c H1 locs (cells + 1) (slots + 7) Q (F0 m (pc + 3) ls (.ref q :: rest))) : W p l e R s m args below meth c H locs cells slots Q (F0 m pc ls rest) :=
  xNew (C := RX7) (T := TX7) (N := 7) (ci := 7) (fs := d5) hC hA hS in_X7 tyX7 tyX7_ok q568 q573 q95 rfl (fun j hj => by rcases (show j = 0 ∨ j = 1 ∨ j = 2 ∨ j = 3 ∨ j = 4 ∨ j = 5 ∨ j = 6 by omega) with rfl | rfl | rfl | rfl | rfl | rfl | rfl <;> rfl) hf hdg kk
theorem nw_new_q395 {p : Program} {l : Launch} {e : Env} {R : Room} {s : State} {m : MethodId} {args : Array Value} {below : List Frame} {meth : Method} {c : Code} {H : Heap} {locs : List Loc} {cells slots : Nat} {Q : State → Prop} {cc : ByteArray} {nL : Nat} {ret : Option FieldType} {pc : Nat} {ls : Array Slot} {rest : List Value} {D : va_G} {dT : Nat → ClassId} {a : Nat → Nat} {A : Nat → Prop} {vs0 vs : XE} {X : XS} (hC : wCx RX2 cc nL ret D dT p s m args meth c) (hA : wAz A s) (hS : StX D dT a A s vs0 X vs H locs) (hf : cells + 1 ≤ R.cells ∧ slots + 7 ≤ R.slots) (hdg : decode cc pc = .ok (.new 106, 3))
    (kk : ∀ (q : Nat) (vs1 : XE) (H1 : Heap), StX D dT a A s vs0 X vs1 H1 locs → (q, .inr (5, d5)) ∈ vs1 → (∀ z ∈ vs, z ∈ vs1) → (∀ z ∈ vs0, z.1 ≠ q) → (∀ v, X_least X = some v → v.1 ≠ q) → W p l e R s m args below meth c H1 locs (cells + 1) (slots + 7) Q (F0 m (pc + 3) ls (.ref q :: rest))) : W p l e R s m args below meth c H locs cells slots Q (F0 m pc ls rest) :=
  xNew (C := RX5) (T := TX5) (N := 7) (ci := 5) (fs := d5) hC hA hS in_X5 tyX5 tyX5_ok q395 q396 q92 rfl (fun j hj => by rcases (show j = 0 ∨ j = 1 ∨ j = 2 ∨ j = 3 ∨ j = 4 ∨ j = 5 ∨ j = 6 by omega) with rfl | rfl | rfl | rfl | rfl | rfl | rfl <;> rfl) hf hdg kk
theorem nw_new_q647 {p : Program} {l : Launch} {e : Env} {R : Room} {s : State} {m : MethodId} {args : Array Value} {below : List Frame} {meth : Method} {c : Code} {H : Heap} {locs : List Loc} {cells slots : Nat} {Q : State → Prop} {cc : ByteArray} {nL : Nat} {ret : Option FieldType} {pc : Nat} {ls : Array Slot} {rest : List Value} {D : va_G} {dT : Nat → ClassId} {a : Nat → Nat} {A : Nat → Prop} {vs0 vs : XE} {X : XS} (hC : wCx RX6 cc nL ret D dT p s m args meth c) (hA : wAz A s) (hS : StX D dT a A s vs0 X vs H locs) (hf : cells + 1 ≤ R.cells ∧ slots + 2 ≤ R.slots) (hdg : decode cc pc = .ok (.new 14, 3))
    (kk : ∀ (q : Nat) (vs1 : XE) (H1 : Heap), StX D dT a A s vs0 X vs1 H1 locs → (q, .inr (6, [.long 0, .long 0])) ∈ vs1 → (∀ z ∈ vs, z ∈ vs1) → (∀ z ∈ vs0, z.1 ≠ q) → (∀ v, X_least X = some v → v.1 ≠ q) → W p l e R s m args below meth c H1 locs (cells + 1) (slots + 2) Q (F0 m (pc + 3) ls (.ref q :: rest))) : W p l e R s m args below meth c H locs cells slots Q (F0 m pc ls rest) :=
  xNew (C := RX6) (T := TX6) (N := 2) (ci := 6) (fs := [.long 0, .long 0]) hC hA hS in_X6 tyX6 tyX6_ok q647 q502 q94 rfl (fun j hj => by rcases (show j = 0 ∨ j = 1 by omega) with rfl | rfl <;> rfl) hf hdg kk
section
variable {p : Program} {l : Launch} {e : Env} {R : Room} {s : State} {m : MethodId} {args : Array Value} {below : List Frame} {meth : Method} {c : Code} {H : Heap} {locs : List Loc} {cells slots : Nat} {Q : State → Prop} {cc : ByteArray} {nL : Nat} {ret : Option FieldType} {pc : Nat} {ls : Array Slot} {rest : List Value}
variable {D : va_G} {dT : Nat → ClassId} {a : Nat → Nat} {A : Nat → Prop} {vs0 vs : XE} {X : XS} {q : Nat}
set_option maxHeartbeats 4000000 in
set_option maxRecDepth 100000 in
theorem mk_q503 {p1 p3 : Int64} {post : Int64 → Int64 → Prop} (hC : wCx RX0 cc nL ret D dT p s m args meth c) (hA : wAz A s) (hS : StX D dT a A s vs0 X vs H locs) (hraw : (q, .inr (6, [.long 0, .long 0])) ∈ vs) (hfL : ∀ v, X_least X = some v → v.1 ≠ q) (hf0 : ∀ z ∈ vs0, z.1 ≠ q) (hl : ls.size = nL) (hw : v_X6_init p1 p3 post) (hR : rmX6_init.frames + 1 ≤ R.frames ∧ 8 + (5 + 11) + rmX6_init.locals ≤ R.locals) (hrest : (rest.map fun v => v.category).sum ≤ 8) (hf : cells ≤ R.cells ∧ slots ≤ R.slots) (hdg : decode cc pc = .ok (.invokespecial 87, 3)) (kk : ∀ (r1 r2 : Int64) (vs1 : XE) (H1 : Heap) (locs1 : List Loc), post r1 r2 → StX D dT a A s vs0 X vs1 H1 locs1 → volC (q, r1, r2) ∈ vs1 → (∀ z ∈ vs, z ≠ (q, .inr (6, [.long 0, .long 0])) → z ∈ vs1) → W p l e R s m args below meth c H1 locs1 cells slots Q (F0 m (pc + 3) ls (rest))) : W p l e R s m args below meth c H locs cells slots Q (F0 m pc ls (.long p3 :: .long p1 :: .ref q :: rest)) := by
  obtain ⟨k, hk⟩ := List.getElem?_of_mem hraw
  have hlt := (List.getElem?_eq_some_iff.mp hk).1
  obtain ⟨n, hn⟩ := XW_ext (dT := dT) (a := a) (X := X) (vs := vs)
  have hnk := (hn k).1.trans hk
  have hnl := (List.getElem?_eq_some_iff.mp hnk).1
  have e0 : (XW dT a (X, vs)).set (n + k) (q, .inr (6, [.long 0, .long 0])) = XW dT a (X, vs) := by
    obtain ⟨h1, h2⟩ := List.getElem?_eq_some_iff.mp hnk
    rw [← h2]
    exact List.set_getElem_self h1
  have hS0 : wSt D (WV (XW dT a (X, vs)) (n + k) q) (fun _ => True) A s (0, 0) H locs := ⟨by unfold WV; rw [e0]; exact hS.1, by unfold WV; rw [e0]; exact hS.2.1, hS.2.2.1, trivial⟩
  refine va_callv (wRunI (As := [.long p1, .long p3]) (mc := 0) (ms := 0) hC (met_X6_init l D dT _ (n + k) q hnl H.size p1 p3 post hw) q505 q94 q503 q504 rfl ⟨⟨rfl, rfl⟩, hd_X6_init, hR, hf⟩ hA hS0 hl rfl hrest hdg) hS.2.2.1 (fun q _ h => wFree hA hS0 q h) (wFree hA hS0) (fun u t H1 locs1 ht _ hp hB _ _ hS1 => ?_)
  have hS1 := wBack hA hS0 ht hB hS1
  obtain ⟨r1, r2⟩ := u
  have hP9 := hS1.1
  have hD9 := hS1.2.1
  unfold WV at hP9 hD9
  rw [(hn k).2 _ hlt] at hP9 hD9
  have hkeep := set_keep (c := (q, .inr (6, [.long r1, .long r2]))) hk
  have hne : ∀ z ∈ vs0, z ∈ vs.set k (q, .inr (6, [.long r1, .long r2])) := fun z hz => hkeep z (hS.2.2.2.2 z hz) (fun e9 => hf0 z hz (by rw [e9]))
  have hle : ∀ v, X_least X = some v → volC v ∈ vs.set k (q, .inr (6, [.long r1, .long r2])) := fun v hv => hkeep _ (hS.2.2.2.1 v hv) (fun e9 => hfL v hv (congrArg Prod.fst e9))
  exact kk r1 r2 _ H1 locs1 hp ⟨hP9, hD9, hS1.2.2.1, hle, hne⟩ (set_here hk) hkeep
end
section
variable {p : Program} {l : Launch} {e : Env} {R : Room} {s : State} {m : MethodId} {args : Array Value} {below : List Frame} {meth : Method} {c : Code} {H : Heap} {locs : List Loc} {cells slots : Nat} {Q : State → Prop} {cc : ByteArray} {nL : Nat} {ret : Option FieldType} {pc : Nat} {ls : Array Slot} {rest : List Value}
variable {D : va_G} {dT : Nat → ClassId} {a : Nat → Nat} {A : Nat → Prop} {vs0 vs : XE} {X : XS} {q : Nat}
set_option maxHeartbeats 4000000 in
set_option maxRecDepth 100000 in
theorem mk_q648 {p1 p3 : Int64} {post : Int64 → Int64 → Prop} (hC : wCx RX6 cc nL ret D dT p s m args meth c) (hA : wAz A s) (hS : StX D dT a A s vs0 X vs H locs) (hraw : (q, .inr (6, [.long 0, .long 0])) ∈ vs) (hfL : ∀ v, X_least X = some v → v.1 ≠ q) (hf0 : ∀ z ∈ vs0, z.1 ≠ q) (hl : ls.size = nL) (hw : v_X6_init p1 p3 post) (hR : rmX6_init.frames + 1 ≤ R.frames ∧ 8 + (5 + 11) + rmX6_init.locals ≤ R.locals) (hrest : (rest.map fun v => v.category).sum ≤ 8) (hf : cells ≤ R.cells ∧ slots ≤ R.slots) (hdg : decode cc pc = .ok (.invokespecial 22, 3)) (kk : ∀ (r1 r2 : Int64) (vs1 : XE) (H1 : Heap) (locs1 : List Loc), post r1 r2 → StX D dT a A s vs0 X vs1 H1 locs1 → volC (q, r1, r2) ∈ vs1 → (∀ z ∈ vs, z ≠ (q, .inr (6, [.long 0, .long 0])) → z ∈ vs1) → W p l e R s m args below meth c H1 locs1 cells slots Q (F0 m (pc + 3) ls (rest))) : W p l e R s m args below meth c H locs cells slots Q (F0 m pc ls (.long p3 :: .long p1 :: .ref q :: rest)) := by
  obtain ⟨k, hk⟩ := List.getElem?_of_mem hraw
  have hlt := (List.getElem?_eq_some_iff.mp hk).1
  obtain ⟨n, hn⟩ := XW_ext (dT := dT) (a := a) (X := X) (vs := vs)
  have hnk := (hn k).1.trans hk
  have hnl := (List.getElem?_eq_some_iff.mp hnk).1
  have e0 : (XW dT a (X, vs)).set (n + k) (q, .inr (6, [.long 0, .long 0])) = XW dT a (X, vs) := by
    obtain ⟨h1, h2⟩ := List.getElem?_eq_some_iff.mp hnk
    rw [← h2]
    exact List.set_getElem_self h1
  have hS0 : wSt D (WV (XW dT a (X, vs)) (n + k) q) (fun _ => True) A s (0, 0) H locs := ⟨by unfold WV; rw [e0]; exact hS.1, by unfold WV; rw [e0]; exact hS.2.1, hS.2.2.1, trivial⟩
  refine va_callv (wRunI (As := [.long p1, .long p3]) (mc := 0) (ms := 0) hC (met_X6_init l D dT _ (n + k) q hnl H.size p1 p3 post hw) q505 q94 q648 q504 rfl ⟨⟨rfl, rfl⟩, hd_X6_init, hR, hf⟩ hA hS0 hl rfl hrest hdg) hS.2.2.1 (fun q _ h => wFree hA hS0 q h) (wFree hA hS0) (fun u t H1 locs1 ht _ hp hB _ _ hS1 => ?_)
  have hS1 := wBack hA hS0 ht hB hS1
  obtain ⟨r1, r2⟩ := u
  have hP9 := hS1.1
  have hD9 := hS1.2.1
  unfold WV at hP9 hD9
  rw [(hn k).2 _ hlt] at hP9 hD9
  have hkeep := set_keep (c := (q, .inr (6, [.long r1, .long r2]))) hk
  have hne : ∀ z ∈ vs0, z ∈ vs.set k (q, .inr (6, [.long r1, .long r2])) := fun z hz => hkeep z (hS.2.2.2.2 z hz) (fun e9 => hf0 z hz (by rw [e9]))
  have hle : ∀ v, X_least X = some v → volC v ∈ vs.set k (q, .inr (6, [.long r1, .long r2])) := fun v hv => hkeep _ (hS.2.2.2.1 v hv) (fun e9 => hfL v hv (congrArg Prod.fst e9))
  exact kk r1 r2 _ H1 locs1 hp ⟨hP9, hD9, hS1.2.2.1, hle, hne⟩ (set_here hk) hkeep
end
section
variable {p : Program} {l : Launch} {e : Env} {R : Room} {s : State} {m : MethodId} {args : Array Value} {below : List Frame} {meth : Method} {c : Code} {H : Heap} {locs : List Loc} {cells slots : Nat} {Q : State → Prop} {cc : ByteArray} {nL : Nat} {ret : Option FieldType} {pc : Nat} {ls : Array Slot} {rest : List Value}
variable {D : va_G} {dT : Nat → ClassId} {a : Nat → Nat} {A : Nat → Prop} {vs0 vs : XE} {X : XS} {q : Nat}
set_option maxHeartbeats 4000000 in
set_option maxRecDepth 100000 in
theorem mk_q456 {w : Int32} (hfl : l.stackTraces = false) (hC : wCx RX2 cc nL ret D dT p s m args meth c) (hA : wAz A s) (hS : StX D dT a A s vs0 X vs H locs) (hraw : (q, .inr (5, d5)) ∈ vs) (hfL : ∀ v, X_least X = some v → v.1 ≠ q) (hf0 : ∀ z ∈ vs0, z.1 ≠ q) (hl : ls.size = nL) (hR : rmX5_init.frames + 1 ≤ R.frames ∧ 8 + (2 + 11) + rmX5_init.locals ≤ R.locals) (hrest : (rest.map fun v => v.category).sum ≤ 8) (hf : cells ≤ R.cells ∧ slots ≤ R.slots) (hdg : decode cc pc = .ok (.invokespecial 111, 3)) (kk : ∀ (vs1 : XE) (H1 : Heap) (locs1 : List Loc), StX D dT a A s vs0 X vs1 H1 locs1 → isUnb (q, w) vs1 → (∀ z ∈ vs, z ≠ (q, .inr (5, d5)) → z ∈ vs1) → W p l e R s m args below meth c H1 locs1 cells slots Q (F0 m (pc + 3) ls (rest))) : W p l e R s m args below meth c H locs cells slots Q (F0 m pc ls (.int w :: .ref q :: rest)) := by
  obtain ⟨k, hk⟩ := List.getElem?_of_mem hraw
  have hlt := (List.getElem?_eq_some_iff.mp hk).1
  obtain ⟨n, hn⟩ := XW_ext (dT := dT) (a := a) (X := X) (vs := vs)
  have hnk := (hn k).1.trans hk
  have hnl := (List.getElem?_eq_some_iff.mp hnk).1
  have e0 : (XW dT a (X, vs)).set (n + k) (q, .inr (5, d5)) = XW dT a (X, vs) := by
    obtain ⟨h1, h2⟩ := List.getElem?_eq_some_iff.mp hnk
    rw [← h2]
    exact List.set_getElem_self h1
  have hS0 : wSt D (WE (XW dT a (X, vs)) (n + k) q 5) (fun _ => True) A s d5 H locs := ⟨by unfold WE; rw [e0]; exact hS.1, by unfold WE; rw [e0]; exact hS.2.1, hS.2.2.1, trivial⟩
  refine va_callv (wRunI (As := [.int w]) (mc := 0) (ms := 0) hC (met_X5_init hfl l D dT _ (n + k) q hnl H.size w) q458 q92 q456 q457 rfl ⟨⟨rfl, rfl⟩, hd_X5_init, hR, hf⟩ hA hS0 hl rfl hrest hdg) hS.2.2.1 (fun q _ h => wFree hA hS0 q h) (wFree hA hS0) (fun u t H1 locs1 ht _ hp hB _ _ hS1 => ?_)
  have hS1 := wBack hA hS0 ht hB hS1
  have hP9 := hS1.1
  have hD9 := hS1.2.1
  unfold WE at hP9 hD9
  rw [(hn k).2 _ hlt] at hP9 hD9
  have hkeep := set_keep (c := (q, .inr (5, u))) hk
  have hne : ∀ z ∈ vs0, z ∈ vs.set k (q, .inr (5, u)) := fun z hz => hkeep z (hS.2.2.2.2 z hz) (fun e9 => hf0 z hz (by rw [e9]))
  have hle : ∀ v, X_least X = some v → volC v ∈ vs.set k (q, .inr (5, u)) := fun v hv => hkeep _ (hS.2.2.2.1 v hv) (fun e9 => hfL v hv (congrArg Prod.fst e9))
  exact kk _ H1 locs1 ⟨hP9, hD9, hS1.2.2.1, hle, hne⟩ ⟨u, hp, set_here hk⟩ hkeep
end
section
variable {p : Program} {l : Launch} {e : Env} {R : Room} {s : State} {m : MethodId} {args : Array Value} {below : List Frame} {meth : Method} {c : Code} {H : Heap} {locs : List Loc} {cells slots : Nat} {Q : State → Prop} {cc : ByteArray} {nL : Nat} {ret : Option FieldType} {pc : Nat} {ls : Array Slot} {rest : List Value}
variable {D : va_G} {dT : Nat → ClassId} {a : Nat → Nat} {A : Nat → Prop} {vs0 vs : XE} {X : XS} {q : Nat}
set_option maxHeartbeats 4000000 in
set_option maxRecDepth 100000 in
theorem mk_q581 {b : Int32} {x : Exn} (hfl : l.stackTraces = false) (hC : wCx RX0 cc nL ret D dT p s m args meth c) (hA : wAz A s) (hS : StX D dT a A s vs0 X vs H locs) (hraw : (q, .inr (7, d5)) ∈ vs) (hfL : ∀ v, X_least X = some v → v.1 ≠ q) (hf0 : ∀ z ∈ vs0, z.1 ≠ q) (hl : ls.size = nL) (hx : isUnb x vs) (hR : rmX7_init.frames + 1 ≤ R.frames ∧ 8 + (3 + 11) + rmX7_init.locals ≤ R.locals) (hrest : (rest.map fun v => v.category).sum ≤ 8) (hf : cells ≤ R.cells ∧ slots ≤ R.slots) (hdg : decode cc pc = .ok (.invokespecial 228, 3)) (kk : ∀ (vs1 : XE) (H1 : Heap) (locs1 : List Loc), StX D dT a A s vs0 X vs1 H1 locs1 → isUnt (q, b, x.2) vs1 → (∀ z ∈ vs, z ≠ (q, .inr (7, d5)) → z ∈ vs1) → W p l e R s m args below meth c H1 locs1 cells slots Q (F0 m (pc + 3) ls (rest))) : W p l e R s m args below meth c H locs cells slots Q (F0 m pc ls (.ref x.1 :: .int b :: .ref q :: rest)) := by
  obtain ⟨k, hk⟩ := List.getElem?_of_mem hraw
  have hlt := (List.getElem?_eq_some_iff.mp hk).1
  obtain ⟨n, hn⟩ := XW_ext (dT := dT) (a := a) (X := X) (vs := vs)
  have hnk := (hn k).1.trans hk
  have hnl := (List.getElem?_eq_some_iff.mp hnk).1
  have e0 : (XW dT a (X, vs)).set (n + k) (q, .inr (7, d5)) = XW dT a (X, vs) := by
    obtain ⟨h1, h2⟩ := List.getElem?_eq_some_iff.mp hnk
    rw [← h2]
    exact List.set_getElem_self h1
  have hS0 : wSt D (WE (XW dT a (X, vs)) (n + k) q 7) (fun _ => True) A s d5 H locs := ⟨by unfold WE; rw [e0]; exact hS.1, by unfold WE; rw [e0]; exact hS.2.1, hS.2.2.1, trivial⟩
  refine va_callv (wRunI (As := [.int b, .ref x.1]) (mc := 0) (ms := 0) hC (met_X7_init hfl l D dT _ (n + k) q hnl H.size b x.1) q583 q95 q581 q582 rfl ⟨⟨rfl, rfl⟩, hd_X7_init, hR, hf⟩ hA hS0 hl rfl hrest hdg) hS.2.2.1 (fun q _ h => wFree hA hS0 q h) (wFree hA hS0) (fun u t H1 locs1 ht _ hp hB _ _ hS1 => ?_)
  have hS1 := wBack hA hS0 ht hB hS1
  have hP9 := hS1.1
  have hD9 := hS1.2.1
  unfold WE at hP9 hD9
  rw [(hn k).2 _ hlt] at hP9 hD9
  have hkeep := set_keep (c := (q, .inr (7, u))) hk
  have hne : ∀ z ∈ vs0, z ∈ vs.set k (q, .inr (7, u)) := fun z hz => hkeep z (hS.2.2.2.2 z hz) (fun e9 => hf0 z hz (by rw [e9]))
  have hle : ∀ v, X_least X = some v → volC v ∈ vs.set k (q, .inr (7, u)) := fun v hv => hkeep _ (hS.2.2.2.1 v hv) (fun e9 => hfL v hv (congrArg Prod.fst e9))
  exact kk _ H1 locs1 ⟨hP9, hD9, hS1.2.2.1, hle, hne⟩ ⟨u, x.1, hp.1, hp.2, set_here hk, (by obtain ⟨f9, g1, g2⟩ := hx; exact ⟨f9, g1, hkeep _ g2 (fun e9 => by have e8 := congrArg Prod.fst (Sum.inr.inj (congrArg Prod.snd e9)); exact absurd e8 (by decide : ¬ (5 : Nat) = 7))⟩)⟩ hkeep
end
