/-! LeastFrames$Volume(long, long) -/
def WV (base : va_W) (k q : Nat) (w : Int64 × Int64) : va_W := base.set k (q, .inr (6, [.long w.1, .long w.2]))
theorem WV_at {base : va_W} {k q : Nat} (hk : k < base.length) (w : Int64 × Int64) : (WV base k q w)[k]? = some (q, .inr (6, [.long w.1, .long w.2])) := List.getElem?_set_self hk
abbrev v_X6_init (p1 p3 : Int64) (post : Int64 → Int64 → Prop) : Prop := v_X0_part p1 p3 0 (fun r1 => v_X0_part p1 p3 1 (fun r2 => post r1 r2))
abbrev rmX6_init : Room := { frames := rmX0_part.frames + 1, cells := 0, slots := 0, locals := 8 + (5 + 11) + rmX0_part.locals }
set_option maxHeartbeats 4000000 in
set_option maxRecDepth 100000 in
theorem met_X6_init (l : Launch) (D : va_G) (dT : Nat → ClassId) (base : va_W) (k q : Nat) (hk : k < base.length) (sz : Nat) (p1 p3 : Int64) (post : Int64 → Int64 → Prop) (hw : v_X6_init p1 p3 post) : Met l yX6_init (ws_ yX6_init cX6_init 5 none) rmX6_init (wPc D dT (WV base k q) (fun _ => True) sz (0, 0) [.ref q, .long p1, .long p3]) (va_Qv (fun w => post w.1 w.2) (wB D (WV base k q) (fun _ => True) (va_A (WV base k q (0, 0)) sz)) (va_A (WV base k q (0, 0)) sz)) 0 0 (va_A (WV base k q (0, 0)) sz) := by
  refine wEnt (y := yX6_init) (cc := cX6_init) (maxL := 5) (ret := none) (av := [.ref q, .long p1, .long p3]) (Q := fun A => va_Qv (fun w => post w.1 w.2) (wB D (WV base k q) (fun _ => True) A) A) (by decide) (Nat.le_of_ble_eq_true rfl) (fun p e s m below meth c A ls hC hin hA hS hl => ?_) sz
  have hx := hC.1
  have hb := hC.2.1
  have hown := hC.2.2.2.1
  have hts := hC.2.2.2.2.1
  have hl : lv_has ls 5 [(0, .ref q), (1, .long p1), (3, .long p3)] := hl
  generalize hH : s.heap = H at hS ⊢
  have hS : wSt D (WV base k q) (fun _ => True) A s (0, 0) H [] := by rw [← hH] at hS ⊢; exact hS
  refine lv_aload_n hx hb dX6_init_0 rfl (lv_at hl 0 rfl) ?_
  refine W.objInit hx hb hown (hts _ q506) (hts _ q113) (hts _ q114) rfl (by rw [hC.2.2.1]; exact hl.1) rfl dX6_init_1 (Nat.le_of_ble_eq_true rfl) (Nat.le_of_ble_eq_true rfl) ?_
  refine W.eq (g2 := F0 m 4 ls []) rfl ?_
  refine lv_aload_n hx hb dX6_init_4 rfl (lv_at hl 0 rfl) ?_
  refine lv_lload_n hx hb dX6_init_5 rfl (lv_at hl 1 rfl) ?_
  refine lv_lload_n hx hb dX6_init_6 rfl (lv_at hl 2 rfl) ?_
  refine lv_iconst (v := 0) hx hb dX6_init_7 (by decide) ?_
  refine inv_q507 hC hS hl.1 hw ⟨Nat.le_of_ble_eq_true rfl, Nat.le_of_ble_eq_true rfl⟩ (Nat.le_of_ble_eq_true rfl) ⟨Nat.zero_le _, Nat.zero_le _⟩ dX6_init_8 (fun r1 H locs hw hS => ?_)
  refine va_putF (D := D) (ci := 6) (v := .long r1) (ty := .long) (C := RX6) (T := TX6) (N := 2) hx hb hts in_X6 tyX6 tyX6_ok nmX6 hown hC.2.2.2.2.2.2.2.1 hS.1 hS.2.1 hS.2.2.1 k (WV_at hk _) rfl 0 (by decide) (hts _ q514) (fun _ h9 => h9) rfl hin rfl (by decide +kernel) rfl rfl (Nat.le_of_ble_eq_true rfl) dX6_init_11 (fun H locs hP hD hS1 => ?_)
  have hS : wSt D (WV base k q) (fun _ => True) A s ((r1, 0)) H locs := ⟨by unfold WV at hP ⊢; rw [List.set_set] at hP; exact hP, by unfold WV at hD ⊢; rw [List.set_set] at hD; exact hD, hS1, trivial⟩
  refine lv_aload_n hx hb dX6_init_14 rfl (lv_at hl 0 rfl) ?_
  refine lv_lload_n hx hb dX6_init_15 rfl (lv_at hl 1 rfl) ?_
  refine lv_lload_n hx hb dX6_init_16 rfl (lv_at hl 2 rfl) ?_
  refine lv_iconst (v := 1) hx hb dX6_init_17 (by decide) ?_
  refine inv_q507 hC hS hl.1 hw ⟨Nat.le_of_ble_eq_true rfl, Nat.le_of_ble_eq_true rfl⟩ (Nat.le_of_ble_eq_true rfl) ⟨Nat.zero_le _, Nat.zero_le _⟩ dX6_init_18 (fun r2 H locs hw hS => ?_)
  refine va_putF (D := D) (ci := 6) (v := .long r2) (ty := .long) (C := RX6) (T := TX6) (N := 2) hx hb hts in_X6 tyX6 tyX6_ok nmX6 hown hC.2.2.2.2.2.2.2.1 hS.1 hS.2.1 hS.2.2.1 k (WV_at hk _) rfl 1 (by decide) (hts _ q516) (fun _ h9 => h9) rfl hin rfl (by decide +kernel) rfl rfl (Nat.le_of_ble_eq_true rfl) dX6_init_21 (fun H locs hP hD hS1 => ?_)
  have hS : wSt D (WV base k q) (fun _ => True) A s ((r1, r2)) H locs := ⟨by unfold WV at hP ⊢; rw [List.set_set] at hP; exact hP, by unfold WV at hD ⊢; rw [List.set_set] at hD; exact hD, hS1, trivial⟩
  exact wRetv hC hS hw (Nat.le_refl _) (Nat.le_refl _) dX6_init_24
theorem hd_X6_init : yX6_init.cls ≠ "java/lang/invoke/MethodHandle" ∧ yX6_init.cls ≠ "java/lang/invoke/VarHandle" ∧ (parseMethodDescriptor yX6_init.desc).map (fun d => d.parameters.length) = some 2 := by decide +kernel
theorem nw_new_q501 {p : Program} {l : Launch} {e : Env} {R : Room} {s : State} {m : MethodId} {args : Array Value} {below : List Frame} {meth : Method} {c : Code} {H : Heap} {locs : List Loc} {cells slots : Nat} {Q : State → Prop} {cc : ByteArray} {nL : Nat} {ret : Option FieldType} {pc : Nat} {ls : Array Slot} {rest : List Value} {D : va_G} {dT : Nat → ClassId} {a : Nat → Nat} {A : Nat → Prop} {vs0 vs : XE} {X : XS} (hC : wCx RX0 cc nL ret D dT p s m args meth c) (hA : wAz A s) (hS : StX D dT a A s vs0 X vs H locs) (hf : cells + 1 ≤ R.cells ∧ slots + 2 ≤ R.slots) (hdg : decode cc pc = .ok (.new 81, 3))
    (kk : ∀ (q : Nat) (vs1 : XE) (H1 : Heap), StX D dT a A s vs0 X vs1 H1 locs → (q, .inr (6, [.long 0, .long 0])) ∈ vs1 → (∀ z ∈ vs, z ∈ vs1) → (∀ z ∈ vs0, z.1 ≠ q) → (∀ v, X_least X = some v → v.1 ≠ q) → W p l e R s m args below meth c H1 locs (cells + 1) (slots + 2) Q (F0 m (pc + 3) ls (.ref q :: rest))) : W p l e R s m args below meth c H locs cells slots Q (F0 m pc ls rest) :=
  xNew (C := RX6) (T := TX6) (N := 2) (ci := 6) (fs := [.long 0, .long 0]) hC hA hS in_X6 tyX6 tyX6_ok q501 q502 q94 rfl (fun j hj => by rcases (show j = 0 ∨ j = 1 by omega) with rfl | rfl <;> rfl) hf hdg kk
theorem nw_new_q647 {p : Program} {l : Launch} {e : Env} {R : Room} {s : State} {m : MethodId} {args : Array Value} {below : List Frame} {meth : Method} {c : Code} {H : Heap} {locs : List Loc} {cells slots : Nat} {Q : State → Prop} {cc : ByteArray} {nL : Nat} {ret : Option FieldType} {pc : Nat} {ls : Array Slot} {rest : List Value} {D : va_G} {dT : Nat → ClassId} {a : Nat → Nat} {A : Nat → Prop} {vs0 vs : XE} {X : XS} (hC : wCx RX6 cc nL ret D dT p s m args meth c) (hA : wAz A s) (hS : StX D dT a A s vs0 X vs H locs) (hf : cells + 1 ≤ R.cells ∧ slots + 2 ≤ R.slots) (hdg : decode cc pc = .ok (.new 14, 3))
    (kk : ∀ (q : Nat) (vs1 : XE) (H1 : Heap), StX D dT a A s vs0 X vs1 H1 locs → (q, .inr (6, [.long 0, .long 0])) ∈ vs1 → (∀ z ∈ vs, z ∈ vs1) → (∀ z ∈ vs0, z.1 ≠ q) → (∀ v, X_least X = some v → v.1 ≠ q) → W p l e R s m args below meth c H1 locs (cells + 1) (slots + 2) Q (F0 m (pc + 3) ls (.ref q :: rest))) : W p l e R s m args below meth c H locs cells slots Q (F0 m pc ls rest) :=
  xNew (C := RX6) (T := TX6) (N := 2) (ci := 6) (fs := [.long 0, .long 0]) hC hA hS in_X6 tyX6 tyX6_ok q647 q502 q94 rfl (fun j hj => by rcases (show j = 0 ∨ j = 1 by omega) with rfl | rfl <;> rfl) hf hdg kk
section
variable {p : Program} {l : Launch} {e : Env} {R : Room} {s : State} {m : MethodId} {args : Array Value} {below : List Frame} {meth : Method} {c : Code} {H : Heap} {locs : List Loc} {cells slots : Nat} {Q : State → Prop} {cc : ByteArray} {nL : Nat} {ret : Option FieldType} {pc : Nat} {ls : Array Slot} {rest : List Value}
variable {D : va_G} {dT : Nat → ClassId} {a : Nat → Nat} {A : Nat → Prop} {vs0 vs : XE} {X : XS} {q : Nat}
set_option maxHeartbeats 4000000 in
set_option maxRecDepth 100000 in
theorem mk_q503 {p1 p3 : Int64} {post : Int64 → Int64 → Prop} (hC : wCx RX0 cc nL ret D dT p s m args meth c) (hA : wAz A s) (hS : StX D dT a A s vs0 X vs H locs) (hraw : (q, .inr (6, [.long 0, .long 0])) ∈ vs) (hfL : ∀ v, X_least X = some v → v.1 ≠ q) (hf0 : ∀ z ∈ vs0, z.1 ≠ q) (hl : ls.size = nL) (hw : v_X6_init p1 p3 post) (hR : rmX6_init.frames + 1 ≤ R.frames ∧ 8 + (5 + 11) + rmX6_init.locals ≤ R.locals) (hrest : (rest.map fun v => v.category).sum ≤ 8) (hf : cells ≤ R.cells ∧ slots ≤ R.slots) (hdg : decode cc pc = .ok (.invokespecial 87, 3)) (kk : ∀ (r1 r2 : Int64) (vs1 : XE) (H1 : Heap) (locs1 : List Loc), post r1 r2 → StX D dT a A s vs0 X vs1 H1 locs1 → volC (q, r1, r2) ∈ vs1 → (∀ z ∈ vs, z ≠ (q, .inr (6, [.long 0, .long 0])) → z ∈ vs1) → W p l e R s m args below meth c H1 locs1 cells slots Q (F0 m (pc + 3) ls (rest))) : W p l e R s m args below meth c H locs cells slots Q (F0 m pc ls (.long p3 :: .long p1 :: .ref q :: rest)) := by
  obtain ⟨k, hk⟩ := List.getElem?_of_mem hraw
  have hlt := (List.getElem?_eq_some_iff.mp hk).1
  obtain ⟨n, hn⟩ := XW_ext (dT := dT) (a := a) (X := X) (vs := vs)
  have hnk := (hn k).1.trans hk
  have hnl := (List.getElem?_eq_some_iff.mp hnk).1
  have e0 : (XW dT a (X, vs)).set (n + k) (q, .inr (6, [.long 0, .long 0])) = XW dT a (X, vs) := by
    obtain ⟨h1, h2⟩ := List.getElem?_eq_some_iff.mp hnk
    rw [← h2]
    exact List.set_getElem_self h1
  have hS0 : wSt D (WV (XW dT a (X, vs)) (n + k) q) (fun _ => True) A s (0, 0) H locs := ⟨by unfold WV; rw [e0]; exact hS.1, by unfold WV; rw [e0]; exact hS.2.1, hS.2.2.1, trivial⟩
  refine va_callv (wRunI (As := [.long p1, .long p3]) (mc := 0) (ms := 0) hC (met_X6_init l D dT _ (n + k) q hnl H.size p1 p3 post hw) q505 q94 q503 q504 rfl ⟨⟨rfl, rfl⟩, hd_X6_init, hR, hf⟩ hA hS0 hl rfl hrest hdg) hS.2.2.1 (fun q _ h => wFree hA hS0 q h) (wFree hA hS0) (fun u t H1 locs1 ht _ hp hB _ _ hS1 => ?_)
  have hS1 := wBack hA hS0 ht hB hS1
  obtain ⟨r1, r2⟩ := u
  have hP9 := hS1.1
  have hD9 := hS1.2.1
  unfold WV at hP9 hD9
  rw [(hn k).2 _ hlt] at hP9 hD9
  have hkeep := set_keep (c := (q, .inr (6, [.long r1, .long r2]))) hk
  have hne : ∀ z ∈ vs0, z ∈ vs.set k (q, .inr (6, [.long r1, .long r2])) := fun z hz => hkeep z (hS.2.2.2.2 z hz) (fun e9 => hf0 z hz (by rw [e9]))
  have hle : ∀ v, X_least X = some v → volC v ∈ vs.set k (q, .inr (6, [.long r1, .long r2])) := fun v hv => hkeep _ (hS.2.2.2.1 v hv) (fun e9 => hfL v hv (congrArg Prod.fst e9))
  exact kk r1 r2 _ H1 locs1 hp ⟨hP9, hD9, hS1.2.2.1, hle, hne⟩ (set_here hk) hkeep
end
section
variable {p : Program} {l : Launch} {e : Env} {R : Room} {s : State} {m : MethodId} {args : Array Value} {below : List Frame} {meth : Method} {c : Code} {H : Heap} {locs : List Loc} {cells slots : Nat} {Q : State → Prop} {cc : ByteArray} {nL : Nat} {ret : Option FieldType} {pc : Nat} {ls : Array Slot} {rest : List Value}
variable {D : va_G} {dT : Nat → ClassId} {a : Nat → Nat} {A : Nat → Prop} {vs0 vs : XE} {X : XS} {q : Nat}
set_option maxHeartbeats 4000000 in
set_option maxRecDepth 100000 in
theorem mk_q648 {p1 p3 : Int64} {post : Int64 → Int64 → Prop} (hC : wCx RX6 cc nL ret D dT p s m args meth c) (hA : wAz A s) (hS : StX D dT a A s vs0 X vs H locs) (hraw : (q, .inr (6, [.long 0, .long 0])) ∈ vs) (hfL : ∀ v, X_least X = some v → v.1 ≠ q) (hf0 : ∀ z ∈ vs0, z.1 ≠ q) (hl : ls.size = nL) (hw : v_X6_init p1 p3 post) (hR : rmX6_init.frames + 1 ≤ R.frames ∧ 8 + (5 + 11) + rmX6_init.locals ≤ R.locals) (hrest : (rest.map fun v => v.category).sum ≤ 8) (hf : cells ≤ R.cells ∧ slots ≤ R.slots) (hdg : decode cc pc = .ok (.invokespecial 22, 3)) (kk : ∀ (r1 r2 : Int64) (vs1 : XE) (H1 : Heap) (locs1 : List Loc), post r1 r2 → StX D dT a A s vs0 X vs1 H1 locs1 → volC (q, r1, r2) ∈ vs1 → (∀ z ∈ vs, z ≠ (q, .inr (6, [.long 0, .long 0])) → z ∈ vs1) → W p l e R s m args below meth c H1 locs1 cells slots Q (F0 m (pc + 3) ls (rest))) : W p l e R s m args below meth c H locs cells slots Q (F0 m pc ls (.long p3 :: .long p1 :: .ref q :: rest)) := by
  obtain ⟨k, hk⟩ := List.getElem?_of_mem hraw
  have hlt := (List.getElem?_eq_some_iff.mp hk).1
  obtain ⟨n, hn⟩ := XW_ext (dT := dT) (a := a) (X := X) (vs := vs)
  have hnk := (hn k).1.trans hk
  have hnl := (List.getElem?_eq_some_iff.mp hnk).1
  have e0 : (XW dT a (X, vs)).set (n + k) (q, .inr (6, [.long 0, .long 0])) = XW dT a (X, vs) := by
    obtain ⟨h1, h2⟩ := List.getElem?_eq_some_iff.mp hnk
    rw [← h2]
    exact List.set_getElem_self h1
  have hS0 : wSt D (WV (XW dT a (X, vs)) (n + k) q) (fun _ => True) A s (0, 0) H locs := ⟨by unfold WV; rw [e0]; exact hS.1, by unfold WV; rw [e0]; exact hS.2.1, hS.2.2.1, trivial⟩
  refine va_callv (wRunI (As := [.long p1, .long p3]) (mc := 0) (ms := 0) hC (met_X6_init l D dT _ (n + k) q hnl H.size p1 p3 post hw) q505 q94 q648 q504 rfl ⟨⟨rfl, rfl⟩, hd_X6_init, hR, hf⟩ hA hS0 hl rfl hrest hdg) hS.2.2.1 (fun q _ h => wFree hA hS0 q h) (wFree hA hS0) (fun u t H1 locs1 ht _ hp hB _ _ hS1 => ?_)
  have hS1 := wBack hA hS0 ht hB hS1
  obtain ⟨r1, r2⟩ := u
  have hP9 := hS1.1
  have hD9 := hS1.2.1
  unfold WV at hP9 hD9
  rw [(hn k).2 _ hlt] at hP9 hD9
  have hkeep := set_keep (c := (q, .inr (6, [.long r1, .long r2]))) hk
  have hne : ∀ z ∈ vs0, z ∈ vs.set k (q, .inr (6, [.long r1, .long r2])) := fun z hz => hkeep z (hS.2.2.2.2 z hz) (fun e9 => hf0 z hz (by rw [e9]))
  have hle : ∀ v, X_least X = some v → volC v ∈ vs.set k (q, .inr (6, [.long r1, .long r2])) := fun v hv => hkeep _ (hS.2.2.2.1 v hv) (fun e9 => hfL v hv (congrArg Prod.fst e9))
  exact kk r1 r2 _ H1 locs1 hp ⟨hP9, hD9, hS1.2.2.1, hle, hne⟩ (set_here hk) hkeep
end
/-! a new exception, not of the world yet -/
def FQ (D : va_G) (dT : Nat → ClassId) (a : Nat → Nat) (X : XS) (vs : XE) (s : State) (H : Heap) (q ci : Nat) : Prop := s.heap.size ≤ q ∧ (∀ z ∈ XW dT a (X, vs), z.1 ≠ q) ∧ va_at D clL (q, .inr (ci, d5)) H ∧ FM H q
section XFQ
variable {p : Program} {l : Launch} {e : Env} {R : Room} {s : State} {m : MethodId} {args : Array Value} {below : List Frame} {meth : Method} {c : Code} {H : Heap} {locs : List Loc} {cells slots : Nat} {Q : State → Prop}
variable {D : va_G} {dT : Nat → ClassId} {a : Nat → Nat} {A : Nat → Prop} {X : XS} {vs0 vs : XE} {own : String} {cc : ByteArray} {nL : Nat} {ret : Option FieldType} {pc : Nat} {ls : Array Slot} {rest : List Value} {q ci : Nat}
theorem FQ.moved {X1 : XS} {vs1 : XE} {H1 : Heap} (h : FQ D dT a X vs s H q ci) (hk : ∀ y : Nat, y < H.size → ¬ va_A (XW dT a (X, vs)) H.size y → H1[y]? = H[y]?) (hj : ∀ z ∈ XW dT a (X1, vs1), va_A (XW dT a (X, vs)) H.size z.1) : FQ D dT a X1 vs1 s H1 q ci := by
  obtain ⟨h1, h2, h3, cell, h4, h5⟩ := h
  have hlt : q < H.size := h3.lt
  have hna : ¬ va_A (XW dT a (X, vs)) H.size q := by
    rintro (⟨k, e, h9⟩ | h9)
    · exact h2 _ (List.mem_of_getElem? h9) rfl
    · exact absurd h9 (Nat.not_le.mpr hlt)
  have hq := hk q hlt hna
  exact ⟨h1, fun z hz e9 => hna (e9 ▸ hj z hz), h3.kept hq, cell, hq.trans h4, h5⟩
theorem FQ.world (h : FQ D dT a X vs s H q ci) (hA : wAz A s) (hS : StX D dT a A s vs0 X vs H locs) : wSt D (WE (XW dT a (X, vs)) q ci) (fun _ => True) A s d5 H locs := by
  obtain ⟨h1, h2, h3, -⟩ := h
  refine ⟨hS.1.app (fun k z hz => ?_), ⟨fun i j y z hy hz e9 => ?_, fun k z hz => ?_⟩, hS.2.2.1, trivial⟩
  · have hk : k = 0 := by have := (List.getElem?_eq_some_iff.mp hz).1; simp at this; exact this
    subst hk
    cases hz
    exact h3
  · have key : ∀ (k : Nat) (z : Nat × va_E), (WE (XW dT a (X, vs)) q ci d5)[k]? = some z → ((XW dT a (X, vs))[k]? = some z ∧ z.1 ≠ q) ∨ (k = (XW dT a (X, vs)).length ∧ z.1 = q) := by
      intro k z hz
      unfold WE at hz
      by_cases hl : k < (XW dT a (X, vs)).length
      · rw [List.getElem?_append_left hl] at hz
        exact Or.inl ⟨hz, h2 _ (List.mem_of_getElem? hz)⟩
      · rw [List.getElem?_append_right (Nat.not_lt.mp hl)] at hz
        have hk := (List.getElem?_eq_some_iff.mp hz).1
        simp at hk
        have hk0 : k - (XW dT a (X, vs)).length = 0 := by omega
        rw [hk0] at hz
        cases hz
        exact Or.inr ⟨by omega, rfl⟩
    rcases key i y hy with ⟨a1, a2⟩ | ⟨a1, a2⟩ <;> rcases key j z hz with ⟨b1, b2⟩ | ⟨b1, b2⟩
    · exact hS.2.1.1 i j y z a1 b1 e9
    · exact absurd (e9.trans b2) a2
    · exact absurd (e9.symm.trans a2) b2
    · rw [a1, b1]
  · rcases List.mem_append.mp (List.mem_of_getElem? hz) with h9 | h9
    · obtain ⟨i, hi⟩ := List.getElem?_of_mem h9
      exact hS.2.1.2 i z hi
    · rw [List.mem_singleton.mp h9]
      exact hA.1 q h1
theorem xNewF {C : String} {T : u_T} {index : Nat} (hC : wCx own cc nL ret D dT p s m args meth c) (hA : wAz A s) (hS : StX D dT a A s vs0 X vs H locs) (hin : ∀ w ∈ u_ws C T 7, w ∈ lw_all) (ty : Nat → FieldType) (hty : ∀ k, k < 7 → parseFieldDescriptor (T k).2.2.1 = some (ty k)) (hcl : Cond.classLink own index C ∈ lw_all) (hinst : Cond.instantiable C 7 ∈ lw_all) (hini : Cond.initialized C ∈ lw_all) (hc : clL[ci]? = some (C, T, 7)) (hfs : ∀ j, j < 7 → defaultValue (ty j) = vp_V d5 j) (hf : cells + 1 ≤ R.cells ∧ slots + 7 ≤ R.slots) (hdg : decode cc pc = .ok (.new index, 3))
    (kk : ∀ (q : Nat) (H1 : Heap), StX D dT a A s vs0 X vs H1 locs → FQ D dT a X vs s H1 q ci → W p l e R s m args below meth c H1 locs (cells + 1) (slots + 7) Q (F0 m (pc + 3) ls (.ref q :: rest))) : W p l e R s m args below meth c H locs cells slots Q (F0 m pc ls rest) := by
  have hK := hC.2.2.2.2.2.2.2.1
  have hts := hC.2.2.2.2.1
  have hKn := hK.1 ci _ hc
  refine W.newcK hC.1 hC.2.1 hC.2.2.2.1 (hts _ hcl) (hts _ hinst) (hts _ hini) rfl hdg hf.1 hf.2 hKn.2.1 rfl fun H1 kC hkC e1 z1 o1 => ?_
  have hk : ∀ (k : Nat) (x : Nat × va_E), (XW dT a (X, vs))[k]? = some x → H1[x.1]? = H[x.1]? := fun k x hx => o1 x.1 ((hS.1 k x hx).lt)
  refine kk H.size H1 ⟨hS.1.kept hk, hS.2.1, ⟨Nat.le_trans hS.2.2.1.1 (by omega), fun x h1 h2 => (o1 x (Nat.lt_of_lt_of_le h1 hS.2.2.1.1)).trans (hS.2.2.1.2.1 x h1 h2), hS.2.2.1.2.2⟩, hS.2.2.2⟩ ⟨hS.2.2.1.1, fun z hz e9 => ?_, ⟨_, hc, (u_born ty hts hin hKn hkC e1 hty).to hfs⟩, _, e1, rfl, rfl⟩
  obtain ⟨i, hi⟩ := List.getElem?_of_mem hz
  have := (hS.1 i z hi).lt
  omega
end XFQ
section
variable {p : Program} {l : Launch} {e : Env} {R : Room} {s : State} {m : MethodId} {args : Array Value} {below : List Frame} {meth : Method} {c : Code} {H : Heap} {locs : List Loc} {cells slots : Nat} {Q : State → Prop} {cc : ByteArray} {nL : Nat} {ret : Option FieldType} {pc : Nat} {ls : Array Slot} {rest : List Value}
variable {D : va_G} {dT : Nat → ClassId} {a : Nat → Nat} {A : Nat → Prop} {vs0 vs : XE} {X : XS} {q : Nat}
theorem nwF_q395 (hC : wCx RX2 cc nL ret D dT p s m args meth c) (hA : wAz A s) (hS : StX D dT a A s vs0 X vs H locs) (hf : cells + 1 ≤ R.cells ∧ slots + 7 ≤ R.slots) (hdg : decode cc pc = .ok (.new 106, 3)) (kk : ∀ (q : Nat) (H1 : Heap), StX D dT a A s vs0 X vs H1 locs → FQ D dT a X vs s H1 q 5 → W p l e R s m args below meth c H1 locs (cells + 1) (slots + 7) Q (F0 m (pc + 3) ls (.ref q :: rest))) : W p l e R s m args below meth c H locs cells slots Q (F0 m pc ls rest) :=
  xNewF (C := RX5) (T := TX5) (ci := 5) hC hA hS in_X5 tyX5 tyX5_ok q395 q396 q92 rfl (fun j hj => by rcases (show j = 0 ∨ j = 1 ∨ j = 2 ∨ j = 3 ∨ j = 4 ∨ j = 5 ∨ j = 6 by omega) with rfl | rfl | rfl | rfl | rfl | rfl | rfl <;> rfl) hf hdg kk
theorem nwF_q568 (hC : wCx RX0 cc nL ret D dT p s m args meth c) (hA : wAz A s) (hS : StX D dT a A s vs0 X vs H locs) (hf : cells + 1 ≤ R.cells ∧ slots + 7 ≤ R.slots) (hdg : decode cc pc = .ok (.new 226, 3)) (kk : ∀ (q : Nat) (H1 : Heap), StX D dT a A s vs0 X vs H1 locs → FQ D dT a X vs s H1 q 7 → W p l e R s m args below meth c H1 locs (cells + 1) (slots + 7) Q (F0 m (pc + 3) ls (.ref q :: rest))) : W p l e R s m args below meth c H locs cells slots Q (F0 m pc ls rest) :=
  xNewF (C := RX7) (T := TX7) (ci := 7) hC hA hS in_X7 tyX7 tyX7_ok q568 q573 q95 rfl (fun j hj => by rcases (show j = 0 ∨ j = 1 ∨ j = 2 ∨ j = 3 ∨ j = 4 ∨ j = 5 ∨ j = 6 by omega) with rfl | rfl | rfl | rfl | rfl | rfl | rfl <;> rfl) hf hdg kk
theorem mkF_q456 {w : Int32} (hfl : l.stackTraces = false) (hC : wCx RX2 cc nL ret D dT p s m args meth c) (hA : wAz A s) (hS : StX D dT a A s vs0 X vs H locs) (hq : FQ D dT a X vs s H q 5) (hl : ls.size = nL) (hR : rmX5_init.frames + 1 ≤ R.frames ∧ 8 + (2 + 11) + rmX5_init.locals ≤ R.locals) (hrest : (rest.map fun v => v.category).sum ≤ 8) (hf : cells ≤ R.cells ∧ slots ≤ R.slots) (hdg : decode cc pc = .ok (.invokespecial 111, 3))
    (kk : ∀ (vs1 : XE) (H1 : Heap) (locs1 : List Loc), StX D dT a A s vs0 X vs1 H1 locs1 → isUnb (q, w) vs1 → (∀ z ∈ vs, z ∈ vs1) → FM H1 q → W p l e R s m args below meth c H1 locs1 cells slots Q (F0 m (pc + 3) ls rest)) : W p l e R s m args below meth c H locs cells slots Q (F0 m pc ls (.int w :: .ref q :: rest)) := by
  refine mCall (As := [.int w]) hC hA (hq.world hA hS) hq.2.2.2 (met_X5_init hfl D dT _ q H.size w) q458 q92 q456 q457 rfl ⟨⟨rfl, rfl⟩, hd_X5_init, hR, hf⟩ hl rfl hrest hdg (fun fs H1 locs1 hp hS1 hM1 => ?_)
  have e9 : WE (XW dT a (X, vs)) q 5 fs = XW dT a (X, vs ++ [(q, .inr (5, fs))]) := XW_push
  have g1 := hS1.1
  have g2 := hS1.2.1
  rw [e9] at g1 g2
  have hm : (q, Sum.inr (5, fs)) ∈ vs ++ [(q, .inr (5, fs))] := List.mem_append_right _ (List.mem_singleton.mpr rfl)
  exact kk (vs ++ [(q, .inr (5, fs))]) H1 locs1 ⟨g1, g2, hS1.2.2.1, fun v hv => List.mem_append_left _ (hS.2.2.2.1 v hv), fun v hv => List.mem_append_left _ (hS.2.2.2.2 v hv)⟩ ⟨fs, hp, hm⟩ (fun z hz => List.mem_append_left _ hz) hM1
theorem mkF_q581 {b : Int32} {x : Exn} (hfl : l.stackTraces = false) (hC : wCx RX0 cc nL ret D dT p s m args meth c) (hA : wAz A s) (hS : StX D dT a A s vs0 X vs H locs) (hq : FQ D dT a X vs s H q 7) (hx : isUnb x vs) (hl : ls.size = nL) (hR : rmX7_init.frames + 1 ≤ R.frames ∧ 8 + (3 + 11) + rmX7_init.locals ≤ R.locals) (hrest : (rest.map fun v => v.category).sum ≤ 8) (hf : cells ≤ R.cells ∧ slots ≤ R.slots) (hdg : decode cc pc = .ok (.invokespecial 228, 3))
    (kk : ∀ (vs1 : XE) (H1 : Heap) (locs1 : List Loc), StX D dT a A s vs0 X vs1 H1 locs1 → isUnt (q, b, x.2) vs1 → (∀ z ∈ vs, z ∈ vs1) → FM H1 q → W p l e R s m args below meth c H1 locs1 cells slots Q (F0 m (pc + 3) ls rest)) : W p l e R s m args below meth c H locs cells slots Q (F0 m pc ls (.ref x.1 :: .int b :: .ref q :: rest)) := by
  refine mCall (As := [.int b, .ref x.1]) hC hA (hq.world hA hS) hq.2.2.2 (met_X7_init hfl D dT _ q H.size b x.1) q583 q95 q581 q582 rfl ⟨⟨rfl, rfl⟩, hd_X7_init, hR, hf⟩ hl rfl hrest hdg (fun fs H1 locs1 hp hS1 hM1 => ?_)
  have e9 : WE (XW dT a (X, vs)) q 7 fs = XW dT a (X, vs ++ [(q, .inr (7, fs))]) := XW_push
  have g1 := hS1.1
  have g2 := hS1.2.1
  rw [e9] at g1 g2
  have hm : (q, Sum.inr (7, fs)) ∈ vs ++ [(q, .inr (7, fs))] := List.mem_append_right _ (List.mem_singleton.mpr rfl)
  exact kk (vs ++ [(q, .inr (7, fs))]) H1 locs1 ⟨g1, g2, hS1.2.2.1, fun v hv => List.mem_append_left _ (hS.2.2.2.1 v hv), fun v hv => List.mem_append_left _ (hS.2.2.2.2 v hv)⟩ ⟨fs, x.1, hp.1, hp.2, hm, hx.mono (fun z hz => List.mem_append_left _ hz)⟩ (fun z hz => List.mem_append_left _ hz) hM1
theorem invF_q452 {p1 : Int32} {post : Int32 → XS → Prop} (hC : wCx RX2 cc nL ret D dT p s m args meth c) (hA : wAz A s) (hS : StX D dT a A s vs0 X vs H locs) (hl : ls.size = nL) (hw : v_X2_fault X p1 post) (hR : rmX2_fault.frames + 1 ≤ R.frames ∧ 8 + (3 + 11) + rmX2_fault.locals ≤ R.locals) (hrest : (rest.map fun v => v.category).sum ≤ 8) (hf : cells ≤ R.cells ∧ slots ≤ R.slots) (hdg : decode cc pc = .ok (.invokevirtual 108, 3))
    (kk : ∀ (r : Int32) (X1 : XS) (vs1 : XE) (H1 : Heap) (locs1 : List Loc), post r X1 → (∀ v ∈ vs, v ∈ vs1) → StX D dT a A s vs0 X1 vs1 H1 locs1 → (∀ y : Nat, y < H.size → ¬ va_A (XW dT a (X, vs)) H.size y → H1[y]? = H[y]?) → (∀ z ∈ XW dT a (X1, vs1), va_A (XW dT a (X, vs)) H.size z.1) → W p l e R s m args below meth c H1 locs1 cells slots Q (F0 m (pc + 3) ls (.int r :: rest))) : W p l e R s m args below meth c H locs cells slots Q (F0 m pc ls (.int p1 :: .ref (a 22) :: rest)) :=
  va_calli (wRunV (As := [.int p1]) (rest := rest) (mc := 0) (ms := 0) 22 hC (met_X2_fault l D dT a H.size X vs p1 post hw) (lw_V q452 q454 qs16 q87 q455) ⟨⟨rfl, rfl⟩, hd_X2_fault, hR, hf⟩ XW_22 rfl rfl hA hS.self hl rfl hrest hdg) hS.2.2.1 (fun q _ h => wFree hA hS.self q h) (wFree hA hS.self) (fun r u t H1 locs1 ht _ hp hB _ hk hS1 =>
    kk r u.1 u.2 H1 locs1 hp (wBack hA hS.self ht hB hS1).2.2.2.2 (hS.back (wBack hA hS.self ht hB hS1)) hk (fun z hz => by obtain ⟨i, hi⟩ := List.getElem?_of_mem hz; exact hB.2.1.2 i z hi))
end
section
variable {p : Program} {l : Launch} {e : Env} {R : Room} {s : State} {m : MethodId} {args : Array Value} {below : List Frame} {meth : Method} {c : Code} {H : Heap} {locs : List Loc} {cells slots : Nat} {Q : State → Prop} {cc : ByteArray} {nL : Nat} {ret : Option FieldType} {pc : Nat} {ls : Array Slot} {rest : List Value}
variable {D : va_G} {dT : Nat → ClassId} {a : Nat → Nat} {A : Nat → Prop} {vs0 vs : XE} {X : XS} {q : Nat}
theorem xGetCause {x : Exu} (hC : wCx RX7 cc nL ret D dT p s m args meth c) (hA : wAz A s) (hS : StX D dT a A s vs0 X vs H locs) (hx : isUnt x vs) (hM : FM H x.1) (hsize : ls.size = nL) (hrest : (rest.map fun v => v.category).sum ≤ 8) (hR : 2 ≤ R.frames ∧ 40 ≤ R.locals) (hdg : decode cc pc = .ok (.invokevirtual 15, 3))
    (kk : ∀ q1 : Nat, isUnb (q1, x.2.2) vs → W p l e R s m args below meth c H locs cells slots Q (F0 m (pc + 3) ls (.ref q1 :: rest))) : W p l e R s m args below meth c H locs cells slots Q (F0 m pc ls (.ref x.1 :: rest)) := by
  intro T0 hT0 X0
  subst hT0
  have hts := hC.2.2.2.2.1
  have hK := hC.2.2.2.2.2.2.2.1
  obtain ⟨fs, q1, h1, h0, h2, h3⟩ := hx
  obtain ⟨fs1, h31, h32⟩ := id h3
  obtain ⟨k9, hk9⟩ := List.getElem?_of_mem h2
  obtain ⟨k8, hk8⟩ := List.getElem?_of_mem h32
  obtain ⟨n9, hn9⟩ := XW_ext (dT := dT) (a := a) (X := X) (vs := vs)
  have hne : q1 ≠ x.1 := fun e9 => by
    have h5 := hS.2.1.1 _ _ _ _ ((hn9 k8).1.trans hk8) ((hn9 k9).1.trans hk9) e9
    have h6 := ((hn9 k8).1.trans hk8).symm.trans ((congrArg (fun i => (XW dT a (X, vs))[i]?) h5).trans ((hn9 k9).1.trans hk9))
    have h7 := congrArg Prod.fst (Sum.inr.inj (congrArg Prod.snd (Option.some.inj h6)))
    exact absurd h7 (by decide : ¬ (5 : Nat) = 7)
  obtain ⟨r, hr1, cell, q1', q2, q3, q4⟩ := hS.1 _ _ ((hn9 k9).1.trans hk9)
  have hr : r = (RX7, TX7, 7) := Option.some.inj (hr1.symm.trans rfl)
  subst hr
  obtain ⟨hSl, hfc, kC, hkC, hkind⟩ := hK.1 7 _ rfl
  obtain ⟨cM, m1, m2, m3⟩ := hM
  have hq1 : T0.heap[x.1]? = some cell := q1'
  cases m1.symm.trans hq1
  have howns : e.platform.frameOwnsMonitors = true := by rw [X0.admits.platform]
  have hfin : e.platform.finalization = false := by rw [X0.admits.platform]
  have hpl : e.platform.magicAccessors = ({} : Platform).magicAccessors := by rw [X0.admits.platform]
  obtain ⟨T, Z, L, LZ, Y⟩ := ThrowableC.of_atoms (args := args) howns hfin hpl (xThrowAtoms hts hA)
  have hcls : s.vm.findClass RX7 = some cell.cls := by rw [q2]; exact hfc
  have hcau : cell.slots[T.fCause.slot]? = some (.ref q1) := by
    obtain ⟨cf', kf', fi', f', hf', hsl⟩ := hSl 0 (by decide)
    have hf' : s.fieldFound? Bundle.tN "cause" "Ljava/lang/Throwable;" = some (cf', kf', fi', f') := hf'
    cases Y.cause.symm.trans hf'
    have h7 := q4 0 (by decide)
    rw [← hsl] at h7
    rw [h7]
    show some (fs.getD 0 .null) = _
    rw [List.getD_eq_getElem?_getD, h0]; rfl
  have hdec := va_Nw.use (A := args) rfl (hC.2.2.2.2.2.2.2.2.1 _ nw_q610)
  obtain ⟨r0, r9, hn, hrm, hstR, hsigR⟩ := Cond.declares_spec hdec
  obtain ⟨cn, ck, r1, hcn, hck, hni, hf, hn1⟩ := Cond.sameMethod_found (hts _ q609)
  cases hn.symm.trans hn1
  obtain ⟨mk, methM, hnamed, hmethM, -, habM⟩ := Cond.instanceMethod_spec (hts _ q612)
  obtain ⟨c2, r2, m9, z1, z2, z3, z4, kP, hkP, hkPi⟩ := Cond.selects_spec (hts _ q611)
  cases hcls.symm.trans z1
  cases hf.symm.trans z2
  cases hnamed.symm.trans z3
  have hselP : selectMethod e.platform s.vm cell.cls r0 = .method mk := by rw [Launch.admits_selectMethod X0.admits]; exact z4
  obtain ⟨vm₁, X₁, hstep₁⟩ := X0.invokevirtualUp hC.1 hC.2.2.2.1 (hts _ q608) (hts _ q609) (by decide) hn hrm hstR (a := x.1) (cell := cell) hq1
    (fun z h => by rw [q3] at h; cases h) hselP hmethM habM hkP hkPi (g := F0 m pc ls (.ref x.1 :: rest)) rfl (argsL := []) (rest := rest) (by
      rw [show parseMethodDescriptor "()Ljava/lang/Throwable;" = some ⟨[], some (.object "java/lang/Throwable")⟩ from by decide +kernel] at hsigR; rw [← Option.some.inj hsigR]; rfl) rfl (by rw [hC.2.1]; exact hdg)
  obtain ⟨v, ⟨U6, L6, c6, n6⟩, X6, ⟨hv6, hH6, hL6, hc6, hn6⟩, hsteps⟩ := gcOff (l := l) (R := R) (W9 := 8) (sargs := args) (len := 3) hC.1 T L Y.found (hts _ q613) (hts _ q612) hne (fun _ => by rw [q3]; simp) (by rw [q3]; simp) m2 m3 hcau (by omega) (by omega)
    m meth c ⟨T0.setVm vm₁, locs, cells, slots⟩ (F0 m pc ls rest) (.invokevirtual 15) mk (Value.ref x.1 :: []).toArray X₁ rfl (hsize.trans hC.2.2.1.symm) (by rw [hC.2.1]; exact hdg) (by show 2 * 0 + (rest.map fun v => v.category).sum ≤ 8; omega) (X₁.named hnamed) ⟨rfl, hq1⟩
  dsimp only [Pt.U, Pt.locs, Pt.cells, Pt.slots] at X6 hH6 hL6 hc6 hn6 hsteps
  subst hv6 hL6 hc6 hn6
  obtain ⟨t, a1, b1⟩ := kk q1 h3 U6 hH6 X6
  exact ⟨t, hstep₁ _ (fun acts => by rw [doInvoke_state]; exact hsteps.trans a1), b1⟩
end
