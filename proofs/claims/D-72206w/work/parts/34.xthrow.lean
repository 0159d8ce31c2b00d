/-! CALLS of methods that make cells, throw or catch -/
section XTHROW
variable {p : Program} {l : Launch} {e : Env} {R : Room} {s : State} {m : MethodId} {args : Array Value} {below : List Frame} {meth : Method} {c : Code} {H : Heap} {locs : List Loc} {cells slots : Nat} {Q : State → Prop}
variable {D : va_G} {dT : Nat → ClassId} {a : Nat → Nat} {A : Nat → Prop} {X : XS} {vs0 vs : XE} {own : String} {cc : ByteArray} {nL : Nat} {ret : Option FieldType} {pc : Nat} {ls : Array Slot} {st0 rest : List Value} {mc ms : Nat} {av : Array Value}
theorem isUnb.keep {e : Exn} {es es' : XE} {r : Nat × va_E} (h : isUnb e es) (hne : e.1 ≠ r.1) (hk : ∀ z ∈ es, z ≠ r → z ∈ es') : isUnb e es' := by
  obtain ⟨fs, h1, h2⟩ := h
  exact ⟨fs, h1, hk _ h2 (fun e9 => hne (congrArg Prod.fst e9))⟩
theorem xNi {post : Int32 → XS → Prop} (hA : wAz A s) (hS : StX D dT a A s vs0 X vs H locs) (hr : va_Run p l e R s m args below meth c H locs cells slots mc ms (F0 m pc ls st0) rest (va_Qi (fun r u9 => post r u9.1) (wB D (XW dT a) (XI vs) (va_A (XW dT a (X, vs)) H.size)) (va_A (XW dT a (X, vs)) H.size) av) (va_A (XW dT a (X, vs)) H.size)) (kk : ∀ (r : Int32) (X1 : XS) (vs1 : XE) (H1 : Heap) (locs1 : List Loc), post r X1 → (∀ v ∈ vs, v ∈ vs1) → StX D dT a A s vs0 X1 vs1 H1 locs1 → W p l e R s m args below meth c H1 locs1 (cells + mc) (slots + ms) Q (F0 m (pc + 3) ls (.int r :: rest))) : W p l e R s m args below meth c H locs cells slots Q (F0 m pc ls st0) :=
  va_calli hr hS.2.2.1 (fun q _ h => wFree hA hS.self q h) (wFree hA hS.self) (fun r u t H1 locs1 ht _ hp hB _ _ hS1 => kk r u.1 u.2 H1 locs1 hp (wBack hA hS.self ht hB hS1).2.2.2.2 (hS.back (wBack hA hS.self ht hB hS1)))
theorem xTi {α : Type} {nm : String} {ad : α → Nat} {P : α → XE → Heap → Prop} {post : Int32 → XS → Prop} {postX : α → XS → Prop} (hA : wAz A s) (hS : StX D dT a A s vs0 X vs H locs) (hr : vx_Run p l e R s m args below meth c H locs cells slots mc ms (F0 m pc ls st0) rest (va_Qi (fun r u9 => post r u9.1) (wB D (XW dT a) (XI vs) (va_A (XW dT a (X, vs)) H.size)) (va_A (XW dT a (X, vs)) H.size) av) (XCG D dT a nm ad P vs postX (va_A (XW dT a (X, vs)) H.size)) (va_A (XW dT a (X, vs)) H.size)) (kx : ∀ (x : α) (X1 : XS) (vs1 : XE) (H1 : Heap) (locs1 : List Loc), postX x X1 → (∀ v ∈ vs, v ∈ vs1) → StX D dT a A s vs0 X1 vs1 H1 locs1 → P x vs1 H1 → vx_W p l e R s m args below meth c H1 locs1 (cells + mc) (slots + ms) Q (F0 m pc ls rest) (ad x)) (kk : ∀ (r : Int32) (X1 : XS) (vs1 : XE) (H1 : Heap) (locs1 : List Loc), post r X1 → (∀ v ∈ vs, v ∈ vs1) → StX D dT a A s vs0 X1 vs1 H1 locs1 → W p l e R s m args below meth c H1 locs1 (cells + mc) (slots + ms) Q (F0 m (pc + 3) ls (.int r :: rest))) : W p l e R s m args below meth c H locs cells slots Q (F0 m pc ls st0) :=
  vx_calli hr hS.2.2.1 (fun q _ h => wFree hA hS.self q h) (wFree hA hS.self) (fun q _ h => wFree hA hS.self q h) (fun E9 ce q9 u t H1 locs1 ht _ hp hB _ _ hS1 _ _ _ => by
    obtain ⟨h0, h1, h2, h3⟩ := hB
    have h9 := wBack hA hS.self ht h3 hS1
    subst h1
    exact kx u.2 u.1.1 u.1.2 H1 locs1 hp h9.2.2.2.2 (hS.back h9) (by rw [← ht]; exact h2)) (fun r u t H1 locs1 ht _ hp hB _ _ hS1 => kk r u.1 u.2 H1 locs1 hp (wBack hA hS.self ht hB hS1).2.2.2.2 (hS.back (wBack hA hS.self ht hB hS1)))
theorem xNl {post : Int64 → XS → Prop} (hA : wAz A s) (hS : StX D dT a A s vs0 X vs H locs) (hr : va_Run p l e R s m args below meth c H locs cells slots mc ms (F0 m pc ls st0) rest (va_Ql (fun r u9 => post r u9.1) (wB D (XW dT a) (XI vs) (va_A (XW dT a (X, vs)) H.size)) (va_A (XW dT a (X, vs)) H.size) av) (va_A (XW dT a (X, vs)) H.size)) (kk : ∀ (r : Int64) (X1 : XS) (vs1 : XE) (H1 : Heap) (locs1 : List Loc), post r X1 → (∀ v ∈ vs, v ∈ vs1) → StX D dT a A s vs0 X1 vs1 H1 locs1 → W p l e R s m args below meth c H1 locs1 (cells + mc) (slots + ms) Q (F0 m (pc + 3) ls (.long r :: rest))) : W p l e R s m args below meth c H locs cells slots Q (F0 m pc ls st0) :=
  va_calll hr hS.2.2.1 (fun q _ h => wFree hA hS.self q h) (wFree hA hS.self) (fun r u t H1 locs1 ht _ hp hB _ _ hS1 => kk r u.1 u.2 H1 locs1 hp (wBack hA hS.self ht hB hS1).2.2.2.2 (hS.back (wBack hA hS.self ht hB hS1)))
theorem xTl {α : Type} {nm : String} {ad : α → Nat} {P : α → XE → Heap → Prop} {post : Int64 → XS → Prop} {postX : α → XS → Prop} (hA : wAz A s) (hS : StX D dT a A s vs0 X vs H locs) (hr : vx_Run p l e R s m args below meth c H locs cells slots mc ms (F0 m pc ls st0) rest (va_Ql (fun r u9 => post r u9.1) (wB D (XW dT a) (XI vs) (va_A (XW dT a (X, vs)) H.size)) (va_A (XW dT a (X, vs)) H.size) av) (XCG D dT a nm ad P vs postX (va_A (XW dT a (X, vs)) H.size)) (va_A (XW dT a (X, vs)) H.size)) (kx : ∀ (x : α) (X1 : XS) (vs1 : XE) (H1 : Heap) (locs1 : List Loc), postX x X1 → (∀ v ∈ vs, v ∈ vs1) → StX D dT a A s vs0 X1 vs1 H1 locs1 → P x vs1 H1 → vx_W p l e R s m args below meth c H1 locs1 (cells + mc) (slots + ms) Q (F0 m pc ls rest) (ad x)) (kk : ∀ (r : Int64) (X1 : XS) (vs1 : XE) (H1 : Heap) (locs1 : List Loc), post r X1 → (∀ v ∈ vs, v ∈ vs1) → StX D dT a A s vs0 X1 vs1 H1 locs1 → W p l e R s m args below meth c H1 locs1 (cells + mc) (slots + ms) Q (F0 m (pc + 3) ls (.long r :: rest))) : W p l e R s m args below meth c H locs cells slots Q (F0 m pc ls st0) :=
  vx_calll hr hS.2.2.1 (fun q _ h => wFree hA hS.self q h) (wFree hA hS.self) (fun q _ h => wFree hA hS.self q h) (fun E9 ce q9 u t H1 locs1 ht _ hp hB _ _ hS1 _ _ _ => by
    obtain ⟨h0, h1, h2, h3⟩ := hB
    have h9 := wBack hA hS.self ht h3 hS1
    subst h1
    exact kx u.2 u.1.1 u.1.2 H1 locs1 hp h9.2.2.2.2 (hS.back h9) (by rw [← ht]; exact h2)) (fun r u t H1 locs1 ht _ hp hB _ _ hS1 => kk r u.1 u.2 H1 locs1 hp (wBack hA hS.self ht hB hS1).2.2.2.2 (hS.back (wBack hA hS.self ht hB hS1)))
theorem xNv {post : XS → Prop} (hA : wAz A s) (hS : StX D dT a A s vs0 X vs H locs) (hr : va_Run p l e R s m args below meth c H locs cells slots mc ms (F0 m pc ls st0) rest (va_Qv (fun u9 => post u9.1) (wB D (XW dT a) (XI vs) (va_A (XW dT a (X, vs)) H.size)) (va_A (XW dT a (X, vs)) H.size) av) (va_A (XW dT a (X, vs)) H.size)) (kk : ∀ (X1 : XS) (vs1 : XE) (H1 : Heap) (locs1 : List Loc), post X1 → (∀ v ∈ vs, v ∈ vs1) → StX D dT a A s vs0 X1 vs1 H1 locs1 → W p l e R s m args below meth c H1 locs1 (cells + mc) (slots + ms) Q (F0 m (pc + 3) ls (rest))) : W p l e R s m args below meth c H locs cells slots Q (F0 m pc ls st0) :=
  va_callv hr hS.2.2.1 (fun q _ h => wFree hA hS.self q h) (wFree hA hS.self) (fun u t H1 locs1 ht _ hp hB _ _ hS1 => kk u.1 u.2 H1 locs1 hp (wBack hA hS.self ht hB hS1).2.2.2.2 (hS.back (wBack hA hS.self ht hB hS1)))
theorem xTv {α : Type} {nm : String} {ad : α → Nat} {P : α → XE → Heap → Prop} {post : XS → Prop} {postX : α → XS → Prop} (hA : wAz A s) (hS : StX D dT a A s vs0 X vs H locs) (hr : vx_Run p l e R s m args below meth c H locs cells slots mc ms (F0 m pc ls st0) rest (va_Qv (fun u9 => post u9.1) (wB D (XW dT a) (XI vs) (va_A (XW dT a (X, vs)) H.size)) (va_A (XW dT a (X, vs)) H.size) av) (XCG D dT a nm ad P vs postX (va_A (XW dT a (X, vs)) H.size)) (va_A (XW dT a (X, vs)) H.size)) (kx : ∀ (x : α) (X1 : XS) (vs1 : XE) (H1 : Heap) (locs1 : List Loc), postX x X1 → (∀ v ∈ vs, v ∈ vs1) → StX D dT a A s vs0 X1 vs1 H1 locs1 → P x vs1 H1 → vx_W p l e R s m args below meth c H1 locs1 (cells + mc) (slots + ms) Q (F0 m pc ls rest) (ad x)) (kk : ∀ (X1 : XS) (vs1 : XE) (H1 : Heap) (locs1 : List Loc), post X1 → (∀ v ∈ vs, v ∈ vs1) → StX D dT a A s vs0 X1 vs1 H1 locs1 → W p l e R s m args below meth c H1 locs1 (cells + mc) (slots + ms) Q (F0 m (pc + 3) ls (rest))) : W p l e R s m args below meth c H locs cells slots Q (F0 m pc ls st0) :=
  vx_callv hr hS.2.2.1 (fun q _ h => wFree hA hS.self q h) (wFree hA hS.self) (fun q _ h => wFree hA hS.self q h) (fun E9 ce q9 u t H1 locs1 ht _ hp hB _ _ hS1 _ _ _ => by
    obtain ⟨h0, h1, h2, h3⟩ := hB
    have h9 := wBack hA hS.self ht h3 hS1
    subst h1
    exact kx u.2 u.1.1 u.1.2 H1 locs1 hp h9.2.2.2.2 (hS.back h9) (by rw [← ht]; exact h2)) (fun u t H1 locs1 ht _ hp hB _ _ hS1 => kk u.1 u.2 H1 locs1 hp (wBack hA hS.self ht hB hS1).2.2.2.2 (hS.back (wBack hA hS.self ht hB hS1)))
theorem xNr {post : Vol → XS → Prop} (hA : wAz A s) (hS : StX D dT a A s vs0 X vs H locs) (hr : va_Run p l e R s m args below meth c H locs cells slots mc ms (F0 m pc ls st0) rest (va_Qr (fun u9 : (XS × XE) × Vol => post u9.2 u9.1.1) (fun u9 a9 t9 => a9 = u9.2.1 ∧ volC u9.2 ∈ u9.1.2 ∧ wB D (XW dT a) (XI vs) (va_A (XW dT a (X, vs)) H.size) u9.1 t9) (va_A (XW dT a (X, vs)) H.size) av) (va_A (XW dT a (X, vs)) H.size)) (kk : ∀ (r : Vol) (X1 : XS) (vs1 : XE) (H1 : Heap) (locs1 : List Loc), post r X1 → (∀ v ∈ vs, v ∈ vs1) → StX D dT a A s vs0 X1 vs1 H1 locs1 → volC r ∈ vs1 → W p l e R s m args below meth c H1 locs1 (cells + mc) (slots + ms) Q (F0 m (pc + 3) ls (.ref r.1 :: rest))) : W p l e R s m args below meth c H locs cells slots Q (F0 m pc ls st0) :=
  va_callr hr hS.2.2.1 (fun q _ h => wFree hA hS.self q h) (wFree hA hS.self) (fun u ra t H1 locs1 ht _ hp hB _ _ hS1 => by
    obtain ⟨h1, h2, h3⟩ := hB
    have h9 := wBack hA hS.self ht h3 hS1
    subst h1
    exact kk u.2 u.1.1 u.1.2 H1 locs1 hp h9.2.2.2.2 (hS.back h9) h2)
theorem xTr {α : Type} {nm : String} {ad : α → Nat} {P : α → XE → Heap → Prop} {post : Vol → XS → Prop} {postX : α → XS → Prop} (hA : wAz A s) (hS : StX D dT a A s vs0 X vs H locs) (hr : vx_Run p l e R s m args below meth c H locs cells slots mc ms (F0 m pc ls st0) rest (va_Qr (fun u9 : (XS × XE) × Vol => post u9.2 u9.1.1) (fun u9 a9 t9 => a9 = u9.2.1 ∧ volC u9.2 ∈ u9.1.2 ∧ wB D (XW dT a) (XI vs) (va_A (XW dT a (X, vs)) H.size) u9.1 t9) (va_A (XW dT a (X, vs)) H.size) av) (XCG D dT a nm ad P vs postX (va_A (XW dT a (X, vs)) H.size)) (va_A (XW dT a (X, vs)) H.size)) (kx : ∀ (x : α) (X1 : XS) (vs1 : XE) (H1 : Heap) (locs1 : List Loc), postX x X1 → (∀ v ∈ vs, v ∈ vs1) → StX D dT a A s vs0 X1 vs1 H1 locs1 → P x vs1 H1 → vx_W p l e R s m args below meth c H1 locs1 (cells + mc) (slots + ms) Q (F0 m pc ls rest) (ad x)) (kk : ∀ (r : Vol) (X1 : XS) (vs1 : XE) (H1 : Heap) (locs1 : List Loc), post r X1 → (∀ v ∈ vs, v ∈ vs1) → StX D dT a A s vs0 X1 vs1 H1 locs1 → volC r ∈ vs1 → W p l e R s m args below meth c H1 locs1 (cells + mc) (slots + ms) Q (F0 m (pc + 3) ls (.ref r.1 :: rest))) : W p l e R s m args below meth c H locs cells slots Q (F0 m pc ls st0) :=
  xcallr hr hS.2.2.1 (fun q _ h => wFree hA hS.self q h) (wFree hA hS.self) (fun q _ h => wFree hA hS.self q h) (fun E9 ce q9 u t H1 locs1 ht _ hp hB _ _ hS1 _ _ _ => by
    obtain ⟨h0, h1, h2, h3⟩ := hB
    have h9 := wBack hA hS.self ht h3 hS1
    subst h1
    exact kx u.2 u.1.1 u.1.2 H1 locs1 hp h9.2.2.2.2 (hS.back h9) (by rw [← ht]; exact h2)) (fun u ra t H1 locs1 ht _ hp hB _ _ hS1 => by
    obtain ⟨h1, h2, h3⟩ := hB
    have h9 := wBack hA hS.self ht h3 hS1
    subst h1
    exact kk u.2 u.1.1 u.1.2 H1 locs1 hp h9.2.2.2.2 (hS.back h9) h2)
theorem ldw {x : Exn} (hC : wCx RX0 cc nL ret D dT p s m args meth c) (hS : StX D dT a A s vs0 X vs H locs) (hx : isUnb x vs) (hdg : decode cc pc = .ok (.getfield 121, 3)) (k : W p l e R s m args below meth c H locs cells slots Q (F0 m (pc + 3) ls (.int x.2 :: rest))) : W p l e R s m args below meth c H locs cells slots Q (F0 m pc ls (.ref x.1 :: rest)) := by
  obtain ⟨fs, h1, h2⟩ := hx
  obtain ⟨k9, hk9⟩ := List.getElem?_of_mem h2
  obtain ⟨n9, hn9⟩ := XW_ext (dT := dT) (a := a) (X := X) (vs := vs)
  exact va_getN (D := D) (ci := 5) (v := .int x.2) (C := RX5) (T := TX5) (N := 7) hC.1 hC.2.1 hC.2.2.2.2.1 in_X5 hC.2.2.2.1 hC.2.2.2.2.2.2.2.1 hS.1 (n9 + k9) ((hn9 k9).1.trans hk9) rfl 6 (by decide) (va_Nw.use rfl (hC.2.2.2.2.2.2.2.2.1 _ nw_q465)) (fun _ h9 => h9) h1 hdg k
theorem ldb {x : Exu} (hC : wCx RX0 cc nL ret D dT p s m args meth c) (hS : StX D dT a A s vs0 X vs H locs) (hx : isUnt x vs) (hdg : decode cc pc = .ok (.getfield 245, 3)) (k : W p l e R s m args below meth c H locs cells slots Q (F0 m (pc + 3) ls (.int x.2.1 :: rest))) : W p l e R s m args below meth c H locs cells slots Q (F0 m pc ls (.ref x.1 :: rest)) := by
  obtain ⟨fs, q1, h1, h0, h2, h3⟩ := hx
  obtain ⟨k9, hk9⟩ := List.getElem?_of_mem h2
  obtain ⟨n9, hn9⟩ := XW_ext (dT := dT) (a := a) (X := X) (vs := vs)
  exact va_getN (D := D) (ci := 7) (v := .int x.2.1) (C := RX7) (T := TX7) (N := 7) hC.1 hC.2.1 hC.2.2.2.2.1 in_X7 hC.2.2.2.1 hC.2.2.2.2.2.2.2.1 hS.1 (n9 + k9) ((hn9 k9).1.trans hk9) rfl 6 (by decide) (va_Nw.use rfl (hC.2.2.2.2.2.2.2.2.1 _ nw_q591)) (fun _ h9 => h9) h1 hdg k
abbrev rmX7_way : Room := { frames := 6, cells := 0, slots := 0, locals := 100 }
theorem hd_X7_way : yX7_way.cls ≠ "java/lang/invoke/MethodHandle" ∧ yX7_way.cls ≠ "java/lang/invoke/VarHandle" ∧ (parseMethodDescriptor yX7_way.desc).map (fun d => d.parameters.length) = some 0 := by decide +kernel
theorem met_X7_way (l : Launch) (D : va_G) (dT : Nat → ClassId) (a : Nat → Nat) (sz : Nat) (X : XS) (vs0 : XE) {x : Exu} (hx : isUnt x vs0) : Met l yX7_way (ws_ yX7_way cX7_way 3 (some .int)) rmX7_way (fun av U => wPc D dT (XW dT a) (XI vs0) sz (X, vs0) [.ref x.1] av U ∧ FM U.heap x.1) (va_Qi (fun r u9 => u9 = (X, vs0) ∧ r = x.2.2) (wB D (XW dT a) (XI vs0) (va_A (XW dT a (X, vs0)) sz)) (va_A (XW dT a (X, vs0)) sz)) 0 0 (va_A (XW dT a (X, vs0)) sz) := by
  refine Met.ofW (cc := cX7_way) (maxL := 3) (ret := some .int) (by decide) rfl ?_
  intro p e s m args below meth c s₁ B hml hv
  obtain ⟨⟨rfl, hsz, hP, hK, hD0, hI, hZ⟩, hM⟩ := hv
  have hts := atoms_spec (ws := ws_ yX7_way cX7_way 3 (some .int)) B.pre
  have hts : ∀ w ∈ lw_all, w.before _ s = true := fun w h => hts w (List.mem_cons_of_mem _ h)
  have hown : s.vm.findClass yX7_way.cls = some m.cls := findClass_of_methodNamed B.named
  subst hsz
  have hD := hD0.self (sz := s.heap.size)
  rw [lg_entry_eq]
  have hC : wCx RX7 cX7_way 3 (some .int) D dT p s m _ meth c := ⟨B.exec, B.bytes, hml, hown, hts, B.returns, B.notSynchronized, hK⟩
  have hA : wAz (va_A (XW dT a (X, vs0)) s.heap.size) s := ⟨fun q h => Or.inr h, hZ⟩
  have hS : StX D dT a (va_A (XW dT a (X, vs0)) s.heap.size) s vs0 X vs0 s.heap [] := ⟨hP, hD, va_S.rf, hI⟩
  have hl := lv_entry (n := 3) [Value.ref x.1] (Nat.le_of_ble_eq_true rfl)
  generalize (lg_sl [Value.ref x.1] ++ List.replicate (3 - (lg_sl [Value.ref x.1]).length) Slot.unset).toArray = ls at hl ⊢
  have hl : lv_has ls 3 [(0, .ref x.1)] := hl
  have hb := hC.2.1
  have hx9 := hC.1
  refine lv_aload_n hx9 hb dX7_way_0 rfl (lv_at hl 0 rfl) ?_
  refine xGetCause hC hA hS hx hM hl.1 (Nat.zero_le _) ⟨Nat.le_of_ble_eq_true rfl, Nat.le_of_ble_eq_true rfl⟩ dX7_way_1 (fun q1 hq1 => ?_)
  obtain ⟨ce9, g1, g2, g3⟩ := xUnb_cell hC hS hq1
  have hcs : va_Nw (.castable "LeastFrames$Unborne" "LeastFrames$Unborne") s := hC.2.2.2.2.2.2.2.2.1 _ nw_q397
  have hrc : ∃ cell : Cell, s.heap[q1]? = some cell ∧ cell.vm.isStatics = false ∧ s.vm.findClass "LeastFrames$Unborne" = some cell.cls := ⟨ce9, g1, by rw [g2]; rfl, g3⟩
  refine lv_astore_n (lv' := [(2, .ref q1), (0, .ref x.1)]) hx9 hb dX7_way_4 rfl hl (by decide) rfl (fun ls hl => ?_)
  refine lv_aload_n hx9 hb dX7_way_5 rfl (lv_at hl 0 rfl) ?_
  refine va_instY hx9 hb hown (hts _ q614) hcs hrc dX7_way_6 ?_
  refine lv_if_eq (tgt := 24) hx9 hb dX7_way_9 (by decide) (fun z => absurd z (by decide)) (fun _ => ?_)
  refine lv_aload_n hx9 hb dX7_way_12 rfl (lv_at hl 0 rfl) ?_
  refine va_castY hx9 hb hown (hts _ q614) hcs hrc dX7_way_13 ?_
  refine lv_astore_n (lv' := [(1, .ref q1), (2, .ref q1), (0, .ref x.1)]) hx9 hb dX7_way_16 rfl hl (by decide) rfl (fun ls hl => ?_)
  refine lv_aload_n hx9 hb dX7_way_17 rfl (lv_at hl 0 rfl) ?_
  obtain ⟨fs, h1, h2⟩ := hq1
  obtain ⟨k9, hk9⟩ := List.getElem?_of_mem h2
  obtain ⟨n9, hn9⟩ := XW_ext (dT := dT) (a := a) (X := X) (vs := vs0)
  refine va_getN (D := D) (ci := 5) (v := .int x.2.2) (C := RX5) (T := TX5) (N := 7) hx9 hb hts in_X5 hown hC.2.2.2.2.2.2.2.1 hS.1 (n9 + k9) ((hn9 k9).1.trans hk9) rfl 6 (by decide) (va_Nw.use rfl (hC.2.2.2.2.2.2.2.2.1 _ nw_q464)) (fun _ h9 => h9) h1 dX7_way_18 ?_
  refine lv_goto (tgt := 25) hx9 hb dX7_way_21 (by decide) ?_
  exact wReti hC hS ⟨rfl, rfl⟩ (Nat.le_refl _) (Nat.le_refl _) dX7_way_25
theorem inv_q604 {x : Exu} (hC : wCx RX0 cc nL ret D dT p s m args meth c) (hA : wAz A s) (hS : StX D dT a A s vs0 X vs H locs) (hx : isUnt x vs) (hM : FM H x.1) (hl : ls.size = nL) (hR : rmX7_way.frames + 1 ≤ R.frames ∧ 8 + (3 + 11) + rmX7_way.locals ≤ R.locals) (hrest : (rest.map fun v => v.category).sum ≤ 8) (hf : cells ≤ R.cells ∧ slots ≤ R.slots) (hdg : decode cc pc = .ok (.invokevirtual 240, 3))
    (kk : ∀ (H1 : Heap) (locs1 : List Loc), StX D dT a A s vs0 X vs H1 locs1 → W p l e R s m args below meth c H1 locs1 cells slots Q (F0 m (pc + 3) ls (.int x.2.2 :: rest))) : W p l e R s m args below meth c H locs cells slots Q (F0 m pc ls (.ref x.1 :: rest)) := by
  have hx' := hx
  obtain ⟨fs, q1, h1, h0, h2, h3⟩ := hx'
  obtain ⟨k9, hk9⟩ := List.getElem?_of_mem h2
  obtain ⟨n9, hn9⟩ := XW_ext (dT := dT) (a := a) (X := X) (vs := vs)
  have hg := lw_V q604 q605 q606 q95 q607
  refine va_calli (mc := 0) (ms := 0) (va_runV (C := RX7) (As := []) (rest := rest) ⟨hC.1, hC.2.1, hC.2.2.1, hC.2.2.2.1, hC.2.2.2.2.1⟩ (met_X7_way l D dT a H.size X vs hx) (cwV 0 hC.2.2.2.2.1 hg rfl rfl rfl ⟨rfl, hd_X7_way⟩ hR) ⟨fun a9 U g mk h => ⟨wBlind _ _ _ _ h.1, h.2⟩, va_recv hC.2.2.2.2.2.2.2.1 hS.1 (q0 := n9 + k9) (q := (RX7, TX7, 7)) rfl ((hn9 k9).1.trans hk9), fun U hU hW => ⟨wPreU hC.2.2.2.2.2.2.2 hA hS.self U hU hW, by rw [hU]; exact hM⟩⟩ rfl rfl hl rfl (lv_room hrest) hdg hf) hS.2.2.1 (fun q _ h => wFree hA hS.self q h) (wFree hA hS.self) (fun r u t H1 locs1 ht _ hp hB _ _ hS1 => ?_)
  obtain ⟨hu, hr⟩ := hp
  subst hr
  have h9 := hS.back (wBack hA hS.self ht hB hS1)
  rw [hu] at h9
  exact kk H1 locs1 h9
end XTHROW
