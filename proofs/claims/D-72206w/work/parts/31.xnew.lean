/-! NEW OBJECTS of the component: volumes, exceptions; they ride in the list of the other cells -/
abbrev Exn : Type := Nat × Int32
abbrev Exu : Type := Nat × Int32 × Int32
def isUnb (e : Exn) (es : XE) : Prop := ∃ fs : List Value, fs[6]? = some (.int e.2) ∧ (e.1, .inr (5, fs)) ∈ es
def isUnt (e : Exu) (es : XE) : Prop := ∃ (fs : List Value) (q1 : Nat), fs[6]? = some (.int e.2.1) ∧ fs[0]? = some (.ref q1) ∧ (e.1, .inr (7, fs)) ∈ es ∧ isUnb (q1, e.2.2) es
theorem isUnb.mono {e : Exn} {es es' : XE} (h : isUnb e es) (hk : ∀ z ∈ es, z ∈ es') : isUnb e es' := by
  obtain ⟨fs, h1, h2⟩ := h
  exact ⟨fs, h1, hk _ h2⟩
theorem isUnt.mono {e : Exu} {es es' : XE} (h : isUnt e es) (hk : ∀ z ∈ es, z ∈ es') : isUnt e es' := by
  obtain ⟨fs, q1, h1, h2, h3, h4⟩ := h
  exact ⟨fs, q1, h1, h2, hk _ h3, h4.mono hk⟩
abbrev d5 : List Value := [.null, .null, .null, .null, .null, .int 0, .int 0]
theorem XW_push {dT : Nat → ClassId} {a : Nat → Nat} {X : XS} {vs : XE} {z : Nat × va_E} : XW dT a (X, vs) ++ [z] = XW dT a (X, vs ++ [z]) := by
  unfold XW
  simp only [List.append_assoc]
theorem XW_ext {dT : Nat → ClassId} {a : Nat → Nat} {X : XS} {vs : XE} : ∃ n : Nat, ∀ k : Nat, (XW dT a (X, vs))[n + k]? = vs[k]? ∧ ∀ z, k < vs.length → (XW dT a (X, vs)).set (n + k) z = XW dT a (X, vs.set k z) := by
  refine ⟨(XSt dT a X ++ XR dT X).length, fun k => ⟨?_, fun z hk => ?_⟩⟩
  · show (XSt dT a X ++ (XR dT X ++ vs))[_]? = _
    rw [← List.append_assoc, List.getElem?_append_right (Nat.le_add_right _ _), Nat.add_sub_cancel_left]
  · show (XSt dT a X ++ (XR dT X ++ vs)).set _ _ = XSt dT a X ++ (XR dT X ++ vs.set k z)
    rw [← List.append_assoc, List.set_append_right _ _ (Nat.le_add_right _ _), Nat.add_sub_cancel_left, List.append_assoc]
theorem set_keep {α : Type} {l : List α} {k : Nat} {r c : α} (h : l[k]? = some r) : ∀ z ∈ l, z ≠ r → z ∈ l.set k c := by
  intro z hz hne
  obtain ⟨i, hi⟩ := List.getElem?_of_mem hz
  have hik : i ≠ k := fun e => by subst e; exact hne (Option.some.inj (hi.symm.trans h))
  exact List.mem_of_getElem? (i := i) (by rw [List.getElem?_set_ne (Ne.symm hik)]; exact hi)
theorem set_here {α : Type} {l : List α} {k : Nat} {r c : α} (h : l[k]? = some r) : c ∈ l.set k c :=
  List.mem_of_getElem? (i := k) (List.getElem?_set_self (List.getElem?_eq_some_iff.mp h).1)
section XNEW
variable {p : Program} {l : Launch} {e : Env} {R : Room} {s : State} {m : MethodId} {args : Array Value} {below : List Frame} {meth : Method} {c : Code} {H : Heap} {locs : List Loc} {cells slots : Nat} {Q : State → Prop}
variable {D : va_G} {dT : Nat → ClassId} {a : Nat → Nat} {A : Nat → Prop} {X : XS} {vs0 vs : XE} {own : String} {cc : ByteArray} {nL : Nat} {ret : Option FieldType} {pc : Nat} {ls : Array Slot} {rest : List Value}
theorem xe_fresh {q : Nat} {z : va_E} (hD : va_D A (XW dT a (X, vs ++ [(q, z)]))) : ∀ w ∈ vs, w.1 ≠ q := by
  intro w hw e9
  obtain ⟨i, hi⟩ := List.getElem?_of_mem hw
  have hlt := (List.getElem?_eq_some_iff.mp hi).1
  obtain ⟨n, hn⟩ := XW_ext (dT := dT) (a := a) (X := X) (vs := vs ++ [(q, z)])
  have h1 := (hn i).1
  have h2 := (hn vs.length).1
  rw [List.getElem?_append_left hlt, hi] at h1
  rw [List.getElem?_append_right (Nat.le_refl _), Nat.sub_self] at h2
  have := hD.1 _ _ _ _ h1 h2 e9
  omega
theorem xNew {C : String} {T : u_T} {N ci index : Nat} {fs : List Value} (hC : wCx own cc nL ret D dT p s m args meth c) (hA : wAz A s) (hS : StX D dT a A s vs0 X vs H locs) (hin : ∀ w ∈ u_ws C T N, w ∈ lw_all) (ty : Nat → FieldType) (hty : ∀ k, k < N → parseFieldDescriptor (T k).2.2.1 = some (ty k)) (hcl : Cond.classLink own index C ∈ lw_all) (hinst : Cond.instantiable C N ∈ lw_all) (hini : Cond.initialized C ∈ lw_all) (hc : clL[ci]? = some (C, T, N)) (hfs : ∀ j, j < N → defaultValue (ty j) = vp_V fs j) (hf : cells + 1 ≤ R.cells ∧ slots + N ≤ R.slots) (hdg : decode cc pc = .ok (.new index, 3))
    (kk : ∀ (q : Nat) (vs1 : XE) (H1 : Heap), StX D dT a A s vs0 X vs1 H1 locs → (q, .inr (ci, fs)) ∈ vs1 → (∀ z ∈ vs, z ∈ vs1) → (∀ z ∈ vs0, z.1 ≠ q) → (∀ v, X_least X = some v → v.1 ≠ q) → W p l e R s m args below meth c H1 locs (cells + 1) (slots + N) Q (F0 m (pc + 3) ls (.ref q :: rest))) : W p l e R s m args below meth c H locs cells slots Q (F0 m pc ls rest) := by
  refine va_new (ci := ci) (fs := fs) (C := C) (T := T) (N := N) hC.1 hC.2.1 hC.2.2.2.2.1 hin ty hty hC.2.2.2.1 (hC.2.2.2.2.1 _ hcl) (hC.2.2.2.2.1 _ hinst) (hC.2.2.2.2.1 _ hini) hC.2.2.2.2.2.2.2.1 hS.1 hS.2.1 hS.2.2.1 hA.1 hc hfs hf.1 hf.2 hdg (fun q H1 hP hD hS1 => ?_)
  rw [XW_push] at hP hD
  have hfr := xe_fresh hD
  exact kk q _ H1 ⟨hP, hD, hS1, fun v hv => List.mem_append_left _ (hS.2.2.2.1 v hv), fun v hv => List.mem_append_left _ (hS.2.2.2.2 v hv)⟩ (List.mem_append_right _ (List.mem_singleton.mpr rfl)) (fun z hz => List.mem_append_left _ hz) (fun z hz => hfr z (hS.2.2.2.2 z hz)) (fun v hv => hfr _ (hS.2.2.2.1 v hv))
/-- a constructor's call: the new cell is the callee's to write, the rest of the world is there -/
theorem wRunI {σ : Type} {Wd : σ → va_W} {I : σ → Prop} {x : σ} {bytes : ByteArray} {maxL index mc ms : Nat} {rm : Room} {y : MethodName} {As st0 : List Value} {b : Nat} {Qc : Array Value → State → Outcome → State → Prop} (hC : wCx own cc nL ret D dT p s m args meth c) (hM : Met l y (ws_ y bytes maxL none) rm (wPc D dT Wd I H.size x (.ref b :: As)) Qc mc ms (va_A (Wd x) H.size)) (hg : Cond.code y bytes maxL none ∈ lw_all) (hini : Cond.initialized y.cls ∈ lw_all) (hlk : Cond.methodLink own index y ∈ lw_all) (hins : Cond.instanceMethod y ∈ lw_all) (hyn : y.name = "<init>")
    (hc : wCal R own index y bytes maxL none rm mc ms As.length cells slots) (hA : wAz A s) (hS : wSt D Wd I A s x H locs) (hl : ls.size = nL) (hst : st0 = As.reverse ++ .ref b :: rest) (hrest : (rest.map fun v => v.category).sum ≤ 8) (hdg : decode cc pc = .ok (.invokespecial index, 3)) :
    va_Run p l e R s m args below meth c H locs cells slots mc ms (F0 m pc ls st0) rest (Qc (Value.ref b :: As).toArray) (va_A (Wd x) H.size) :=
  va_runI (As := As) (rest := rest) ⟨hC.1, hC.2.1, hC.2.2.1, hC.2.2.2.1, hC.2.2.2.2.1⟩ hM (cwI As.length hC.2.2.2.2.1 (lw_meth hg) rfl hc.1.1 hc.1.2 (hC.2.2.2.2.1 _ hini) (hC.2.2.2.2.1 _ hlk) (hC.2.2.2.2.1 _ hins) hyn hc.2.1 hc.2.2.1) ⟨wBlind, wPreU hC.2.2.2.2.2.2.2 hA hS⟩ rfl rfl hl hst (lv_room hrest) hdg hc.2.2.2
/-- an answer that is a volume -/
theorem xRetV {post : Vol → XS → Prop} {v : Vol} {mc ms : Nat} (hC : wCx own cc nL (some (.object "LeastFrames$Volume")) D dT p s m args meth c) (hS : StX D dT a A s vs0 X vs H locs) (hv : volC v ∈ vs) (hp : post v X) (h1 : cells ≤ mc) (h2 : slots ≤ ms) (hdg : decode cc pc = .ok (.areturn, 1)) : W p l e R s m args below meth c H locs cells slots (MQ below (va_Qr (fun u9 : (XS × XE) × Vol => post u9.2 u9.1.1) (fun u9 a9 t9 => a9 = u9.2.1 ∧ volC u9.2 ∈ u9.1.2 ∧ wB D (XW dT a) (XI vs0) A u9.1 t9) A) args s mc ms A) (F0 m pc ls [.ref v.1]) :=
  W.widen h1 h2 (W.aret (v := .ref v.1) (rt := .object "LeastFrames$Volume") hC.1 hC.2.1 hC.2.2.2.2.2.1 (Or.inl ⟨_, rfl⟩) (Or.inr ⟨_, rfl⟩) (fun t ht _ => ⟨⟨((X, vs), v), v.1, rfl, hp, rfl, hv, by rw [ht]; exact hS.1, hS.2.1, hS.2.2.2⟩, hS.2.2.1.F ht⟩) hS.2.2.1.2.2 hdg hC.2.2.2.2.2.2.1)
/-- what is thrown: Unborne, Untried -/
def FM (H : Heap) (q : Nat) : Prop := ∃ cell : Cell, H[q]? = some cell ∧ cell.monitor.owner = none ∧ cell.monitor.count = 0
abbrev XCG {α : Type} (D : va_G) (dT : Nat → ClassId) (a : Nat → Nat) (nm : String) (ad : α → Nat) (P : α → XE → Heap → Prop) (vs0 : XE) (postX : α → XS → Prop) (A : Nat → Prop) : String → Addr → State → State → Prop := vx_X (fun u9 : (XS × XE) × α => postX u9.2 u9.1.1) (fun E9 q9 u9 t9 => E9 = nm ∧ q9 = ad u9.2 ∧ P u9.2 u9.1.2 t9.heap ∧ wB D (XW dT a) (XI vs0) A u9.1 t9) A
abbrev XCU (D : va_G) (dT : Nat → ClassId) (a : Nat → Nat) (vs0 : XE) (postX : Exn → XS → Prop) (A : Nat → Prop) : String → Addr → State → State → Prop := XCG D dT a "LeastFrames$Unborne" (fun x => x.1) (fun x es _ => isUnb x es) vs0 postX A
abbrev XCT (D : va_G) (dT : Nat → ClassId) (a : Nat → Nat) (vs0 : XE) (postX : Exu → XS → Prop) (A : Nat → Prop) : String → Addr → State → State → Prop := XCG D dT a "LeastFrames$Untried" (fun x => x.1) (fun x es H => isUnt x es ∧ FM H x.1) vs0 postX A
theorem xOutU {Qc : Array Value → State → Outcome → State → Prop} {postX : Exn → XS → Prop} {x : Exn} {ce : Cell} {mc ms : Nat} (hC : wCx own cc nL ret D dT p s m args meth c) (hout : ∀ z ∈ c.exceptionTable.toList, covers z pc = false) (hp : postX x X) (hx : isUnb x vs) (hS : StX D dT a A s vs0 X vs H locs) (hcell : H[x.1]? = some ce) (hv : ce.vm = .none) (hcl : s.vm.findClass "LeastFrames$Unborne" = some ce.cls) (h1 : cells ≤ mc) (h2 : slots ≤ ms) :
    vx_W p l e R s m args below meth c H locs cells slots (vx_MQ below Qc (XCU D dT a vs0 postX A) args s mc ms A) (F0 m pc ls rest) x.1 :=
  xOut (E := "LeastFrames$Unborne") (((X, vs), x) : (XS × XE) × Exn) hout hC.2.2.2.2.2.2.1 hp (fun t ht => ⟨rfl, rfl, hx, by rw [ht]; exact hS.1, hS.2.1, hS.2.2.2⟩) hS.2.2.1 hcell hv hcl h1 h2
theorem xOutT {Qc : Array Value → State → Outcome → State → Prop} {postX : Exu → XS → Prop} {x : Exu} {ce : Cell} {mc ms : Nat} (hC : wCx own cc nL ret D dT p s m args meth c) (hout : ∀ z ∈ c.exceptionTable.toList, covers z pc = false) (hp : postX x X) (hx : isUnt x vs) (hm : FM H x.1) (hS : StX D dT a A s vs0 X vs H locs) (hcell : H[x.1]? = some ce) (hv : ce.vm = .none) (hcl : s.vm.findClass "LeastFrames$Untried" = some ce.cls) (h1 : cells ≤ mc) (h2 : slots ≤ ms) :
    vx_W p l e R s m args below meth c H locs cells slots (vx_MQ below Qc (XCT D dT a vs0 postX A) args s mc ms A) (F0 m pc ls rest) x.1 :=
  xOut (E := "LeastFrames$Untried") (((X, vs), x) : (XS × XE) × Exu) hout hC.2.2.2.2.2.2.1 hp (fun t ht => ⟨rfl, rfl, ⟨hx, by rw [ht]; exact hm⟩, by rw [ht]; exact hS.1, hS.2.1, hS.2.2.2⟩) hS.2.2.1 hcell hv hcl h1 h2
/-- an exception among the cells is an object of its class -/
theorem xe_cell {ci : Nat} {q : vw_C} {fs : List Value} {z : Nat} (hK : va_K D clL (tysL dT) s) (hS : StX D dT a A s vs0 X vs H locs) (hz : (z, .inr (ci, fs)) ∈ vs) (hq : clL[ci]? = some q) : ∃ ce : Cell, H[z]? = some ce ∧ ce.vm = .none ∧ s.vm.findClass q.1 = some ce.cls := by
  obtain ⟨k, hk⟩ := List.getElem?_of_mem hz
  obtain ⟨n, hn⟩ := XW_ext (dT := dT) (a := a) (X := X) (vs := vs)
  obtain ⟨r, h1, cell, g1, g2, g3, -⟩ := hS.1 (n + k) _ ((hn k).1.trans hk)
  have hr : r = q := Option.some.inj (h1.symm.trans hq)
  subst hr
  exact ⟨cell, g1, g3, by rw [g2]; exact (hK.1 ci r hq).2.1⟩
theorem xUnb_cell {x : Exn} (hC : wCx own cc nL ret D dT p s m args meth c) (hS : StX D dT a A s vs0 X vs H locs) (hx : isUnb x vs) : ∃ ce : Cell, H[x.1]? = some ce ∧ ce.vm = .none ∧ s.vm.findClass "LeastFrames$Unborne" = some ce.cls := by
  obtain ⟨fs, -, h2⟩ := hx
  exact xe_cell hC.2.2.2.2.2.2.2.1 hS h2 (q := (RX5, TX5, 7)) rfl
theorem xUnt_cell {x : Exu} (hC : wCx own cc nL ret D dT p s m args meth c) (hS : StX D dT a A s vs0 X vs H locs) (hx : isUnt x vs) : ∃ ce : Cell, H[x.1]? = some ce ∧ ce.vm = .none ∧ s.vm.findClass "LeastFrames$Untried" = some ce.cls := by
  obtain ⟨fs, q1, -, -, h2, -⟩ := hx
  exact xe_cell hC.2.2.2.2.2.2.2.1 hS h2 (q := (RX7, TX7, 7)) rfl
end XNEW
