/-! CONSTRUCTORS: the world is what was there, and a list of the cells made, in their order -/
theorem cW_at {base es : va_W} {k : Nat} : (base ++ es)[base.length + k]? = es[k]? := by
  rw [List.getElem?_append_right (Nat.le_add_right _ _), Nat.add_sub_cancel_left]
theorem cW_set {base es : va_W} {k : Nat} {z : Nat × va_E} : (base ++ es).set (base.length + k) z = base ++ es.set k z := by
  rw [List.set_append_right _ _ (Nat.le_add_right _ _), Nat.add_sub_cancel_left]
abbrev cSt (D : va_G) (base : va_W) (A : Nat → Prop) (s : State) (es : va_W) (H : Heap) (locs : List Loc) : Prop := wSt D (fun es : va_W => base ++ es) (fun _ => True) A s es H locs
section CONS
variable {p : Program} {l : Launch} {e : Env} {R : Room} {s : State} {m : MethodId} {args : Array Value} {below : List Frame} {meth : Method} {c : Code} {H : Heap} {locs : List Loc} {cells slots : Nat} {Q : State → Prop}
variable {D : va_G} {dT : Nat → ClassId} {A : Nat → Prop} {base es : va_W} {own : String} {cc : ByteArray} {nL : Nat} {ret : Option FieldType} {pc : Nat} {ls : Array Slot} {rest : List Value}
theorem cArr_int {n : Int32} {N' : Nat} (hC : wCx own cc nL ret D dT p s m args meth c) (hA : wAz A s) (hS : cSt D base A s es H locs) (hn : ¬ n < 0) (hN : n.toNatClampNeg = N') (hb : N' ≤ 2000) (hf : cells + 1 ≤ R.cells ∧ slots + N' ≤ R.slots) (hdg : decode cc pc = .ok (.newarray .int, 2)) (kk : ∀ (q : Nat) (H1 : Heap), cSt D base A s (es ++ [(q, .inl (dT 0, N', .inl (fun _ => 0)))]) H1 locs → W p l e R s m args below meth c H1 locs (cells + 1) (slots + N') Q (F0 m (pc + 2) ls (.ref q :: rest))) : W p l e R s m args below meth c H locs cells slots Q (F0 m pc ls (.int n :: rest)) := by
  refine va_newa (atype := .int) (ty := .int) (N' := N') (a0 := (N', .inl (fun _ => 0))) hC.1 hC.2.1 (hC.2.2.2.2.1 _ q144) rfl hC.2.2.2.2.2.2.2.1 hS.1 hS.2.1 hS.2.2.1 hA.1 (fun cA => rfl) hn hN (by show N' * 4 ≤ 536870912; omega) hf.1 hf.2 hdg (fun q cA H1 hK1 hP hD hS1 => ?_)
  have e1 : cA = dT 0 := by
    have h1 := (hK1.2 6 (cA, .int) rfl).2
    have h2 := (hC.2.2.2.2.2.2.2.1.2 0 _ rfl).2
    exact Option.some.inj (h1.symm.trans h2)
  subst e1
  rw [List.append_assoc] at hP hD
  exact kk q H1 ⟨hP, hD, hS1, trivial⟩
theorem cArr_long {n : Int32} {N' : Nat} (hC : wCx own cc nL ret D dT p s m args meth c) (hA : wAz A s) (hS : cSt D base A s es H locs) (hn : ¬ n < 0) (hN : n.toNatClampNeg = N') (hb : N' ≤ 2000) (hf : cells + 1 ≤ R.cells ∧ slots + N' ≤ R.slots) (hdg : decode cc pc = .ok (.newarray .long, 2)) (kk : ∀ (q : Nat) (H1 : Heap), cSt D base A s (es ++ [(q, .inl (dT 1, N', .inr (.inl (fun _ => 0))))]) H1 locs → W p l e R s m args below meth c H1 locs (cells + 1) (slots + N') Q (F0 m (pc + 2) ls (.ref q :: rest))) : W p l e R s m args below meth c H locs cells slots Q (F0 m pc ls (.int n :: rest)) := by
  refine va_newa (atype := .long) (ty := .long) (N' := N') (a0 := (N', .inr (.inl (fun _ => 0)))) hC.1 hC.2.1 (hC.2.2.2.2.1 _ q179) rfl hC.2.2.2.2.2.2.2.1 hS.1 hS.2.1 hS.2.2.1 hA.1 (fun cA => rfl) hn hN (by show N' * 8 ≤ 536870912; omega) hf.1 hf.2 hdg (fun q cA H1 hK1 hP hD hS1 => ?_)
  have e1 : cA = dT 1 := by
    have h1 := (hK1.2 6 (cA, .long) rfl).2
    have h2 := (hC.2.2.2.2.2.2.2.1.2 1 _ rfl).2
    exact Option.some.inj (h1.symm.trans h2)
  subst e1
  rw [List.append_assoc] at hP hD
  exact kk q H1 ⟨hP, hD, hS1, trivial⟩
theorem cArr_boolean {n : Int32} {N' : Nat} (hC : wCx own cc nL ret D dT p s m args meth c) (hA : wAz A s) (hS : cSt D base A s es H locs) (hn : ¬ n < 0) (hN : n.toNatClampNeg = N') (hb : N' ≤ 2000) (hf : cells + 1 ≤ R.cells ∧ slots + N' ≤ R.slots) (hdg : decode cc pc = .ok (.newarray .boolean, 2)) (kk : ∀ (q : Nat) (H1 : Heap), cSt D base A s (es ++ [(q, .inl (dT 2, N', .inl (fun _ => 0)))]) H1 locs → W p l e R s m args below meth c H1 locs (cells + 1) (slots + N') Q (F0 m (pc + 2) ls (.ref q :: rest))) : W p l e R s m args below meth c H locs cells slots Q (F0 m pc ls (.int n :: rest)) := by
  refine va_newa (atype := .boolean) (ty := .boolean) (N' := N') (a0 := (N', .inl (fun _ => 0))) hC.1 hC.2.1 (hC.2.2.2.2.1 _ q1002) rfl hC.2.2.2.2.2.2.2.1 hS.1 hS.2.1 hS.2.2.1 hA.1 (fun cA => rfl) hn hN (by show N' * 1 ≤ 536870912; omega) hf.1 hf.2 hdg (fun q cA H1 hK1 hP hD hS1 => ?_)
  have e1 : cA = dT 2 := by
    have h1 := (hK1.2 6 (cA, .boolean) rfl).2
    have h2 := (hC.2.2.2.2.2.2.2.1.2 2 _ rfl).2
    exact Option.some.inj (h1.symm.trans h2)
  subst e1
  rw [List.append_assoc] at hP hD
  exact kk q H1 ⟨hP, hD, hS1, trivial⟩
theorem cPutF {ref C : String} {T : u_T} {N ci index : Nat} {v : Value} {ty : FieldType} {a : Nat} {fs : List Value} (hC : wCx own cc nL ret D dT p s m args meth c) (hA : wAz A s) (hS : cSt D base A s es H locs) (k0 : Nat) (he : es[k0]? = some (a, .inr (ci, fs))) (hin : ∀ w ∈ u_ws C T N, w ∈ lw_all) (ty0 : Nat → FieldType) (hty : ∀ k, k < N → parseFieldDescriptor (T k).2.2.1 = some (ty0 k)) (hnm : ∀ a, a < N → ∀ b, b < N → a ≠ b → (T a).2.1 ≠ (T b).2.1) (hc : clL[ci]? = some (C, T, N)) (k : Nat) (hk : k < N) (hlink : Cond.fieldLink own index ref (T k).2.1 (T k).2.2.1 ∈ lw_all) (hsame : ∀ x, s.fieldFound? (T k).1 (T k).2.1 (T k).2.2.1 = some x → s.fieldFound? ref (T k).2.1 (T k).2.2.1 = some x) (hfin : (T k).2.2.2 = true) (hin2 : meth.name = "<init>") (hdecl : (T k).1 = own) (hd : parseFieldDescriptor (T k).2.2.1 = some ty) (hn : narrow ty v = v) (hfit : fits ty v = true) (hl : k < fs.length)
    (hdg : decode cc pc = .ok (.putfield index, 3)) (kk : ∀ (H1 : Heap) (locs1 : List Loc), cSt D base A s (es.set k0 (a, .inr (ci, fs.set k v))) H1 locs1 → W p l e R s m args below meth c H1 locs1 cells slots Q (F0 m (pc + 3) ls (rest))) : W p l e R s m args below meth c H locs cells slots Q (F0 m pc ls (v :: .ref a :: rest)) := by
  refine va_putF hC.1 hC.2.1 hC.2.2.2.2.1 hin ty0 hty hnm hC.2.2.2.1 hC.2.2.2.2.2.2.2.1 hS.1 hS.2.1 hS.2.2.1 (base.length + k0) (cW_at.trans he) hc k hk (hC.2.2.2.2.1 _ hlink) hsame hfin hin2 hdecl hd hn hfit hl hdg (fun H1 locs1 hP hD hS1 => ?_)
  rw [cW_set] at hP hD
  exact kk H1 locs1 ⟨hP, hD, hS1, trivial⟩
theorem cNew {C : String} {T : u_T} {N ci index : Nat} {fs : List Value} (hC : wCx own cc nL ret D dT p s m args meth c) (hA : wAz A s) (hS : cSt D base A s es H locs) (hin : ∀ w ∈ u_ws C T N, w ∈ lw_all) (ty : Nat → FieldType) (hty : ∀ k, k < N → parseFieldDescriptor (T k).2.2.1 = some (ty k)) (hcl : Cond.classLink own index C ∈ lw_all) (hinst : Cond.instantiable C N ∈ lw_all) (hini : Cond.initialized C ∈ lw_all) (hc : clL[ci]? = some (C, T, N)) (hfs : ∀ j, j < N → defaultValue (ty j) = vp_V fs j) (hf : cells + 1 ≤ R.cells ∧ slots + N ≤ R.slots) (hdg : decode cc pc = .ok (.new index, 3))
    (kk : ∀ (q : Nat) (H1 : Heap), cSt D base A s (es ++ [(q, .inr (ci, fs))]) H1 locs → W p l e R s m args below meth c H1 locs (cells + 1) (slots + N) Q (F0 m (pc + 3) ls (.ref q :: rest))) : W p l e R s m args below meth c H locs cells slots Q (F0 m pc ls (rest)) := by
  refine va_new (ci := ci) (fs := fs) (C := C) (T := T) (N := N) hC.1 hC.2.1 hC.2.2.2.2.1 hin ty hty hC.2.2.2.1 (hC.2.2.2.2.1 _ hcl) (hC.2.2.2.2.1 _ hinst) (hC.2.2.2.2.1 _ hini) hC.2.2.2.2.2.2.2.1 hS.1 hS.2.1 hS.2.2.1 hA.1 hc hfs hf.1 hf.2 hdg (fun q H1 hP hD hS1 => ?_)
  rw [List.append_assoc] at hP hD
  exact kk q H1 ⟨hP, hD, hS1, trivial⟩
theorem cArrR_P {n : Int32} {N' index : Nat} (hC : wCx own cc nL ret D dT p s m args meth c) (hA : wAz A s) (hS : cSt D base A s es H locs) (hcl : Cond.classLink own index "LeastFrames$Point" ∈ lw_all) (hn : ¬ n < 0) (hN : n.toNatClampNeg = N') (hb : N' ≤ 2000) (hf : cells + 1 ≤ R.cells ∧ slots + N' ≤ R.slots) (hdg : decode cc pc = .ok (.anewarray index, 3)) (kk : ∀ (q : Nat) (H1 : Heap), cSt D base A s (es ++ [(q, .inl (dT 3, N', .inr (.inr (.inr (.inr (fun _ => none))))))]) H1 locs → W p l e R s m args below meth c H1 locs (cells + 1) (slots + N') Q (F0 m (pc + 3) ls (.ref q :: rest))) : W p l e R s m args below meth c H locs cells slots Q (F0 m pc ls (.int n :: rest)) := by
  refine va_newq hC.1 hC.2.1 hC.2.2.2.1 (hC.2.2.2.2.1 _ hcl) hC.2.2.2.2.2.2.2.2.2.1 hC.2.2.2.2.2.2.2.1 hS.1 hS.2.1 hS.2.2.1 hA.1 hn hN (by omega) hf.1 hf.2 hdg (fun q cA H1 hK1 hP hD hS1 => ?_)
  have e1 : cA = dT 3 := by
    obtain ⟨k1, c1, a1, a2, a3, a4⟩ := (hK1.2 6 (cA, .object "LeastFrames$Point") rfl).2
    obtain ⟨k2, c2, b1, b2, b3, b4⟩ := (hC.2.2.2.2.2.2.2.1.2 3 _ rfl).2
    exact Option.some.inj (a4.symm.trans b4)
  subst e1
  rw [List.append_assoc] at hP hD
  exact kk q H1 ⟨hP, hD, hS1, trivial⟩
theorem cAst_P {n a v : Nat} {vs : List Value} {f : Nat → Option Nat} {i : Int32} (hC : wCx own cc nL ret D dT p s m args meth c) (hA : wAz A s) (hS : cSt D base A s es H locs) (k0 k1 : Nat) (ha : es[k0]? = some (a, .inl (dT 3, n, .inr (.inr (.inr (.inr f)))))) (hv : es[k1]? = some (v, .inr (1, vs))) (hi : vp_in i n) (hdg : decode cc pc = .ok (.aastore, 1)) (kk : ∀ (H1 : Heap) (locs1 : List Loc), cSt D base A s (es.set k0 (a, .inl (dT 3, n, .inr (.inr (.inr (.inr (va_up f i.toNatClampNeg (some v)))))))) H1 locs1 → W p l e R s m args below meth c H1 locs1 cells slots Q (F0 m (pc + 1) ls (rest))) : W p l e R s m args below meth c H locs cells slots Q (F0 m pc ls (.ref v :: .int i :: .ref a :: rest)) := by
  refine va_astq hC.1 hC.2.1 hC.2.2.2.2.2.2.2.1 hS.1 hS.2.1 hS.2.2.1 (base.length + k0) 3 (base.length + k1) 1 (cW_at.trans ha) rfl (cW_at.trans hv) rfl hi hdg (fun H1 locs1 hP hD hS1 => ?_)
  rw [cW_set] at hP hD
  exact kk H1 locs1 ⟨hP, hD, hS1, trivial⟩
theorem cArrR_S {n : Int32} {N' index : Nat} (hC : wCx own cc nL ret D dT p s m args meth c) (hA : wAz A s) (hS : cSt D base A s es H locs) (hcl : Cond.classLink own index "LeastFrames$Sheet" ∈ lw_all) (hn : ¬ n < 0) (hN : n.toNatClampNeg = N') (hb : N' ≤ 2000) (hf : cells + 1 ≤ R.cells ∧ slots + N' ≤ R.slots) (hdg : decode cc pc = .ok (.anewarray index, 3)) (kk : ∀ (q : Nat) (H1 : Heap), cSt D base A s (es ++ [(q, .inl (dT 4, N', .inr (.inr (.inr (.inr (fun _ => none))))))]) H1 locs → W p l e R s m args below meth c H1 locs (cells + 1) (slots + N') Q (F0 m (pc + 3) ls (.ref q :: rest))) : W p l e R s m args below meth c H locs cells slots Q (F0 m pc ls (.int n :: rest)) := by
  refine va_newq hC.1 hC.2.1 hC.2.2.2.1 (hC.2.2.2.2.1 _ hcl) hC.2.2.2.2.2.2.2.2.2.2.1.1 hC.2.2.2.2.2.2.2.1 hS.1 hS.2.1 hS.2.2.1 hA.1 hn hN (by omega) hf.1 hf.2 hdg (fun q cA H1 hK1 hP hD hS1 => ?_)
  have e1 : cA = dT 4 := by
    obtain ⟨k1, c1, a1, a2, a3, a4⟩ := (hK1.2 6 (cA, .object "LeastFrames$Sheet") rfl).2
    obtain ⟨k2, c2, b1, b2, b3, b4⟩ := (hC.2.2.2.2.2.2.2.1.2 4 _ rfl).2
    exact Option.some.inj (a4.symm.trans b4)
  subst e1
  rw [List.append_assoc] at hP hD
  exact kk q H1 ⟨hP, hD, hS1, trivial⟩
theorem cAst_S {n a v : Nat} {vs : List Value} {f : Nat → Option Nat} {i : Int32} (hC : wCx own cc nL ret D dT p s m args meth c) (hA : wAz A s) (hS : cSt D base A s es H locs) (k0 k1 : Nat) (ha : es[k0]? = some (a, .inl (dT 4, n, .inr (.inr (.inr (.inr f)))))) (hv : es[k1]? = some (v, .inr (3, vs))) (hi : vp_in i n) (hdg : decode cc pc = .ok (.aastore, 1)) (kk : ∀ (H1 : Heap) (locs1 : List Loc), cSt D base A s (es.set k0 (a, .inl (dT 4, n, .inr (.inr (.inr (.inr (va_up f i.toNatClampNeg (some v)))))))) H1 locs1 → W p l e R s m args below meth c H1 locs1 cells slots Q (F0 m (pc + 1) ls (rest))) : W p l e R s m args below meth c H locs cells slots Q (F0 m pc ls (.ref v :: .int i :: .ref a :: rest)) := by
  refine va_astq hC.1 hC.2.1 hC.2.2.2.2.2.2.2.1 hS.1 hS.2.1 hS.2.2.1 (base.length + k0) 4 (base.length + k1) 3 (cW_at.trans ha) rfl (cW_at.trans hv) rfl hi hdg (fun H1 locs1 hP hD hS1 => ?_)
  rw [cW_set] at hP hD
  exact kk H1 locs1 ⟨hP, hD, hS1, trivial⟩
/-- a call of a constructor: the object is the last cell made -/
theorem cCall {es' : va_W} {z : Nat × va_E} {post : va_W → Prop} {bytes : ByteArray} {maxL index mc ms : Nat} {rm : Room} {y : MethodName} {As st0 : List Value} {q : Nat} (hC : wCx own cc nL ret D dT p s m args meth c) (hA : wAz A s) (hS : cSt D base A s es H locs) (hes : es = es' ++ [z]) (hM : Met l y (ws_ y bytes maxL none) rm (wPc D dT (fun e9 : va_W => (base ++ es') ++ e9) (fun _ => True) H.size [z] (.ref q :: As)) (va_Qv post (wB D (fun e9 : va_W => (base ++ es') ++ e9) (fun _ => True) (va_A ((base ++ es') ++ [z]) H.size)) (va_A ((base ++ es') ++ [z]) H.size)) mc ms (va_A ((base ++ es') ++ [z]) H.size)) (hg : Cond.code y bytes maxL none ∈ lw_all) (hini : Cond.initialized y.cls ∈ lw_all) (hlk : (Cond.methodLink own index y).before args s = true) (hins : Cond.instanceMethod y ∈ lw_all) (hyn : y.name = "<init>")
    (hc : wCal R own index y bytes maxL none rm mc ms As.length cells slots) (hl : ls.size = nL) (hst : st0 = As.reverse ++ .ref q :: rest) (hrest : (rest.map fun v => v.category).sum ≤ 8) (hdg : decode cc pc = .ok (.invokespecial index, 3))
    (kk : ∀ (e9 : va_W) (H1 : Heap) (locs1 : List Loc), post e9 → cSt D base A s (es' ++ e9) H1 locs1 → W p l e R s m args below meth c H1 locs1 (cells + mc) (slots + ms) Q (F0 m (pc + 3) ls (rest))) : W p l e R s m args below meth c H locs cells slots Q (F0 m pc ls (st0)) := by
  subst hes
  have hS' : wSt D (fun e9 : va_W => (base ++ es') ++ e9) (fun _ => True) A s [z] H locs := by
    have h1 : va_P D clL (base ++ (es' ++ [z])) H := hS.1
    have h2 : va_D A (base ++ (es' ++ [z])) := hS.2.1
    rw [← List.append_assoc] at h1 h2
    exact ⟨h1, h2, hS.2.2.1, trivial⟩
  refine va_callv (va_runI (As := As) (rest := rest) ⟨hC.1, hC.2.1, hC.2.2.1, hC.2.2.2.1, hC.2.2.2.2.1⟩ hM (cwI As.length hC.2.2.2.2.1 (lw_meth hg) rfl hc.1.1 hc.1.2 (hC.2.2.2.2.1 _ hini) hlk (hC.2.2.2.2.1 _ hins) hyn hc.2.1 hc.2.2.1) ⟨wBlind, wPreU hC.2.2.2.2.2.2.2 hA hS'⟩ rfl rfl hl hst (lv_room hrest) hdg hc.2.2.2) hS.2.2.1 (fun q _ h => wFree hA hS' q h) (wFree hA hS') (fun u t H1 locs1 ht _ hp hB _ _ hS1 => ?_)
  have h9 := wBack hA hS' ht hB hS1
  have h1 : va_P D clL ((base ++ es') ++ u) H1 := h9.1
  have h2 : va_D A ((base ++ es') ++ u) := h9.2.1
  rw [List.append_assoc] at h1 h2
  exact kk u H1 locs1 hp ⟨h1, h2, h9.2.2.1, trivial⟩
/-- a call of a constructor: the object is the last cell made -/
theorem cCallN {host : String} {es' : va_W} {z : Nat × va_E} {post : va_W → Prop} {bytes : ByteArray} {maxL index mc ms : Nat} {rm : Room} {y : MethodName} {As st0 : List Value} {q : Nat} (hC : wCx own cc nL ret D dT p s m args meth c) (hA : wAz A s) (hS : cSt D base A s es H locs) (hes : es = es' ++ [z]) (hM : Met l y (ws_ y bytes maxL none) rm (wPc D dT (fun e9 : va_W => (base ++ es') ++ e9) (fun _ => True) H.size [z] (.ref q :: As)) (va_Qv post (wB D (fun e9 : va_W => (base ++ es') ++ e9) (fun _ => True) (va_A ((base ++ es') ++ [z]) H.size)) (va_A ((base ++ es') ++ [z]) H.size)) mc ms (va_A ((base ++ es') ++ [z]) H.size)) (hg : Cond.code y bytes maxL none ∈ lw_all) (hini : Cond.initialized y.cls ∈ lw_all) (hlk : Cond.methodLinkNest own index y host ∈ nwL) (hins : Cond.instanceMethod y ∈ lw_all) (hyn : y.name = "<init>")
    (hc : wCal R own index y bytes maxL none rm mc ms As.length cells slots) (hl : ls.size = nL) (hst : st0 = As.reverse ++ .ref q :: rest) (hrest : (rest.map fun v => v.category).sum ≤ 8) (hdg : decode cc pc = .ok (.invokespecial index, 3))
    (kk : ∀ (e9 : va_W) (H1 : Heap) (locs1 : List Loc), post e9 → cSt D base A s (es' ++ e9) H1 locs1 → W p l e R s m args below meth c H1 locs1 (cells + mc) (slots + ms) Q (F0 m (pc + 3) ls (rest))) : W p l e R s m args below meth c H locs cells slots Q (F0 m pc ls (st0)) := by
  subst hes
  have hS' : wSt D (fun e9 : va_W => (base ++ es') ++ e9) (fun _ => True) A s [z] H locs := by
    have h1 : va_P D clL (base ++ (es' ++ [z])) H := hS.1
    have h2 : va_D A (base ++ (es' ++ [z])) := hS.2.1
    rw [← List.append_assoc] at h1 h2
    exact ⟨h1, h2, hS.2.2.1, trivial⟩
  refine va_callv (va_runIN (host := host) (As := As) (rest := rest) ⟨hC.1, hC.2.1, hC.2.2.1, hC.2.2.2.1, hC.2.2.2.2.1⟩ hM ⟨va_cnB As.length hC.2.2.2.2.1 (lw_meth hg) rfl hc.1.1 hc.1.2 (hC.2.2.2.2.2.2.2.2.1 _ hlk) (hC.2.2.2.2.1 _ hini) hc.2.1 hc.2.2.1, hyn, hC.2.2.2.2.1 _ hins⟩ ⟨wBlind, wPreU hC.2.2.2.2.2.2.2 hA hS'⟩ rfl rfl hl hst (lv_room hrest) hdg hc.2.2.2) hS.2.2.1 (fun q _ h => wFree hA hS' q h) (wFree hA hS') (fun u t H1 locs1 ht _ hp hB _ _ hS1 => ?_)
  have h9 := wBack hA hS' ht hB hS1
  have h1 : va_P D clL ((base ++ es') ++ u) H1 := h9.1
  have h2 : va_D A ((base ++ es') ++ u) := h9.2.1
  rw [List.append_assoc] at h1 h2
  exact kk u H1 locs1 hp ⟨h1, h2, h9.2.2.1, trivial⟩
theorem cGet {ref C : String} {T : u_T} {N ci index a : Nat} {fs : List Value} {v : Value} (hC : wCx own cc nL ret D dT p s m args meth c) (hA : wAz A s) (hS : cSt D base A s es H locs) (k0 : Nat) (he : es[k0]? = some (a, .inr (ci, fs))) (hin : ∀ w ∈ u_ws C T N, w ∈ lw_all) (hc : clL[ci]? = some (C, T, N)) (k : Nat) (hk : k < N) (hlink : Cond.fieldLink own index ref (T k).2.1 (T k).2.2.1 ∈ lw_all) (hsame : ∀ x, s.fieldFound? (T k).1 (T k).2.1 (T k).2.2.1 = some x → s.fieldFound? ref (T k).2.1 (T k).2.2.1 = some x) (hv : fs[k]? = some v) (hdg : decode cc pc = .ok (.getfield index, 3)) (kk : W p l e R s m args below meth c H locs cells slots Q (F0 m (pc + 3) ls (v :: rest))) : W p l e R s m args below meth c H locs cells slots Q (F0 m pc ls (.ref a :: rest)) :=
  va_get hC.1 hC.2.1 hC.2.2.2.2.1 hin hC.2.2.2.1 hC.2.2.2.2.2.2.2.1 hS.1 (base.length + k0) (cW_at.trans he) hc k hk (hC.2.2.2.2.1 _ hlink) hsame hv hdg kk
theorem cIst {n a : Nat} {f : Nat → Int32} {i x : Int32} (hC : wCx own cc nL ret D dT p s m args meth c) (hA : wAz A s) (hS : cSt D base A s es H locs) (k0 : Nat) (he : es[k0]? = some (a, .inl (dT 0, n, .inl f))) (hi : vp_in i n) (hdg : decode cc pc = .ok (.iastore, 1)) (kk : ∀ (H1 : Heap) (locs1 : List Loc), cSt D base A s (es.set k0 (a, .inl (dT 0, n, .inl (upd f i.toNatClampNeg x)))) H1 locs1 → W p l e R s m args below meth c H1 locs1 cells slots Q (F0 m (pc + 1) ls (rest))) : W p l e R s m args below meth c H locs cells slots Q (F0 m pc ls (.int x :: .int i :: .ref a :: rest)) := by
  refine va_iast hC.1 hC.2.1 hC.2.2.2.2.2.2.2.1 hS.1 hS.2.1 hS.2.2.1 (base.length + k0) 0 (cW_at.trans he) rfl hi hdg (fun H1 locs1 hP hD hS1 => ?_)
  rw [cW_set] at hP hD
  exact kk H1 locs1 ⟨hP, hD, hS1, trivial⟩
/-- an array of arrays: ten of eleven longs -/
theorem cMulti (hC : wCx own cc nL ret D dT p s m args meth c) (hA : wAz A s) (hS : cSt D base A s es H locs) (hcl : Cond.classLink own 15 "[[J" ∈ lw_all) (hf : cells + 11 ≤ R.cells ∧ slots + 120 ≤ R.slots) (hdg : decode cc pc = .ok (.multianewarray 15 2, 4)) (kk : ∀ (q : Nat) (ad : Nat → Nat) (H1 : Heap), cSt D base A s (es ++ ((q, .inl (dT 5, 10, .inr (.inr (.inr (.inr (fun j => some (ad j))))))) :: (List.range 10).map (fun j => (ad j, .inl (dT 1, 11, .inr (.inl (fun _ => 0))))))) H1 locs → W p l e R s m args below meth c H1 locs (cells + 11) (slots + 120) Q (F0 m (pc + 4) ls (.ref q :: rest))) : W p l e R s m args below meth c H locs cells slots Q (F0 m pc ls (.int 11 :: .int 10 :: rest)) := sorry
end CONS
abbrev rmX3_init : Room := { frames := 2, cells := 0, slots := 0, locals := 30 }
theorem hd_X3_init : yX3_init.cls ≠ "java/lang/invoke/MethodHandle" ∧ yX3_init.cls ≠ "java/lang/invoke/VarHandle" ∧ (parseMethodDescriptor yX3_init.desc).map (fun d => d.parameters.length) = some 0 := by decide +kernel
set_option maxHeartbeats 4000000 in
set_option maxRecDepth 100000 in
theorem met_X3_init (l : Launch) (D : va_G) (dT : Nat → ClassId) (base : va_W) (q sz : Nat) : Met l yX3_init (ws_ yX3_init cX3_init 1 none) rmX3_init (wPc D dT (fun es : va_W => base ++ es) (fun _ => True) sz [(q, .inr (3, [.null]))] [.ref q]) (va_Qv (fun es => es = [(q, .inr (3, [.null]))]) (wB D (fun es : va_W => base ++ es) (fun _ => True) (va_A (base ++ [(q, .inr (3, [.null]))]) sz)) (va_A (base ++ [(q, .inr (3, [.null]))]) sz)) 0 0 (va_A (base ++ [(q, .inr (3, [.null]))]) sz) := by
  refine wEnt (y := yX3_init) (cc := cX3_init) (maxL := 1) (ret := none) (av := [.ref q]) (x := [(q, .inr (3, [.null]))]) (Wd := (fun es : va_W => base ++ es)) (Q := fun A => va_Qv (fun es => es = [(q, .inr (3, [.null]))]) (wB D (fun es : va_W => base ++ es) (fun _ => True) A) A) (by decide) (Nat.le_of_ble_eq_true rfl) (fun p e s m below meth c A ls hC hin hA hS hl => ?_) sz
  have hx := hC.1
  have hb := hC.2.1
  have hown := hC.2.2.2.1
  have hts := hC.2.2.2.2.1
  have hl : lv_has ls 1 [(0, .ref q)] := hl
  generalize hH : s.heap = H at hS ⊢
  have hS : cSt D base A s [(q, .inr (3, [.null]))] H [] := by rw [← hH] at hS ⊢; exact hS
  refine lv_aload_n hx hb dX3_init_0 rfl (lv_at hl 0 rfl) ?_
  refine W.objInit hx hb hown (hts _ q186) (hts _ q113) (hts _ q114) rfl (by rw [hC.2.2.1]; exact hl.1) rfl dX3_init_1 (Nat.le_of_ble_eq_true rfl) (Nat.le_of_ble_eq_true rfl) ?_
  refine W.eq (g2 := F0 m 4 ls []) rfl ?_
  exact wRetv hC hS rfl (Nat.le_of_ble_eq_true rfl) (Nat.le_of_ble_eq_true rfl) dX3_init_4
abbrev rmX1_init : Room := { frames := 2, cells := 2, slots := 4, locals := 30 }
theorem hd_X1_init : yX1_init.cls ≠ "java/lang/invoke/MethodHandle" ∧ yX1_init.cls ≠ "java/lang/invoke/VarHandle" ∧ (parseMethodDescriptor yX1_init.desc).map (fun d => d.parameters.length) = some 0 := by decide +kernel
set_option maxHeartbeats 4000000 in
set_option maxRecDepth 100000 in
theorem met_X1_init (l : Launch) (D : va_G) (dT : Nat → ClassId) (base : va_W) (q sz : Nat) : Met l yX1_init (ws_ yX1_init cX1_init 1 none) rmX1_init (wPc D dT (fun es : va_W => base ++ es) (fun _ => True) sz [(q, .inr (1, [.int 0, .int 0, .int 0, .null, .null]))] [.ref q]) (va_Qv (fun es => ∃ a1 a2 : Nat, es = [(q, .inr (1, [.int 0, .int 0, .int 0, .ref a1, .ref a2])), (a1, .inl (dT 0, 2, .inl (fun _ => 0))), (a2, .inl (dT 0, 2, .inl (fun _ => 0)))]) (wB D (fun es : va_W => base ++ es) (fun _ => True) (va_A (base ++ [(q, .inr (1, [.int 0, .int 0, .int 0, .null, .null]))]) sz)) (va_A (base ++ [(q, .inr (1, [.int 0, .int 0, .int 0, .null, .null]))]) sz)) 2 4 (va_A (base ++ [(q, .inr (1, [.int 0, .int 0, .int 0, .null, .null]))]) sz) := by
  refine wEnt (y := yX1_init) (cc := cX1_init) (maxL := 1) (ret := none) (av := [.ref q]) (x := [(q, .inr (1, [.int 0, .int 0, .int 0, .null, .null]))]) (Wd := (fun es : va_W => base ++ es)) (Q := fun A => va_Qv (fun es => ∃ a1 a2 : Nat, es = [(q, .inr (1, [.int 0, .int 0, .int 0, .ref a1, .ref a2])), (a1, .inl (dT 0, 2, .inl (fun _ => 0))), (a2, .inl (dT 0, 2, .inl (fun _ => 0)))]) (wB D (fun es : va_W => base ++ es) (fun _ => True) A) A) (by decide) (Nat.le_of_ble_eq_true rfl) (fun p e s m below meth c A ls hC hin hA hS hl => ?_) sz
  have hx := hC.1
  have hb := hC.2.1
  have hown := hC.2.2.2.1
  have hts := hC.2.2.2.2.1
  have hl : lv_has ls 1 [(0, .ref q)] := hl
  generalize hH : s.heap = H at hS ⊢
  have hS : cSt D base A s [(q, .inr (1, [.int 0, .int 0, .int 0, .null, .null]))] H [] := by rw [← hH] at hS ⊢; exact hS
  refine lv_aload_n hx hb dX1_init_0 rfl (lv_at hl 0 rfl) ?_
  refine W.objInit hx hb hown (hts _ q121) (hts _ q113) (hts _ q114) rfl (by rw [hC.2.2.1]; exact hl.1) rfl dX1_init_1 (Nat.le_of_ble_eq_true rfl) (Nat.le_of_ble_eq_true rfl) ?_
  refine W.eq (g2 := F0 m 4 ls []) rfl ?_
  refine lv_aload_n hx hb dX1_init_4 rfl (lv_at hl 0 rfl) ?_
  refine lv_iconst (v := 2) hx hb dX1_init_5 (by decide) ?_
  refine cArr_int (N' := 2) hC hA hS (by decide) (by decide) (by decide) ⟨(Nat.le_of_ble_eq_true rfl), (Nat.le_of_ble_eq_true rfl)⟩ dX1_init_6 (fun q1 H hS => ?_)
  have hS : cSt D base A s [(q, .inr (1, [.int 0, .int 0, .int 0, .null, .null])), (q1, .inl (dT 0, 2, .inl (fun _ => 0)))] H [] := hS
  refine cPutF hC hA hS 0 rfl in_X1 tyX1 tyX1_ok nmX1 rfl 3 (by decide) q128 (fun _ h => h) rfl hin rfl (show parseFieldDescriptor (TX1 3).2.2.1 = some (tyX1 3) from tyX1_ok 3 (by decide)) rfl rfl (Nat.le_of_ble_eq_true rfl) dX1_init_8 (fun H locs hS => ?_)
  have hS : cSt D base A s [(q, .inr (1, [.int 0, .int 0, .int 0, .ref q1, .null])), (q1, .inl (dT 0, 2, .inl (fun _ => 0)))] H locs := hS
  refine lv_aload_n hx hb dX1_init_11 rfl (lv_at hl 0 rfl) ?_
  refine lv_iconst (v := 2) hx hb dX1_init_12 (by decide) ?_
  refine cArr_int (N' := 2) hC hA hS (by decide) (by decide) (by decide) ⟨(Nat.le_of_ble_eq_true rfl), (Nat.le_of_ble_eq_true rfl)⟩ dX1_init_13 (fun q2 H hS => ?_)
  have hS : cSt D base A s [(q, .inr (1, [.int 0, .int 0, .int 0, .ref q1, .null])), (q1, .inl (dT 0, 2, .inl (fun _ => 0))), (q2, .inl (dT 0, 2, .inl (fun _ => 0)))] H locs := hS
  refine cPutF hC hA hS 0 rfl in_X1 tyX1 tyX1_ok nmX1 rfl 4 (by decide) q131 (fun _ h => h) rfl hin rfl (show parseFieldDescriptor (TX1 4).2.2.1 = some (tyX1 4) from tyX1_ok 4 (by decide)) rfl rfl (Nat.le_of_ble_eq_true rfl) dX1_init_15 (fun H locs hS => ?_)
  have hS : cSt D base A s [(q, .inr (1, [.int 0, .int 0, .int 0, .ref q1, .ref q2])), (q1, .inl (dT 0, 2, .inl (fun _ => 0))), (q2, .inl (dT 0, 2, .inl (fun _ => 0)))] H locs := hS
  exact wRetv hC hS ⟨q1, q2, rfl⟩ (Nat.le_of_ble_eq_true rfl) (Nat.le_of_ble_eq_true rfl) dX1_init_18
abbrev rmX2_init : Room := { frames := 2, cells := 14, slots := 150, locals := 30 }
theorem hd_X2_init : yX2_init.cls ≠ "java/lang/invoke/MethodHandle" ∧ yX2_init.cls ≠ "java/lang/invoke/VarHandle" ∧ (parseMethodDescriptor yX2_init.desc).map (fun d => d.parameters.length) = some 1 := by decide +kernel
set_option maxHeartbeats 4000000 in
set_option maxRecDepth 100000 in
theorem met_X2_init (l : Launch) (D : va_G) (dT : Nat → ClassId) (base : va_W) (q t sz : Nat) : Met l yX2_init (ws_ yX2_init cX2_init 2 none) rmX2_init (wPc D dT (fun es : va_W => base ++ es) (fun _ => True) sz [(q, .inr (2, [.null, .null, .null, .null, .int 0, .long 0, .null]))] [.ref q, .ref t]) (va_Qv (fun es => ∃ (r w b g : Nat) (ad : Nat → Nat), es = (q, .inr (2, [.ref r, .ref w, .ref b, .ref g, .int 0, .long 0, .ref t])) :: (r, .inl (dT 5, 10, .inr (.inr (.inr (.inr (fun j => some (ad j))))))) :: ((List.range 10).map (fun j => (ad j, .inl (dT 1, 11, .inr (.inl (fun _ => 0))))) ++ [(w, .inl (dT 0, 10, .inl (fun _ => 0))), (b, .inl (dT 0, 10, .inl (fun _ => 0))), (g, .inl (dT 0, 10, .inl (fun _ => 0)))])) (wB D (fun es : va_W => base ++ es) (fun _ => True) (va_A (base ++ [(q, .inr (2, [.null, .null, .null, .null, .int 0, .long 0, .null]))]) sz)) (va_A (base ++ [(q, .inr (2, [.null, .null, .null, .null, .int 0, .long 0, .null]))]) sz)) 14 150 (va_A (base ++ [(q, .inr (2, [.null, .null, .null, .null, .int 0, .long 0, .null]))]) sz) := by
  refine wEnt (y := yX2_init) (cc := cX2_init) (maxL := 2) (ret := none) (av := [.ref q, .ref t]) (x := [(q, .inr (2, [.null, .null, .null, .null, .int 0, .long 0, .null]))]) (Wd := (fun es : va_W => base ++ es)) (Q := fun A => va_Qv (fun es => ∃ (r w b g : Nat) (ad : Nat → Nat), es = (q, .inr (2, [.ref r, .ref w, .ref b, .ref g, .int 0, .long 0, .ref t])) :: (r, .inl (dT 5, 10, .inr (.inr (.inr (.inr (fun j => some (ad j))))))) :: ((List.range 10).map (fun j => (ad j, .inl (dT 1, 11, .inr (.inl (fun _ => 0))))) ++ [(w, .inl (dT 0, 10, .inl (fun _ => 0))), (b, .inl (dT 0, 10, .inl (fun _ => 0))), (g, .inl (dT 0, 10, .inl (fun _ => 0)))])) (wB D (fun es : va_W => base ++ es) (fun _ => True) A) A) (by decide) (Nat.le_of_ble_eq_true rfl) (fun p e s m below meth c A ls hC hin hA hS hl => ?_) sz
  have hx := hC.1
  have hb := hC.2.1
  have hown := hC.2.2.2.1
  have hts := hC.2.2.2.2.1
  have hl : lv_has ls 2 [(0, .ref q), (1, .ref t)] := hl
  generalize hH : s.heap = H at hS ⊢
  have hS : cSt D base A s [(q, .inr (2, [.null, .null, .null, .null, .int 0, .long 0, .null]))] H [] := by rw [← hH] at hS ⊢; exact hS
  refine lv_aload_n hx hb dX2_init_0 rfl (lv_at hl 0 rfl) ?_
  refine lv_aload_n hx hb dX2_init_1 rfl (lv_at hl 1 rfl) ?_
  refine cPutF hC hA hS 0 rfl in_X2 tyX2 tyX2_ok nmX2 rfl 6 (by decide) q163 (fun _ h => h) rfl hin rfl (show parseFieldDescriptor (TX2 6).2.2.1 = some (tyX2 6) from tyX2_ok 6 (by decide)) rfl rfl (Nat.le_of_ble_eq_true rfl) dX2_init_2 (fun H locs hS => ?_)
  have hS : cSt D base A s [(q, .inr (2, [.null, .null, .null, .null, .int 0, .long 0, .ref t]))] H locs := hS
  refine lv_aload_n hx hb dX2_init_5 rfl (lv_at hl 0 rfl) ?_
  refine W.objInit hx hb hown (hts _ q150) (hts _ q113) (hts _ q114) rfl (by rw [hC.2.2.1]; exact hl.1) rfl dX2_init_6 (Nat.le_of_ble_eq_true rfl) (Nat.le_of_ble_eq_true rfl) ?_
  refine W.eq (g2 := F0 m 9 ls []) rfl ?_
  refine lv_aload_n hx hb dX2_init_9 rfl (lv_at hl 0 rfl) ?_
  refine lv_bipush (v := 10) hx hb dX2_init_10 (by decide) ?_
  refine lv_bipush (v := 11) hx hb dX2_init_12 (by decide) ?_
  refine cMulti hC hA hS q151 ⟨(Nat.le_of_ble_eq_true rfl), (Nat.le_of_ble_eq_true rfl)⟩ dX2_init_14 (fun q1 ad2 H hS => ?_)
  have hS : cSt D base A s [(q, .inr (2, [.null, .null, .null, .null, .int 0, .long 0, .ref t])), (q1, .inl (dT 5, 10, .inr (.inr (.inr (.inr (fun j => some (ad2 j))))))), ((ad2 0), .inl (dT 1, 11, .inr (.inl (fun _ => 0)))), ((ad2 1), .inl (dT 1, 11, .inr (.inl (fun _ => 0)))), ((ad2 2), .inl (dT 1, 11, .inr (.inl (fun _ => 0)))), ((ad2 3), .inl (dT 1, 11, .inr (.inl (fun _ => 0)))), ((ad2 4), .inl (dT 1, 11, .inr (.inl (fun _ => 0)))), ((ad2 5), .inl (dT 1, 11, .inr (.inl (fun _ => 0)))), ((ad2 6), .inl (dT 1, 11, .inr (.inl (fun _ => 0)))), ((ad2 7), .inl (dT 1, 11, .inr (.inl (fun _ => 0)))), ((ad2 8), .inl (dT 1, 11, .inr (.inl (fun _ => 0)))), ((ad2 9), .inl (dT 1, 11, .inr (.inl (fun _ => 0))))] H locs := hS
  refine cPutF hC hA hS 0 rfl in_X2 tyX2 tyX2_ok nmX2 rfl 0 (by decide) q153 (fun _ h => h) rfl hin rfl (show parseFieldDescriptor (TX2 0).2.2.1 = some (tyX2 0) from tyX2_ok 0 (by decide)) rfl rfl (Nat.le_of_ble_eq_true rfl) dX2_init_18 (fun H locs hS => ?_)
  have hS : cSt D base A s [(q, .inr (2, [.ref q1, .null, .null, .null, .int 0, .long 0, .ref t])), (q1, .inl (dT 5, 10, .inr (.inr (.inr (.inr (fun j => some (ad2 j))))))), ((ad2 0), .inl (dT 1, 11, .inr (.inl (fun _ => 0)))), ((ad2 1), .inl (dT 1, 11, .inr (.inl (fun _ => 0)))), ((ad2 2), .inl (dT 1, 11, .inr (.inl (fun _ => 0)))), ((ad2 3), .inl (dT 1, 11, .inr (.inl (fun _ => 0)))), ((ad2 4), .inl (dT 1, 11, .inr (.inl (fun _ => 0)))), ((ad2 5), .inl (dT 1, 11, .inr (.inl (fun _ => 0)))), ((ad2 6), .inl (dT 1, 11, .inr (.inl (fun _ => 0)))), ((ad2 7), .inl (dT 1, 11, .inr (.inl (fun _ => 0)))), ((ad2 8), .inl (dT 1, 11, .inr (.inl (fun _ => 0)))), ((ad2 9), .inl (dT 1, 11, .inr (.inl (fun _ => 0))))] H locs := hS
  refine lv_aload_n hx hb dX2_init_21 rfl (lv_at hl 0 rfl) ?_
  refine lv_bipush (v := 10) hx hb dX2_init_22 (by decide) ?_
  refine cArr_int (N' := 10) hC hA hS (by decide) (by decide) (by decide) ⟨(Nat.le_of_ble_eq_true rfl), (Nat.le_of_ble_eq_true rfl)⟩ dX2_init_24 (fun q3 H hS => ?_)
  have hS : cSt D base A s [(q, .inr (2, [.ref q1, .null, .null, .null, .int 0, .long 0, .ref t])), (q1, .inl (dT 5, 10, .inr (.inr (.inr (.inr (fun j => some (ad2 j))))))), ((ad2 0), .inl (dT 1, 11, .inr (.inl (fun _ => 0)))), ((ad2 1), .inl (dT 1, 11, .inr (.inl (fun _ => 0)))), ((ad2 2), .inl (dT 1, 11, .inr (.inl (fun _ => 0)))), ((ad2 3), .inl (dT 1, 11, .inr (.inl (fun _ => 0)))), ((ad2 4), .inl (dT 1, 11, .inr (.inl (fun _ => 0)))), ((ad2 5), .inl (dT 1, 11, .inr (.inl (fun _ => 0)))), ((ad2 6), .inl (dT 1, 11, .inr (.inl (fun _ => 0)))), ((ad2 7), .inl (dT 1, 11, .inr (.inl (fun _ => 0)))), ((ad2 8), .inl (dT 1, 11, .inr (.inl (fun _ => 0)))), ((ad2 9), .inl (dT 1, 11, .inr (.inl (fun _ => 0)))), (q3, .inl (dT 0, 10, .inl (fun _ => 0)))] H locs := hS
  refine cPutF hC hA hS 0 rfl in_X2 tyX2 tyX2_ok nmX2 rfl 1 (by decide) q155 (fun _ h => h) rfl hin rfl (show parseFieldDescriptor (TX2 1).2.2.1 = some (tyX2 1) from tyX2_ok 1 (by decide)) rfl rfl (Nat.le_of_ble_eq_true rfl) dX2_init_26 (fun H locs hS => ?_)
  have hS : cSt D base A s [(q, .inr (2, [.ref q1, .ref q3, .null, .null, .int 0, .long 0, .ref t])), (q1, .inl (dT 5, 10, .inr (.inr (.inr (.inr (fun j => some (ad2 j))))))), ((ad2 0), .inl (dT 1, 11, .inr (.inl (fun _ => 0)))), ((ad2 1), .inl (dT 1, 11, .inr (.inl (fun _ => 0)))), ((ad2 2), .inl (dT 1, 11, .inr (.inl (fun _ => 0)))), ((ad2 3), .inl (dT 1, 11, .inr (.inl (fun _ => 0)))), ((ad2 4), .inl (dT 1, 11, .inr (.inl (fun _ => 0)))), ((ad2 5), .inl (dT 1, 11, .inr (.inl (fun _ => 0)))), ((ad2 6), .inl (dT 1, 11, .inr (.inl (fun _ => 0)))), ((ad2 7), .inl (dT 1, 11, .inr (.inl (fun _ => 0)))), ((ad2 8), .inl (dT 1, 11, .inr (.inl (fun _ => 0)))), ((ad2 9), .inl (dT 1, 11, .inr (.inl (fun _ => 0)))), (q3, .inl (dT 0, 10, .inl (fun _ => 0)))] H locs := hS
  refine lv_aload_n hx hb dX2_init_29 rfl (lv_at hl 0 rfl) ?_
  refine lv_bipush (v := 10) hx hb dX2_init_30 (by decide) ?_
  refine cArr_int (N' := 10) hC hA hS (by decide) (by decide) (by decide) ⟨(Nat.le_of_ble_eq_true rfl), (Nat.le_of_ble_eq_true rfl)⟩ dX2_init_32 (fun q4 H hS => ?_)
  have hS : cSt D base A s [(q, .inr (2, [.ref q1, .ref q3, .null, .null, .int 0, .long 0, .ref t])), (q1, .inl (dT 5, 10, .inr (.inr (.inr (.inr (fun j => some (ad2 j))))))), ((ad2 0), .inl (dT 1, 11, .inr (.inl (fun _ => 0)))), ((ad2 1), .inl (dT 1, 11, .inr (.inl (fun _ => 0)))), ((ad2 2), .inl (dT 1, 11, .inr (.inl (fun _ => 0)))), ((ad2 3), .inl (dT 1, 11, .inr (.inl (fun _ => 0)))), ((ad2 4), .inl (dT 1, 11, .inr (.inl (fun _ => 0)))), ((ad2 5), .inl (dT 1, 11, .inr (.inl (fun _ => 0)))), ((ad2 6), .inl (dT 1, 11, .inr (.inl (fun _ => 0)))), ((ad2 7), .inl (dT 1, 11, .inr (.inl (fun _ => 0)))), ((ad2 8), .inl (dT 1, 11, .inr (.inl (fun _ => 0)))), ((ad2 9), .inl (dT 1, 11, .inr (.inl (fun _ => 0)))), (q3, .inl (dT 0, 10, .inl (fun _ => 0))), (q4, .inl (dT 0, 10, .inl (fun _ => 0)))] H locs := hS
  refine cPutF hC hA hS 0 rfl in_X2 tyX2 tyX2_ok nmX2 rfl 2 (by decide) q156 (fun _ h => h) rfl hin rfl (show parseFieldDescriptor (TX2 2).2.2.1 = some (tyX2 2) from tyX2_ok 2 (by decide)) rfl rfl (Nat.le_of_ble_eq_true rfl) dX2_init_34 (fun H locs hS => ?_)
  have hS : cSt D base A s [(q, .inr (2, [.ref q1, .ref q3, .ref q4, .null, .int 0, .long 0, .ref t])), (q1, .inl (dT 5, 10, .inr (.inr (.inr (.inr (fun j => some (ad2 j))))))), ((ad2 0), .inl (dT 1, 11, .inr (.inl (fun _ => 0)))), ((ad2 1), .inl (dT 1, 11, .inr (.inl (fun _ => 0)))), ((ad2 2), .inl (dT 1, 11, .inr (.inl (fun _ => 0)))), ((ad2 3), .inl (dT 1, 11, .inr (.inl (fun _ => 0)))), ((ad2 4), .inl (dT 1, 11, .inr (.inl (fun _ => 0)))), ((ad2 5), .inl (dT 1, 11, .inr (.inl (fun _ => 0)))), ((ad2 6), .inl (dT 1, 11, .inr (.inl (fun _ => 0)))), ((ad2 7), .inl (dT 1, 11, .inr (.inl (fun _ => 0)))), ((ad2 8), .inl (dT 1, 11, .inr (.inl (fun _ => 0)))), ((ad2 9), .inl (dT 1, 11, .inr (.inl (fun _ => 0)))), (q3, .inl (dT 0, 10, .inl (fun _ => 0))), (q4, .inl (dT 0, 10, .inl (fun _ => 0)))] H locs := hS
  refine lv_aload_n hx hb dX2_init_37 rfl (lv_at hl 0 rfl) ?_
  refine lv_bipush (v := 10) hx hb dX2_init_38 (by decide) ?_
  refine cArr_int (N' := 10) hC hA hS (by decide) (by decide) (by decide) ⟨(Nat.le_of_ble_eq_true rfl), (Nat.le_of_ble_eq_true rfl)⟩ dX2_init_40 (fun q5 H hS => ?_)
  have hS : cSt D base A s [(q, .inr (2, [.ref q1, .ref q3, .ref q4, .null, .int 0, .long 0, .ref t])), (q1, .inl (dT 5, 10, .inr (.inr (.inr (.inr (fun j => some (ad2 j))))))), ((ad2 0), .inl (dT 1, 11, .inr (.inl (fun _ => 0)))), ((ad2 1), .inl (dT 1, 11, .inr (.inl (fun _ => 0)))), ((ad2 2), .inl (dT 1, 11, .inr (.inl (fun _ => 0)))), ((ad2 3), .inl (dT 1, 11, .inr (.inl (fun _ => 0)))), ((ad2 4), .inl (dT 1, 11, .inr (.inl (fun _ => 0)))), ((ad2 5), .inl (dT 1, 11, .inr (.inl (fun _ => 0)))), ((ad2 6), .inl (dT 1, 11, .inr (.inl (fun _ => 0)))), ((ad2 7), .inl (dT 1, 11, .inr (.inl (fun _ => 0)))), ((ad2 8), .inl (dT 1, 11, .inr (.inl (fun _ => 0)))), ((ad2 9), .inl (dT 1, 11, .inr (.inl (fun _ => 0)))), (q3, .inl (dT 0, 10, .inl (fun _ => 0))), (q4, .inl (dT 0, 10, .inl (fun _ => 0))), (q5, .inl (dT 0, 10, .inl (fun _ => 0)))] H locs := hS
  refine cPutF hC hA hS 0 rfl in_X2 tyX2 tyX2_ok nmX2 rfl 3 (by decide) q158 (fun _ h => h) rfl hin rfl (show parseFieldDescriptor (TX2 3).2.2.1 = some (tyX2 3) from tyX2_ok 3 (by decide)) rfl rfl (Nat.le_of_ble_eq_true rfl) dX2_init_42 (fun H locs hS => ?_)
  have hS : cSt D base A s [(q, .inr (2, [.ref q1, .ref q3, .ref q4, .ref q5, .int 0, .long 0, .ref t])), (q1, .inl (dT 5, 10, .inr (.inr (.inr (.inr (fun j => some (ad2 j))))))), ((ad2 0), .inl (dT 1, 11, .inr (.inl (fun _ => 0)))), ((ad2 1), .inl (dT 1, 11, .inr (.inl (fun _ => 0)))), ((ad2 2), .inl (dT 1, 11, .inr (.inl (fun _ => 0)))), ((ad2 3), .inl (dT 1, 11, .inr (.inl (fun _ => 0)))), ((ad2 4), .inl (dT 1, 11, .inr (.inl (fun _ => 0)))), ((ad2 5), .inl (dT 1, 11, .inr (.inl (fun _ => 0)))), ((ad2 6), .inl (dT 1, 11, .inr (.inl (fun _ => 0)))), ((ad2 7), .inl (dT 1, 11, .inr (.inl (fun _ => 0)))), ((ad2 8), .inl (dT 1, 11, .inr (.inl (fun _ => 0)))), ((ad2 9), .inl (dT 1, 11, .inr (.inl (fun _ => 0)))), (q3, .inl (dT 0, 10, .inl (fun _ => 0))), (q4, .inl (dT 0, 10, .inl (fun _ => 0))), (q5, .inl (dT 0, 10, .inl (fun _ => 0)))] H locs := hS
  exact wRetv hC hS ⟨q1, q3, q4, q5, ad2, rfl⟩ (Nat.le_of_ble_eq_true rfl) (Nat.le_of_ble_eq_true rfl) dX2_init_45
def M00 : MS := ((fun _ => 0), (fun _ => 0), (fun _ => 0), (fun _ => 0), (fun _ => 0), 0, 0, (fun _ => 0), (fun _ => 0), 0, (fun _ => 0), (fun _ => 0), (fun _ => 0), 0, 0, 0, 0, (fun _ => 0), (fun _ => 0), (fun _ => 0), (fun _ => 0), 0)
def M0 : MS := sM_forms M00 (upd (upd (upd (upd (fun _ => 0) (0 : Int32).toNatClampNeg (-1)) (1 : Int32).toNatClampNeg (-1)) (2 : Int32).toNatClampNeg (-1)) (3 : Int32).toNatClampNeg (-1))
abbrev rmX4_init : Room := { frames := 2, cells := 14, slots := 3435, locals := 40 }
theorem hd_X4_init : yX4_init.cls ≠ "java/lang/invoke/MethodHandle" ∧ yX4_init.cls ≠ "java/lang/invoke/VarHandle" ∧ (parseMethodDescriptor yX4_init.desc).map (fun d => d.parameters.length) = some 0 := by decide +kernel
set_option maxHeartbeats 4000000 in
set_option maxRecDepth 100000 in
theorem met_X4_init (l : Launch) (D : va_G) (dT : Nat → ClassId) (base : va_W) (q sz : Nat) : Met l yX4_init (ws_ yX4_init cX4_init 2 none) rmX4_init (wPc D dT (fun es : va_W => base ++ es) (fun _ => True) sz [(q, .inr (4, [.null, .null, .null, .null, .null, .int 0, .int 0, .null, .null, .int 0, .null, .null, .null, .int 0, .int 0, .int 0, .int 0, .null, .null, .null, .null, .int 0]))] [.ref q]) (va_Qv (fun es => ∃ a : Nat → Nat, a 0 = q ∧ es = MW dT a M0) (wB D (fun es : va_W => base ++ es) (fun _ => True) (va_A (base ++ [(q, .inr (4, [.null, .null, .null, .null, .null, .int 0, .int 0, .null, .null, .int 0, .null, .null, .null, .int 0, .int 0, .int 0, .int 0, .null, .null, .null, .null, .int 0]))]) sz)) (va_A (base ++ [(q, .inr (4, [.null, .null, .null, .null, .null, .int 0, .int 0, .null, .null, .int 0, .null, .null, .null, .int 0, .int 0, .int 0, .int 0, .null, .null, .null, .null, .int 0]))]) sz)) 14 3435 (va_A (base ++ [(q, .inr (4, [.null, .null, .null, .null, .null, .int 0, .int 0, .null, .null, .int 0, .null, .null, .null, .int 0, .int 0, .int 0, .int 0, .null, .null, .null, .null, .int 0]))]) sz) := by
  refine wEnt (y := yX4_init) (cc := cX4_init) (maxL := 2) (ret := none) (av := [.ref q]) (x := [(q, .inr (4, [.null, .null, .null, .null, .null, .int 0, .int 0, .null, .null, .int 0, .null, .null, .null, .int 0, .int 0, .int 0, .int 0, .null, .null, .null, .null, .int 0]))]) (Wd := (fun es : va_W => base ++ es)) (Q := fun A => va_Qv (fun es => ∃ a : Nat → Nat, a 0 = q ∧ es = MW dT a M0) (wB D (fun es : va_W => base ++ es) (fun _ => True) A) A) (by decide) (Nat.le_of_ble_eq_true rfl) (fun p e s m below meth c A ls hC hin hA hS hl => ?_) sz
  have hx := hC.1
  have hb := hC.2.1
  have hown := hC.2.2.2.1
  have hts := hC.2.2.2.2.1
  have hl : lv_has ls 2 [(0, .ref q)] := hl
  generalize hH : s.heap = H at hS ⊢
  have hS : cSt D base A s [(q, .inr (4, [.null, .null, .null, .null, .null, .int 0, .int 0, .null, .null, .int 0, .null, .null, .null, .int 0, .int 0, .int 0, .int 0, .null, .null, .null, .null, .int 0]))] H [] := by rw [← hH] at hS ⊢; exact hS
  refine lv_aload_n hx hb dX4_init_0 rfl (lv_at hl 0 rfl) ?_
  refine W.objInit hx hb hown (hts _ q934) (hts _ q113) (hts _ q114) rfl (by rw [hC.2.2.1]; exact hl.1) rfl dX4_init_1 (Nat.le_of_ble_eq_true rfl) (Nat.le_of_ble_eq_true rfl) ?_
  refine W.eq (g2 := F0 m 4 ls []) rfl ?_
  refine lv_aload_n hx hb dX4_init_4 rfl (lv_at hl 0 rfl) ?_
  refine lv_iconst (v := 5) hx hb dX4_init_5 (by decide) ?_
  refine cArr_int (N' := 5) hC hA hS (by decide) (by decide) (by decide) ⟨(Nat.le_of_ble_eq_true rfl), (Nat.le_of_ble_eq_true rfl)⟩ dX4_init_6 (fun q1 H hS => ?_)
  have hS : cSt D base A s [(q, .inr (4, [.null, .null, .null, .null, .null, .int 0, .int 0, .null, .null, .int 0, .null, .null, .null, .int 0, .int 0, .int 0, .int 0, .null, .null, .null, .null, .int 0])), (q1, .inl (dT 0, 5, .inl (fun _ => 0)))] H [] := hS
  refine cPutF hC hA hS 0 rfl in_X4 tyX4 tyX4_ok nmX4 rfl 0 (by decide) q935 (fun _ h => h) rfl hin rfl (show parseFieldDescriptor (TX4 0).2.2.1 = some (tyX4 0) from tyX4_ok 0 (by decide)) rfl rfl (Nat.le_of_ble_eq_true rfl) dX4_init_8 (fun H locs hS => ?_)
  have hS : cSt D base A s [(q, .inr (4, [.ref q1, .null, .null, .null, .null, .int 0, .int 0, .null, .null, .int 0, .null, .null, .null, .int 0, .int 0, .int 0, .int 0, .null, .null, .null, .null, .int 0])), (q1, .inl (dT 0, 5, .inl (fun _ => 0)))] H locs := hS
  refine lv_aload_n hx hb dX4_init_11 rfl (lv_at hl 0 rfl) ?_
  refine lv_iconst (v := 5) hx hb dX4_init_12 (by decide) ?_
  refine cArr_int (N' := 5) hC hA hS (by decide) (by decide) (by decide) ⟨(Nat.le_of_ble_eq_true rfl), (Nat.le_of_ble_eq_true rfl)⟩ dX4_init_13 (fun q2 H hS => ?_)
  have hS : cSt D base A s [(q, .inr (4, [.ref q1, .null, .null, .null, .null, .int 0, .int 0, .null, .null, .int 0, .null, .null, .null, .int 0, .int 0, .int 0, .int 0, .null, .null, .null, .null, .int 0])), (q1, .inl (dT 0, 5, .inl (fun _ => 0))), (q2, .inl (dT 0, 5, .inl (fun _ => 0)))] H locs := hS
  refine cPutF hC hA hS 0 rfl in_X4 tyX4 tyX4_ok nmX4 rfl 1 (by decide) q936 (fun _ h => h) rfl hin rfl (show parseFieldDescriptor (TX4 1).2.2.1 = some (tyX4 1) from tyX4_ok 1 (by decide)) rfl rfl (Nat.le_of_ble_eq_true rfl) dX4_init_15 (fun H locs hS => ?_)
  have hS : cSt D base A s [(q, .inr (4, [.ref q1, .ref q2, .null, .null, .null, .int 0, .int 0, .null, .null, .int 0, .null, .null, .null, .int 0, .int 0, .int 0, .int 0, .null, .null, .null, .null, .int 0])), (q1, .inl (dT 0, 5, .inl (fun _ => 0))), (q2, .inl (dT 0, 5, .inl (fun _ => 0)))] H locs := hS
  refine lv_aload_n hx hb dX4_init_18 rfl (lv_at hl 0 rfl) ?_
  refine lv_iconst (v := 5) hx hb dX4_init_19 (by decide) ?_
  refine cArr_int (N' := 5) hC hA hS (by decide) (by decide) (by decide) ⟨(Nat.le_of_ble_eq_true rfl), (Nat.le_of_ble_eq_true rfl)⟩ dX4_init_20 (fun q3 H hS => ?_)
  have hS : cSt D base A s [(q, .inr (4, [.ref q1, .ref q2, .null, .null, .null, .int 0, .int 0, .null, .null, .int 0, .null, .null, .null, .int 0, .int 0, .int 0, .int 0, .null, .null, .null, .null, .int 0])), (q1, .inl (dT 0, 5, .inl (fun _ => 0))), (q2, .inl (dT 0, 5, .inl (fun _ => 0))), (q3, .inl (dT 0, 5, .inl (fun _ => 0)))] H locs := hS
  refine cPutF hC hA hS 0 rfl in_X4 tyX4 tyX4_ok nmX4 rfl 2 (by decide) q937 (fun _ h => h) rfl hin rfl (show parseFieldDescriptor (TX4 2).2.2.1 = some (tyX4 2) from tyX4_ok 2 (by decide)) rfl rfl (Nat.le_of_ble_eq_true rfl) dX4_init_22 (fun H locs hS => ?_)
  have hS : cSt D base A s [(q, .inr (4, [.ref q1, .ref q2, .ref q3, .null, .null, .int 0, .int 0, .null, .null, .int 0, .null, .null, .null, .int 0, .int 0, .int 0, .int 0, .null, .null, .null, .null, .int 0])), (q1, .inl (dT 0, 5, .inl (fun _ => 0))), (q2, .inl (dT 0, 5, .inl (fun _ => 0))), (q3, .inl (dT 0, 5, .inl (fun _ => 0)))] H locs := hS
  refine lv_aload_n hx hb dX4_init_25 rfl (lv_at hl 0 rfl) ?_
  refine lv_bipush (v := 10) hx hb dX4_init_26 (by decide) ?_
  refine cArr_int (N' := 10) hC hA hS (by decide) (by decide) (by decide) ⟨(Nat.le_of_ble_eq_true rfl), (Nat.le_of_ble_eq_true rfl)⟩ dX4_init_28 (fun q4 H hS => ?_)
  have hS : cSt D base A s [(q, .inr (4, [.ref q1, .ref q2, .ref q3, .null, .null, .int 0, .int 0, .null, .null, .int 0, .null, .null, .null, .int 0, .int 0, .int 0, .int 0, .null, .null, .null, .null, .int 0])), (q1, .inl (dT 0, 5, .inl (fun _ => 0))), (q2, .inl (dT 0, 5, .inl (fun _ => 0))), (q3, .inl (dT 0, 5, .inl (fun _ => 0))), (q4, .inl (dT 0, 10, .inl (fun _ => 0)))] H locs := hS
  refine cPutF hC hA hS 0 rfl in_X4 tyX4 tyX4_ok nmX4 rfl 3 (by decide) q938 (fun _ h => h) rfl hin rfl (show parseFieldDescriptor (TX4 3).2.2.1 = some (tyX4 3) from tyX4_ok 3 (by decide)) rfl rfl (Nat.le_of_ble_eq_true rfl) dX4_init_30 (fun H locs hS => ?_)
  have hS : cSt D base A s [(q, .inr (4, [.ref q1, .ref q2, .ref q3, .ref q4, .null, .int 0, .int 0, .null, .null, .int 0, .null, .null, .null, .int 0, .int 0, .int 0, .int 0, .null, .null, .null, .null, .int 0])), (q1, .inl (dT 0, 5, .inl (fun _ => 0))), (q2, .inl (dT 0, 5, .inl (fun _ => 0))), (q3, .inl (dT 0, 5, .inl (fun _ => 0))), (q4, .inl (dT 0, 10, .inl (fun _ => 0)))] H locs := hS
  refine lv_aload_n hx hb dX4_init_33 rfl (lv_at hl 0 rfl) ?_
  refine lv_bipush (v := 10) hx hb dX4_init_34 (by decide) ?_
  refine cArr_int (N' := 10) hC hA hS (by decide) (by decide) (by decide) ⟨(Nat.le_of_ble_eq_true rfl), (Nat.le_of_ble_eq_true rfl)⟩ dX4_init_36 (fun q5 H hS => ?_)
  have hS : cSt D base A s [(q, .inr (4, [.ref q1, .ref q2, .ref q3, .ref q4, .null, .int 0, .int 0, .null, .null, .int 0, .null, .null, .null, .int 0, .int 0, .int 0, .int 0, .null, .null, .null, .null, .int 0])), (q1, .inl (dT 0, 5, .inl (fun _ => 0))), (q2, .inl (dT 0, 5, .inl (fun _ => 0))), (q3, .inl (dT 0, 5, .inl (fun _ => 0))), (q4, .inl (dT 0, 10, .inl (fun _ => 0))), (q5, .inl (dT 0, 10, .inl (fun _ => 0)))] H locs := hS
  refine cPutF hC hA hS 0 rfl in_X4 tyX4 tyX4_ok nmX4 rfl 4 (by decide) q939 (fun _ h => h) rfl hin rfl (show parseFieldDescriptor (TX4 4).2.2.1 = some (tyX4 4) from tyX4_ok 4 (by decide)) rfl rfl (Nat.le_of_ble_eq_true rfl) dX4_init_38 (fun H locs hS => ?_)
  have hS : cSt D base A s [(q, .inr (4, [.ref q1, .ref q2, .ref q3, .ref q4, .ref q5, .int 0, .int 0, .null, .null, .int 0, .null, .null, .null, .int 0, .int 0, .int 0, .int 0, .null, .null, .null, .null, .int 0])), (q1, .inl (dT 0, 5, .inl (fun _ => 0))), (q2, .inl (dT 0, 5, .inl (fun _ => 0))), (q3, .inl (dT 0, 5, .inl (fun _ => 0))), (q4, .inl (dT 0, 10, .inl (fun _ => 0))), (q5, .inl (dT 0, 10, .inl (fun _ => 0)))] H locs := hS
  refine lv_aload_n hx hb dX4_init_41 rfl (lv_at hl 0 rfl) ?_
  refine lv_bipush (v := 110) hx hb dX4_init_42 (by decide) ?_
  refine cArr_long (N' := 110) hC hA hS (by decide) (by decide) (by decide) ⟨(Nat.le_of_ble_eq_true rfl), (Nat.le_of_ble_eq_true rfl)⟩ dX4_init_44 (fun q6 H hS => ?_)
  have hS : cSt D base A s [(q, .inr (4, [.ref q1, .ref q2, .ref q3, .ref q4, .ref q5, .int 0, .int 0, .null, .null, .int 0, .null, .null, .null, .int 0, .int 0, .int 0, .int 0, .null, .null, .null, .null, .int 0])), (q1, .inl (dT 0, 5, .inl (fun _ => 0))), (q2, .inl (dT 0, 5, .inl (fun _ => 0))), (q3, .inl (dT 0, 5, .inl (fun _ => 0))), (q4, .inl (dT 0, 10, .inl (fun _ => 0))), (q5, .inl (dT 0, 10, .inl (fun _ => 0))), (q6, .inl (dT 1, 110, .inr (.inl (fun _ => 0))))] H locs := hS
  refine cPutF hC hA hS 0 rfl in_X4 tyX4 tyX4_ok nmX4 rfl 7 (by decide) q942 (fun _ h => h) rfl hin rfl (show parseFieldDescriptor (TX4 7).2.2.1 = some (tyX4 7) from tyX4_ok 7 (by decide)) rfl rfl (Nat.le_of_ble_eq_true rfl) dX4_init_46 (fun H locs hS => ?_)
  have hS : cSt D base A s [(q, .inr (4, [.ref q1, .ref q2, .ref q3, .ref q4, .ref q5, .int 0, .int 0, .ref q6, .null, .int 0, .null, .null, .null, .int 0, .int 0, .int 0, .int 0, .null, .null, .null, .null, .int 0])), (q1, .inl (dT 0, 5, .inl (fun _ => 0))), (q2, .inl (dT 0, 5, .inl (fun _ => 0))), (q3, .inl (dT 0, 5, .inl (fun _ => 0))), (q4, .inl (dT 0, 10, .inl (fun _ => 0))), (q5, .inl (dT 0, 10, .inl (fun _ => 0))), (q6, .inl (dT 1, 110, .inr (.inl (fun _ => 0))))] H locs := hS
  refine lv_aload_n hx hb dX4_init_49 rfl (lv_at hl 0 rfl) ?_
  refine lv_bipush (v := 10) hx hb dX4_init_50 (by decide) ?_
  refine cArr_int (N' := 10) hC hA hS (by decide) (by decide) (by decide) ⟨(Nat.le_of_ble_eq_true rfl), (Nat.le_of_ble_eq_true rfl)⟩ dX4_init_52 (fun q7 H hS => ?_)
  have hS : cSt D base A s [(q, .inr (4, [.ref q1, .ref q2, .ref q3, .ref q4, .ref q5, .int 0, .int 0, .ref q6, .null, .int 0, .null, .null, .null, .int 0, .int 0, .int 0, .int 0, .null, .null, .null, .null, .int 0])), (q1, .inl (dT 0, 5, .inl (fun _ => 0))), (q2, .inl (dT 0, 5, .inl (fun _ => 0))), (q3, .inl (dT 0, 5, .inl (fun _ => 0))), (q4, .inl (dT 0, 10, .inl (fun _ => 0))), (q5, .inl (dT 0, 10, .inl (fun _ => 0))), (q6, .inl (dT 1, 110, .inr (.inl (fun _ => 0)))), (q7, .inl (dT 0, 10, .inl (fun _ => 0)))] H locs := hS
  refine cPutF hC hA hS 0 rfl in_X4 tyX4 tyX4_ok nmX4 rfl 8 (by decide) q943 (fun _ h => h) rfl hin rfl (show parseFieldDescriptor (TX4 8).2.2.1 = some (tyX4 8) from tyX4_ok 8 (by decide)) rfl rfl (Nat.le_of_ble_eq_true rfl) dX4_init_54 (fun H locs hS => ?_)
  have hS : cSt D base A s [(q, .inr (4, [.ref q1, .ref q2, .ref q3, .ref q4, .ref q5, .int 0, .int 0, .ref q6, .ref q7, .int 0, .null, .null, .null, .int 0, .int 0, .int 0, .int 0, .null, .null, .null, .null, .int 0])), (q1, .inl (dT 0, 5, .inl (fun _ => 0))), (q2, .inl (dT 0, 5, .inl (fun _ => 0))), (q3, .inl (dT 0, 5, .inl (fun _ => 0))), (q4, .inl (dT 0, 10, .inl (fun _ => 0))), (q5, .inl (dT 0, 10, .inl (fun _ => 0))), (q6, .inl (dT 1, 110, .inr (.inl (fun _ => 0)))), (q7, .inl (dT 0, 10, .inl (fun _ => 0)))] H locs := hS
  refine lv_aload_n hx hb dX4_init_57 rfl (lv_at hl 0 rfl) ?_
  refine lv_sipush (v := 1024) hx hb dX4_init_58 (by decide) ?_
  refine cArr_boolean (N' := 1024) hC hA hS (by decide) (by decide) (by decide) ⟨(Nat.le_of_ble_eq_true rfl), (Nat.le_of_ble_eq_true rfl)⟩ dX4_init_61 (fun q8 H hS => ?_)
  have hS : cSt D base A s [(q, .inr (4, [.ref q1, .ref q2, .ref q3, .ref q4, .ref q5, .int 0, .int 0, .ref q6, .ref q7, .int 0, .null, .null, .null, .int 0, .int 0, .int 0, .int 0, .null, .null, .null, .null, .int 0])), (q1, .inl (dT 0, 5, .inl (fun _ => 0))), (q2, .inl (dT 0, 5, .inl (fun _ => 0))), (q3, .inl (dT 0, 5, .inl (fun _ => 0))), (q4, .inl (dT 0, 10, .inl (fun _ => 0))), (q5, .inl (dT 0, 10, .inl (fun _ => 0))), (q6, .inl (dT 1, 110, .inr (.inl (fun _ => 0)))), (q7, .inl (dT 0, 10, .inl (fun _ => 0))), (q8, .inl (dT 2, 1024, .inl (fun _ => 0)))] H locs := hS
  refine cPutF hC hA hS 0 rfl in_X4 tyX4 tyX4_ok nmX4 rfl 10 (by decide) q945 (fun _ h => h) rfl hin rfl (show parseFieldDescriptor (TX4 10).2.2.1 = some (tyX4 10) from tyX4_ok 10 (by decide)) rfl rfl (Nat.le_of_ble_eq_true rfl) dX4_init_63 (fun H locs hS => ?_)
  have hS : cSt D base A s [(q, .inr (4, [.ref q1, .ref q2, .ref q3, .ref q4, .ref q5, .int 0, .int 0, .ref q6, .ref q7, .int 0, .ref q8, .null, .null, .int 0, .int 0, .int 0, .int 0, .null, .null, .null, .null, .int 0])), (q1, .inl (dT 0, 5, .inl (fun _ => 0))), (q2, .inl (dT 0, 5, .inl (fun _ => 0))), (q3, .inl (dT 0, 5, .inl (fun _ => 0))), (q4, .inl (dT 0, 10, .inl (fun _ => 0))), (q5, .inl (dT 0, 10, .inl (fun _ => 0))), (q6, .inl (dT 1, 110, .inr (.inl (fun _ => 0)))), (q7, .inl (dT 0, 10, .inl (fun _ => 0))), (q8, .inl (dT 2, 1024, .inl (fun _ => 0)))] H locs := hS
  refine lv_aload_n hx hb dX4_init_66 rfl (lv_at hl 0 rfl) ?_
  refine lv_sipush (v := 1024) hx hb dX4_init_67 (by decide) ?_
  refine cArr_long (N' := 1024) hC hA hS (by decide) (by decide) (by decide) ⟨(Nat.le_of_ble_eq_true rfl), (Nat.le_of_ble_eq_true rfl)⟩ dX4_init_70 (fun q9 H hS => ?_)
  have hS : cSt D base A s [(q, .inr (4, [.ref q1, .ref q2, .ref q3, .ref q4, .ref q5, .int 0, .int 0, .ref q6, .ref q7, .int 0, .ref q8, .null, .null, .int 0, .int 0, .int 0, .int 0, .null, .null, .null, .null, .int 0])), (q1, .inl (dT 0, 5, .inl (fun _ => 0))), (q2, .inl (dT 0, 5, .inl (fun _ => 0))), (q3, .inl (dT 0, 5, .inl (fun _ => 0))), (q4, .inl (dT 0, 10, .inl (fun _ => 0))), (q5, .inl (dT 0, 10, .inl (fun _ => 0))), (q6, .inl (dT 1, 110, .inr (.inl (fun _ => 0)))), (q7, .inl (dT 0, 10, .inl (fun _ => 0))), (q8, .inl (dT 2, 1024, .inl (fun _ => 0))), (q9, .inl (dT 1, 1024, .inr (.inl (fun _ => 0))))] H locs := hS
  refine cPutF hC hA hS 0 rfl in_X4 tyX4 tyX4_ok nmX4 rfl 11 (by decide) q946 (fun _ h => h) rfl hin rfl (show parseFieldDescriptor (TX4 11).2.2.1 = some (tyX4 11) from tyX4_ok 11 (by decide)) rfl rfl (Nat.le_of_ble_eq_true rfl) dX4_init_72 (fun H locs hS => ?_)
  have hS : cSt D base A s [(q, .inr (4, [.ref q1, .ref q2, .ref q3, .ref q4, .ref q5, .int 0, .int 0, .ref q6, .ref q7, .int 0, .ref q8, .ref q9, .null, .int 0, .int 0, .int 0, .int 0, .null, .null, .null, .null, .int 0])), (q1, .inl (dT 0, 5, .inl (fun _ => 0))), (q2, .inl (dT 0, 5, .inl (fun _ => 0))), (q3, .inl (dT 0, 5, .inl (fun _ => 0))), (q4, .inl (dT 0, 10, .inl (fun _ => 0))), (q5, .inl (dT 0, 10, .inl (fun _ => 0))), (q6, .inl (dT 1, 110, .inr (.inl (fun _ => 0)))), (q7, .inl (dT 0, 10, .inl (fun _ => 0))), (q8, .inl (dT 2, 1024, .inl (fun _ => 0))), (q9, .inl (dT 1, 1024, .inr (.inl (fun _ => 0))))] H locs := hS
  refine lv_aload_n hx hb dX4_init_75 rfl (lv_at hl 0 rfl) ?_
  refine lv_sipush (v := 1024) hx hb dX4_init_76 (by decide) ?_
  refine cArr_long (N' := 1024) hC hA hS (by decide) (by decide) (by decide) ⟨(Nat.le_of_ble_eq_true rfl), (Nat.le_of_ble_eq_true rfl)⟩ dX4_init_79 (fun q10 H hS => ?_)
  have hS : cSt D base A s [(q, .inr (4, [.ref q1, .ref q2, .ref q3, .ref q4, .ref q5, .int 0, .int 0, .ref q6, .ref q7, .int 0, .ref q8, .ref q9, .null, .int 0, .int 0, .int 0, .int 0, .null, .null, .null, .null, .int 0])), (q1, .inl (dT 0, 5, .inl (fun _ => 0))), (q2, .inl (dT 0, 5, .inl (fun _ => 0))), (q3, .inl (dT 0, 5, .inl (fun _ => 0))), (q4, .inl (dT 0, 10, .inl (fun _ => 0))), (q5, .inl (dT 0, 10, .inl (fun _ => 0))), (q6, .inl (dT 1, 110, .inr (.inl (fun _ => 0)))), (q7, .inl (dT 0, 10, .inl (fun _ => 0))), (q8, .inl (dT 2, 1024, .inl (fun _ => 0))), (q9, .inl (dT 1, 1024, .inr (.inl (fun _ => 0)))), (q10, .inl (dT 1, 1024, .inr (.inl (fun _ => 0))))] H locs := hS
  refine cPutF hC hA hS 0 rfl in_X4 tyX4 tyX4_ok nmX4 rfl 12 (by decide) q947 (fun _ h => h) rfl hin rfl (show parseFieldDescriptor (TX4 12).2.2.1 = some (tyX4 12) from tyX4_ok 12 (by decide)) rfl rfl (Nat.le_of_ble_eq_true rfl) dX4_init_81 (fun H locs hS => ?_)
  have hS : cSt D base A s [(q, .inr (4, [.ref q1, .ref q2, .ref q3, .ref q4, .ref q5, .int 0, .int 0, .ref q6, .ref q7, .int 0, .ref q8, .ref q9, .ref q10, .int 0, .int 0, .int 0, .int 0, .null, .null, .null, .null, .int 0])), (q1, .inl (dT 0, 5, .inl (fun _ => 0))), (q2, .inl (dT 0, 5, .inl (fun _ => 0))), (q3, .inl (dT 0, 5, .inl (fun _ => 0))), (q4, .inl (dT 0, 10, .inl (fun _ => 0))), (q5, .inl (dT 0, 10, .inl (fun _ => 0))), (q6, .inl (dT 1, 110, .inr (.inl (fun _ => 0)))), (q7, .inl (dT 0, 10, .inl (fun _ => 0))), (q8, .inl (dT 2, 1024, .inl (fun _ => 0))), (q9, .inl (dT 1, 1024, .inr (.inl (fun _ => 0)))), (q10, .inl (dT 1, 1024, .inr (.inl (fun _ => 0))))] H locs := hS
  refine lv_aload_n hx hb dX4_init_84 rfl (lv_at hl 0 rfl) ?_
  refine lv_iconst (v := 4) hx hb dX4_init_85 (by decide) ?_
  refine cArr_int (N' := 4) hC hA hS (by decide) (by decide) (by decide) ⟨(Nat.le_of_ble_eq_true rfl), (Nat.le_of_ble_eq_true rfl)⟩ dX4_init_86 (fun q11 H hS => ?_)
  have hS : cSt D base A s [(q, .inr (4, [.ref q1, .ref q2, .ref q3, .ref q4, .ref q5, .int 0, .int 0, .ref q6, .ref q7, .int 0, .ref q8, .ref q9, .ref q10, .int 0, .int 0, .int 0, .int 0, .null, .null, .null, .null, .int 0])), (q1, .inl (dT 0, 5, .inl (fun _ => 0))), (q2, .inl (dT 0, 5, .inl (fun _ => 0))), (q3, .inl (dT 0, 5, .inl (fun _ => 0))), (q4, .inl (dT 0, 10, .inl (fun _ => 0))), (q5, .inl (dT 0, 10, .inl (fun _ => 0))), (q6, .inl (dT 1, 110, .inr (.inl (fun _ => 0)))), (q7, .inl (dT 0, 10, .inl (fun _ => 0))), (q8, .inl (dT 2, 1024, .inl (fun _ => 0))), (q9, .inl (dT 1, 1024, .inr (.inl (fun _ => 0)))), (q10, .inl (dT 1, 1024, .inr (.inl (fun _ => 0)))), (q11, .inl (dT 0, 4, .inl (fun _ => 0)))] H locs := hS
  refine cPutF hC hA hS 0 rfl in_X4 tyX4 tyX4_ok nmX4 rfl 17 (by decide) q952 (fun _ h => h) rfl hin rfl (show parseFieldDescriptor (TX4 17).2.2.1 = some (tyX4 17) from tyX4_ok 17 (by decide)) rfl rfl (Nat.le_of_ble_eq_true rfl) dX4_init_88 (fun H locs hS => ?_)
  have hS : cSt D base A s [(q, .inr (4, [.ref q1, .ref q2, .ref q3, .ref q4, .ref q5, .int 0, .int 0, .ref q6, .ref q7, .int 0, .ref q8, .ref q9, .ref q10, .int 0, .int 0, .int 0, .int 0, .ref q11, .null, .null, .null, .int 0])), (q1, .inl (dT 0, 5, .inl (fun _ => 0))), (q2, .inl (dT 0, 5, .inl (fun _ => 0))), (q3, .inl (dT 0, 5, .inl (fun _ => 0))), (q4, .inl (dT 0, 10, .inl (fun _ => 0))), (q5, .inl (dT 0, 10, .inl (fun _ => 0))), (q6, .inl (dT 1, 110, .inr (.inl (fun _ => 0)))), (q7, .inl (dT 0, 10, .inl (fun _ => 0))), (q8, .inl (dT 2, 1024, .inl (fun _ => 0))), (q9, .inl (dT 1, 1024, .inr (.inl (fun _ => 0)))), (q10, .inl (dT 1, 1024, .inr (.inl (fun _ => 0)))), (q11, .inl (dT 0, 4, .inl (fun _ => 0)))] H locs := hS
  refine lv_aload_n hx hb dX4_init_91 rfl (lv_at hl 0 rfl) ?_
  refine lv_iconst (v := 4) hx hb dX4_init_92 (by decide) ?_
  refine cArr_int (N' := 4) hC hA hS (by decide) (by decide) (by decide) ⟨(Nat.le_of_ble_eq_true rfl), (Nat.le_of_ble_eq_true rfl)⟩ dX4_init_93 (fun q12 H hS => ?_)
  have hS : cSt D base A s [(q, .inr (4, [.ref q1, .ref q2, .ref q3, .ref q4, .ref q5, .int 0, .int 0, .ref q6, .ref q7, .int 0, .ref q8, .ref q9, .ref q10, .int 0, .int 0, .int 0, .int 0, .ref q11, .null, .null, .null, .int 0])), (q1, .inl (dT 0, 5, .inl (fun _ => 0))), (q2, .inl (dT 0, 5, .inl (fun _ => 0))), (q3, .inl (dT 0, 5, .inl (fun _ => 0))), (q4, .inl (dT 0, 10, .inl (fun _ => 0))), (q5, .inl (dT 0, 10, .inl (fun _ => 0))), (q6, .inl (dT 1, 110, .inr (.inl (fun _ => 0)))), (q7, .inl (dT 0, 10, .inl (fun _ => 0))), (q8, .inl (dT 2, 1024, .inl (fun _ => 0))), (q9, .inl (dT 1, 1024, .inr (.inl (fun _ => 0)))), (q10, .inl (dT 1, 1024, .inr (.inl (fun _ => 0)))), (q11, .inl (dT 0, 4, .inl (fun _ => 0))), (q12, .inl (dT 0, 4, .inl (fun _ => 0)))] H locs := hS
  refine cPutF hC hA hS 0 rfl in_X4 tyX4 tyX4_ok nmX4 rfl 18 (by decide) q953 (fun _ h => h) rfl hin rfl (show parseFieldDescriptor (TX4 18).2.2.1 = some (tyX4 18) from tyX4_ok 18 (by decide)) rfl rfl (Nat.le_of_ble_eq_true rfl) dX4_init_95 (fun H locs hS => ?_)
  have hS : cSt D base A s [(q, .inr (4, [.ref q1, .ref q2, .ref q3, .ref q4, .ref q5, .int 0, .int 0, .ref q6, .ref q7, .int 0, .ref q8, .ref q9, .ref q10, .int 0, .int 0, .int 0, .int 0, .ref q11, .ref q12, .null, .null, .int 0])), (q1, .inl (dT 0, 5, .inl (fun _ => 0))), (q2, .inl (dT 0, 5, .inl (fun _ => 0))), (q3, .inl (dT 0, 5, .inl (fun _ => 0))), (q4, .inl (dT 0, 10, .inl (fun _ => 0))), (q5, .inl (dT 0, 10, .inl (fun _ => 0))), (q6, .inl (dT 1, 110, .inr (.inl (fun _ => 0)))), (q7, .inl (dT 0, 10, .inl (fun _ => 0))), (q8, .inl (dT 2, 1024, .inl (fun _ => 0))), (q9, .inl (dT 1, 1024, .inr (.inl (fun _ => 0)))), (q10, .inl (dT 1, 1024, .inr (.inl (fun _ => 0)))), (q11, .inl (dT 0, 4, .inl (fun _ => 0))), (q12, .inl (dT 0, 4, .inl (fun _ => 0)))] H locs := hS
  refine lv_aload_n hx hb dX4_init_98 rfl (lv_at hl 0 rfl) ?_
  refine lv_sipush (v := 160) hx hb dX4_init_99 (by decide) ?_
  refine cArr_long (N' := 160) hC hA hS (by decide) (by decide) (by decide) ⟨(Nat.le_of_ble_eq_true rfl), (Nat.le_of_ble_eq_true rfl)⟩ dX4_init_102 (fun q13 H hS => ?_)
  have hS : cSt D base A s [(q, .inr (4, [.ref q1, .ref q2, .ref q3, .ref q4, .ref q5, .int 0, .int 0, .ref q6, .ref q7, .int 0, .ref q8, .ref q9, .ref q10, .int 0, .int 0, .int 0, .int 0, .ref q11, .ref q12, .null, .null, .int 0])), (q1, .inl (dT 0, 5, .inl (fun _ => 0))), (q2, .inl (dT 0, 5, .inl (fun _ => 0))), (q3, .inl (dT 0, 5, .inl (fun _ => 0))), (q4, .inl (dT 0, 10, .inl (fun _ => 0))), (q5, .inl (dT 0, 10, .inl (fun _ => 0))), (q6, .inl (dT 1, 110, .inr (.inl (fun _ => 0)))), (q7, .inl (dT 0, 10, .inl (fun _ => 0))), (q8, .inl (dT 2, 1024, .inl (fun _ => 0))), (q9, .inl (dT 1, 1024, .inr (.inl (fun _ => 0)))), (q10, .inl (dT 1, 1024, .inr (.inl (fun _ => 0)))), (q11, .inl (dT 0, 4, .inl (fun _ => 0))), (q12, .inl (dT 0, 4, .inl (fun _ => 0))), (q13, .inl (dT 1, 160, .inr (.inl (fun _ => 0))))] H locs := hS
  refine cPutF hC hA hS 0 rfl in_X4 tyX4 tyX4_ok nmX4 rfl 19 (by decide) q954 (fun _ h => h) rfl hin rfl (show parseFieldDescriptor (TX4 19).2.2.1 = some (tyX4 19) from tyX4_ok 19 (by decide)) rfl rfl (Nat.le_of_ble_eq_true rfl) dX4_init_104 (fun H locs hS => ?_)
  have hS : cSt D base A s [(q, .inr (4, [.ref q1, .ref q2, .ref q3, .ref q4, .ref q5, .int 0, .int 0, .ref q6, .ref q7, .int 0, .ref q8, .ref q9, .ref q10, .int 0, .int 0, .int 0, .int 0, .ref q11, .ref q12, .ref q13, .null, .int 0])), (q1, .inl (dT 0, 5, .inl (fun _ => 0))), (q2, .inl (dT 0, 5, .inl (fun _ => 0))), (q3, .inl (dT 0, 5, .inl (fun _ => 0))), (q4, .inl (dT 0, 10, .inl (fun _ => 0))), (q5, .inl (dT 0, 10, .inl (fun _ => 0))), (q6, .inl (dT 1, 110, .inr (.inl (fun _ => 0)))), (q7, .inl (dT 0, 10, .inl (fun _ => 0))), (q8, .inl (dT 2, 1024, .inl (fun _ => 0))), (q9, .inl (dT 1, 1024, .inr (.inl (fun _ => 0)))), (q10, .inl (dT 1, 1024, .inr (.inl (fun _ => 0)))), (q11, .inl (dT 0, 4, .inl (fun _ => 0))), (q12, .inl (dT 0, 4, .inl (fun _ => 0))), (q13, .inl (dT 1, 160, .inr (.inl (fun _ => 0))))] H locs := hS
  refine lv_aload_n hx hb dX4_init_107 rfl (lv_at hl 0 rfl) ?_
  refine lv_bipush (v := 40) hx hb dX4_init_108 (by decide) ?_
  refine cArr_long (N' := 40) hC hA hS (by decide) (by decide) (by decide) ⟨(Nat.le_of_ble_eq_true rfl), (Nat.le_of_ble_eq_true rfl)⟩ dX4_init_110 (fun q14 H hS => ?_)
  have hS : cSt D base A s [(q, .inr (4, [.ref q1, .ref q2, .ref q3, .ref q4, .ref q5, .int 0, .int 0, .ref q6, .ref q7, .int 0, .ref q8, .ref q9, .ref q10, .int 0, .int 0, .int 0, .int 0, .ref q11, .ref q12, .ref q13, .null, .int 0])), (q1, .inl (dT 0, 5, .inl (fun _ => 0))), (q2, .inl (dT 0, 5, .inl (fun _ => 0))), (q3, .inl (dT 0, 5, .inl (fun _ => 0))), (q4, .inl (dT 0, 10, .inl (fun _ => 0))), (q5, .inl (dT 0, 10, .inl (fun _ => 0))), (q6, .inl (dT 1, 110, .inr (.inl (fun _ => 0)))), (q7, .inl (dT 0, 10, .inl (fun _ => 0))), (q8, .inl (dT 2, 1024, .inl (fun _ => 0))), (q9, .inl (dT 1, 1024, .inr (.inl (fun _ => 0)))), (q10, .inl (dT 1, 1024, .inr (.inl (fun _ => 0)))), (q11, .inl (dT 0, 4, .inl (fun _ => 0))), (q12, .inl (dT 0, 4, .inl (fun _ => 0))), (q13, .inl (dT 1, 160, .inr (.inl (fun _ => 0)))), (q14, .inl (dT 1, 40, .inr (.inl (fun _ => 0))))] H locs := hS
  refine cPutF hC hA hS 0 rfl in_X4 tyX4 tyX4_ok nmX4 rfl 20 (by decide) q955 (fun _ h => h) rfl hin rfl (show parseFieldDescriptor (TX4 20).2.2.1 = some (tyX4 20) from tyX4_ok 20 (by decide)) rfl rfl (Nat.le_of_ble_eq_true rfl) dX4_init_112 (fun H locs hS => ?_)
  have hS : cSt D base A s [(q, .inr (4, [.ref q1, .ref q2, .ref q3, .ref q4, .ref q5, .int 0, .int 0, .ref q6, .ref q7, .int 0, .ref q8, .ref q9, .ref q10, .int 0, .int 0, .int 0, .int 0, .ref q11, .ref q12, .ref q13, .ref q14, .int 0])), (q1, .inl (dT 0, 5, .inl (fun _ => 0))), (q2, .inl (dT 0, 5, .inl (fun _ => 0))), (q3, .inl (dT 0, 5, .inl (fun _ => 0))), (q4, .inl (dT 0, 10, .inl (fun _ => 0))), (q5, .inl (dT 0, 10, .inl (fun _ => 0))), (q6, .inl (dT 1, 110, .inr (.inl (fun _ => 0)))), (q7, .inl (dT 0, 10, .inl (fun _ => 0))), (q8, .inl (dT 2, 1024, .inl (fun _ => 0))), (q9, .inl (dT 1, 1024, .inr (.inl (fun _ => 0)))), (q10, .inl (dT 1, 1024, .inr (.inl (fun _ => 0)))), (q11, .inl (dT 0, 4, .inl (fun _ => 0))), (q12, .inl (dT 0, 4, .inl (fun _ => 0))), (q13, .inl (dT 1, 160, .inr (.inl (fun _ => 0)))), (q14, .inl (dT 1, 40, .inr (.inl (fun _ => 0))))] H locs := hS
  refine lv_iconst (v := 0) hx hb dX4_init_115 (by decide) ?_
  refine lv_istore_n (lv' := [(1, .int 0), (0, .ref q)]) hx hb dX4_init_116 rfl hl (by decide) rfl (fun ls hl => ?_)
  refine lv_iload_n hx hb dX4_init_117 rfl (lv_at hl 0 rfl) ?_
  refine lv_iconst (v := 4) hx hb dX4_init_118 (by decide) ?_
  refine lv_icmp_ge (tgt := 135) hx hb dX4_init_119 (by decide) (fun h9 => absurd h9 (by decide)) (fun _ => ?_)
  refine lv_aload_n hx hb dX4_init_122 rfl (lv_at hl 1 rfl) ?_
  refine cGet (v := .ref q11) hC hA hS 0 rfl in_X4 rfl 17 (by decide) q952 (fun _ h => h) rfl dX4_init_123 ?_
  refine lv_iload_n hx hb dX4_init_126 rfl (lv_at hl 0 rfl) ?_
  refine lv_iconst (v := (-1)) hx hb dX4_init_127 (by decide) ?_
  refine cIst (i := 0) (x := (-1)) hC hA hS 11 rfl (by unfold vp_in; decide) dX4_init_128 (fun H locs hS => ?_)
  have hS : cSt D base A s [(q, .inr (4, [.ref q1, .ref q2, .ref q3, .ref q4, .ref q5, .int 0, .int 0, .ref q6, .ref q7, .int 0, .ref q8, .ref q9, .ref q10, .int 0, .int 0, .int 0, .int 0, .ref q11, .ref q12, .ref q13, .ref q14, .int 0])), (q1, .inl (dT 0, 5, .inl (fun _ => 0))), (q2, .inl (dT 0, 5, .inl (fun _ => 0))), (q3, .inl (dT 0, 5, .inl (fun _ => 0))), (q4, .inl (dT 0, 10, .inl (fun _ => 0))), (q5, .inl (dT 0, 10, .inl (fun _ => 0))), (q6, .inl (dT 1, 110, .inr (.inl (fun _ => 0)))), (q7, .inl (dT 0, 10, .inl (fun _ => 0))), (q8, .inl (dT 2, 1024, .inl (fun _ => 0))), (q9, .inl (dT 1, 1024, .inr (.inl (fun _ => 0)))), (q10, .inl (dT 1, 1024, .inr (.inl (fun _ => 0)))), (q11, .inl (dT 0, 4, .inl (upd (fun _ => 0) (0 : Int32).toNatClampNeg (-1)))), (q12, .inl (dT 0, 4, .inl (fun _ => 0))), (q13, .inl (dT 1, 160, .inr (.inl (fun _ => 0)))), (q14, .inl (dT 1, 40, .inr (.inl (fun _ => 0))))] H locs := hS
  refine lv_iinc (v := 1) (lv' := [(1, .int 1), (0, .ref q)]) hx hb dX4_init_129 hl (k := 0) rfl (by decide) (by decide) rfl (fun ls hl => ?_)
  refine lv_goto (tgt := 117) hx hb dX4_init_132 (by decide) ?_
  refine lv_iload_n hx hb dX4_init_117 rfl (lv_at hl 0 rfl) ?_
  refine lv_iconst (v := 4) hx hb dX4_init_118 (by decide) ?_
  refine lv_icmp_ge (tgt := 135) hx hb dX4_init_119 (by decide) (fun h9 => absurd h9 (by decide)) (fun _ => ?_)
  refine lv_aload_n hx hb dX4_init_122 rfl (lv_at hl 1 rfl) ?_
  refine cGet (v := .ref q11) hC hA hS 0 rfl in_X4 rfl 17 (by decide) q952 (fun _ h => h) rfl dX4_init_123 ?_
  refine lv_iload_n hx hb dX4_init_126 rfl (lv_at hl 0 rfl) ?_
  refine lv_iconst (v := (-1)) hx hb dX4_init_127 (by decide) ?_
  refine cIst (i := 1) (x := (-1)) hC hA hS 11 rfl (by unfold vp_in; decide) dX4_init_128 (fun H locs hS => ?_)
  have hS : cSt D base A s [(q, .inr (4, [.ref q1, .ref q2, .ref q3, .ref q4, .ref q5, .int 0, .int 0, .ref q6, .ref q7, .int 0, .ref q8, .ref q9, .ref q10, .int 0, .int 0, .int 0, .int 0, .ref q11, .ref q12, .ref q13, .ref q14, .int 0])), (q1, .inl (dT 0, 5, .inl (fun _ => 0))), (q2, .inl (dT 0, 5, .inl (fun _ => 0))), (q3, .inl (dT 0, 5, .inl (fun _ => 0))), (q4, .inl (dT 0, 10, .inl (fun _ => 0))), (q5, .inl (dT 0, 10, .inl (fun _ => 0))), (q6, .inl (dT 1, 110, .inr (.inl (fun _ => 0)))), (q7, .inl (dT 0, 10, .inl (fun _ => 0))), (q8, .inl (dT 2, 1024, .inl (fun _ => 0))), (q9, .inl (dT 1, 1024, .inr (.inl (fun _ => 0)))), (q10, .inl (dT 1, 1024, .inr (.inl (fun _ => 0)))), (q11, .inl (dT 0, 4, .inl (upd (upd (fun _ => 0) (0 : Int32).toNatClampNeg (-1)) (1 : Int32).toNatClampNeg (-1)))), (q12, .inl (dT 0, 4, .inl (fun _ => 0))), (q13, .inl (dT 1, 160, .inr (.inl (fun _ => 0)))), (q14, .inl (dT 1, 40, .inr (.inl (fun _ => 0))))] H locs := hS
  refine lv_iinc (v := 2) (lv' := [(1, .int 2), (0, .ref q)]) hx hb dX4_init_129 hl (k := 0) rfl (by decide) (by decide) rfl (fun ls hl => ?_)
  refine lv_goto (tgt := 117) hx hb dX4_init_132 (by decide) ?_
  refine lv_iload_n hx hb dX4_init_117 rfl (lv_at hl 0 rfl) ?_
  refine lv_iconst (v := 4) hx hb dX4_init_118 (by decide) ?_
  refine lv_icmp_ge (tgt := 135) hx hb dX4_init_119 (by decide) (fun h9 => absurd h9 (by decide)) (fun _ => ?_)
  refine lv_aload_n hx hb dX4_init_122 rfl (lv_at hl 1 rfl) ?_
  refine cGet (v := .ref q11) hC hA hS 0 rfl in_X4 rfl 17 (by decide) q952 (fun _ h => h) rfl dX4_init_123 ?_
  refine lv_iload_n hx hb dX4_init_126 rfl (lv_at hl 0 rfl) ?_
  refine lv_iconst (v := (-1)) hx hb dX4_init_127 (by decide) ?_
  refine cIst (i := 2) (x := (-1)) hC hA hS 11 rfl (by unfold vp_in; decide) dX4_init_128 (fun H locs hS => ?_)
  have hS : cSt D base A s [(q, .inr (4, [.ref q1, .ref q2, .ref q3, .ref q4, .ref q5, .int 0, .int 0, .ref q6, .ref q7, .int 0, .ref q8, .ref q9, .ref q10, .int 0, .int 0, .int 0, .int 0, .ref q11, .ref q12, .ref q13, .ref q14, .int 0])), (q1, .inl (dT 0, 5, .inl (fun _ => 0))), (q2, .inl (dT 0, 5, .inl (fun _ => 0))), (q3, .inl (dT 0, 5, .inl (fun _ => 0))), (q4, .inl (dT 0, 10, .inl (fun _ => 0))), (q5, .inl (dT 0, 10, .inl (fun _ => 0))), (q6, .inl (dT 1, 110, .inr (.inl (fun _ => 0)))), (q7, .inl (dT 0, 10, .inl (fun _ => 0))), (q8, .inl (dT 2, 1024, .inl (fun _ => 0))), (q9, .inl (dT 1, 1024, .inr (.inl (fun _ => 0)))), (q10, .inl (dT 1, 1024, .inr (.inl (fun _ => 0)))), (q11, .inl (dT 0, 4, .inl (upd (upd (upd (fun _ => 0) (0 : Int32).toNatClampNeg (-1)) (1 : Int32).toNatClampNeg (-1)) (2 : Int32).toNatClampNeg (-1)))), (q12, .inl (dT 0, 4, .inl (fun _ => 0))), (q13, .inl (dT 1, 160, .inr (.inl (fun _ => 0)))), (q14, .inl (dT 1, 40, .inr (.inl (fun _ => 0))))] H locs := hS
  refine lv_iinc (v := 3) (lv' := [(1, .int 3), (0, .ref q)]) hx hb dX4_init_129 hl (k := 0) rfl (by decide) (by decide) rfl (fun ls hl => ?_)
  refine lv_goto (tgt := 117) hx hb dX4_init_132 (by decide) ?_
  refine lv_iload_n hx hb dX4_init_117 rfl (lv_at hl 0 rfl) ?_
  refine lv_iconst (v := 4) hx hb dX4_init_118 (by decide) ?_
  refine lv_icmp_ge (tgt := 135) hx hb dX4_init_119 (by decide) (fun h9 => absurd h9 (by decide)) (fun _ => ?_)
  refine lv_aload_n hx hb dX4_init_122 rfl (lv_at hl 1 rfl) ?_
  refine cGet (v := .ref q11) hC hA hS 0 rfl in_X4 rfl 17 (by decide) q952 (fun _ h => h) rfl dX4_init_123 ?_
  refine lv_iload_n hx hb dX4_init_126 rfl (lv_at hl 0 rfl) ?_
  refine lv_iconst (v := (-1)) hx hb dX4_init_127 (by decide) ?_
  refine cIst (i := 3) (x := (-1)) hC hA hS 11 rfl (by unfold vp_in; decide) dX4_init_128 (fun H locs hS => ?_)
  have hS : cSt D base A s [(q, .inr (4, [.ref q1, .ref q2, .ref q3, .ref q4, .ref q5, .int 0, .int 0, .ref q6, .ref q7, .int 0, .ref q8, .ref q9, .ref q10, .int 0, .int 0, .int 0, .int 0, .ref q11, .ref q12, .ref q13, .ref q14, .int 0])), (q1, .inl (dT 0, 5, .inl (fun _ => 0))), (q2, .inl (dT 0, 5, .inl (fun _ => 0))), (q3, .inl (dT 0, 5, .inl (fun _ => 0))), (q4, .inl (dT 0, 10, .inl (fun _ => 0))), (q5, .inl (dT 0, 10, .inl (fun _ => 0))), (q6, .inl (dT 1, 110, .inr (.inl (fun _ => 0)))), (q7, .inl (dT 0, 10, .inl (fun _ => 0))), (q8, .inl (dT 2, 1024, .inl (fun _ => 0))), (q9, .inl (dT 1, 1024, .inr (.inl (fun _ => 0)))), (q10, .inl (dT 1, 1024, .inr (.inl (fun _ => 0)))), (q11, .inl (dT 0, 4, .inl (upd (upd (upd (upd (fun _ => 0) (0 : Int32).toNatClampNeg (-1)) (1 : Int32).toNatClampNeg (-1)) (2 : Int32).toNatClampNeg (-1)) (3 : Int32).toNatClampNeg (-1)))), (q12, .inl (dT 0, 4, .inl (fun _ => 0))), (q13, .inl (dT 1, 160, .inr (.inl (fun _ => 0)))), (q14, .inl (dT 1, 40, .inr (.inl (fun _ => 0))))] H locs := hS
  refine lv_iinc (v := 4) (lv' := [(1, .int 4), (0, .ref q)]) hx hb dX4_init_129 hl (k := 0) rfl (by decide) (by decide) rfl (fun ls hl => ?_)
  refine lv_goto (tgt := 117) hx hb dX4_init_132 (by decide) ?_
  refine lv_iload_n hx hb dX4_init_117 rfl (lv_at hl 0 rfl) ?_
  refine lv_iconst (v := 4) hx hb dX4_init_118 (by decide) ?_
  refine lv_icmp_ge (tgt := 135) hx hb dX4_init_119 (by decide) (fun _ => ?_) (fun h9 => absurd (by decide) h9)
  exact wRetv hC hS ⟨fun i => [q, q1, q2, q3, q4, q5, q6, q7, q8, q9, q10, q11, q12, q13, q14].getD i 0, rfl, rfl⟩ (Nat.le_of_ble_eq_true rfl) (Nat.le_of_ble_eq_true rfl) dX4_init_135
