/-! CONSTRUCTORS: the world is what was there, and a list of the cells made, in their order -/
theorem cW_at {base es : va_W} {k : Nat} : (base ++ es)[base.length + k]? = es[k]? := by
  rw [List.getElem?_append_right (Nat.le_add_right _ _), Nat.add_sub_cancel_left]
theorem cW_set {base es : va_W} {k : Nat} {z : Nat × va_E} : (base ++ es).set (base.length + k) z = base ++ es.set k z := by
  rw [List.set_append_right _ _ (Nat.le_add_right _ _), Nat.add_sub_cancel_left]
abbrev cSt (D : va_G) (base : va_W) (A : Nat → Prop) (s : State) (es : va_W) (H : Heap) (locs : List Loc) : Prop := wSt D (fun es : va_W => base ++ es) (fun _ => True) A s es H locs
section CONS
variable {p : Program} {l : Launch} {e : Env} {R : Room} {s : State} {m : MethodId} {args : Array Value} {below : List Frame} {meth : Method} {c : Code} {H : Heap} {locs : List Loc} {cells slots : Nat} {Q : State → Prop}
variable {D : va_G} {dT : Nat → ClassId} {A : Nat → Prop} {base es : va_W} {own : String} {cc : ByteArray} {nL : Nat} {ret : Option FieldType} {pc : Nat} {ls : Array Slot} {rest : List Value}
theorem cArr_int {n : Int32} {N' : Nat} (hC : wCx own cc nL ret D dT p s m args meth c) (hA : wAz A s) (hS : cSt D base A s es H locs) (hn : ¬ n < 0) (hN : n.toNatClampNeg = N') (hb : N' ≤ 2000) (hf : cells + 1 ≤ R.cells ∧ slots + N' ≤ R.slots) (hdg : decode cc pc = .ok (.newarray .int, 2)) (kk : ∀ (q : Nat) (H1 : Heap), cSt D base A s (es ++ [(q, .inl (dT 0, N', .inl (fun _ => 0)))]) H1 locs → W p l e R s m args below meth c H1 locs (cells + 1) (slots + N') Q (F0 m (pc + 2) ls (.ref q :: rest))) : W p l e R s m args below meth c H locs cells slots Q (F0 m pc ls (.int n :: rest)) := by
  refine va_newa (atype := .int) (ty := .int) (N' := N') (a0 := (N', .inl (fun _ => 0))) hC.1 hC.2.1 (hC.2.2.2.2.1 _ q144) rfl hC.2.2.2.2.2.2.2.1 hS.1 hS.2.1 hS.2.2.1 hA.1 (fun cA => rfl) hn hN (by show N' * 4 ≤ 536870912; omega) hf.1 hf.2 hdg (fun q cA H1 hK1 hP hD hS1 => ?_)
  have e1 : cA = dT 0 := by
    have h1 := (hK1.2 6 (cA, .int) rfl).2
    have h2 := (hC.2.2.2.2.2.2.2.1.2 0 _ rfl).2
    exact Option.some.inj (h1.symm.trans h2)
  subst e1
  rw [List.append_assoc] at hP hD
  exact kk q H1 ⟨hP, hD, hS1, trivial⟩
theorem cArr_long {n : Int32} {N' : Nat} (hC : wCx own cc nL ret D dT p s m args meth c) (hA : wAz A s) (hS : cSt D base A s es H locs) (hn : ¬ n < 0) (hN : n.toNatClampNeg = N') (hb : N' ≤ 2000) (hf : cells + 1 ≤ R.cells ∧ slots + N' ≤ R.slots) (hdg : decode cc pc = .ok (.newarray .long, 2)) (kk : ∀ (q : Nat) (H1 : Heap), cSt D base A s (es ++ [(q, .inl (dT 1, N', .inr (.inl (fun _ => 0))))]) H1 locs → W p l e R s m args below meth c H1 locs (cells + 1) (slots + N') Q (F0 m (pc + 2) ls (.ref q :: rest))) : W p l e R s m args below meth c H locs cells slots Q (F0 m pc ls (.int n :: rest)) := by
  refine va_newa (atype := .long) (ty := .long) (N' := N') (a0 := (N', .inr (.inl (fun _ => 0)))) hC.1 hC.2.1 (hC.2.2.2.2.1 _ q179) rfl hC.2.2.2.2.2.2.2.1 hS.1 hS.2.1 hS.2.2.1 hA.1 (fun cA => rfl) hn hN (by show N' * 8 ≤ 536870912; omega) hf.1 hf.2 hdg (fun q cA H1 hK1 hP hD hS1 => ?_)
  have e1 : cA = dT 1 := by
    have h1 := (hK1.2 6 (cA, .long) rfl).2
    have h2 := (hC.2.2.2.2.2.2.2.1.2 1 _ rfl).2
    exact Option.some.inj (h1.symm.trans h2)
  subst e1
  rw [List.append_assoc] at hP hD
  exact kk q H1 ⟨hP, hD, hS1, trivial⟩
theorem cArr_boolean {n : Int32} {N' : Nat} (hC : wCx own cc nL ret D dT p s m args meth c) (hA : wAz A s) (hS : cSt D base A s es H locs) (hn : ¬ n < 0) (hN : n.toNatClampNeg = N') (hb : N' ≤ 2000) (hf : cells + 1 ≤ R.cells ∧ slots + N' ≤ R.slots) (hdg : decode cc pc = .ok (.newarray .boolean, 2)) (kk : ∀ (q : Nat) (H1 : Heap), cSt D base A s (es ++ [(q, .inl (dT 2, N', .inl (fun _ => 0)))]) H1 locs → W p l e R s m args below meth c H1 locs (cells + 1) (slots + N') Q (F0 m (pc + 2) ls (.ref q :: rest))) : W p l e R s m args below meth c H locs cells slots Q (F0 m pc ls (.int n :: rest)) := by
  refine va_newa (atype := .boolean) (ty := .boolean) (N' := N') (a0 := (N', .inl (fun _ => 0))) hC.1 hC.2.1 (hC.2.2.2.2.1 _ q1002) rfl hC.2.2.2.2.2.2.2.1 hS.1 hS.2.1 hS.2.2.1 hA.1 (fun cA => rfl) hn hN (by show N' * 1 ≤ 536870912; omega) hf.1 hf.2 hdg (fun q cA H1 hK1 hP hD hS1 => ?_)
  have e1 : cA = dT 2 := by
    have h1 := (hK1.2 6 (cA, .boolean) rfl).2
    have h2 := (hC.2.2.2.2.2.2.2.1.2 2 _ rfl).2
    exact Option.some.inj (h1.symm.trans h2)
  subst e1
  rw [List.append_assoc] at hP hD
  exact kk q H1 ⟨hP, hD, hS1, trivial⟩
theorem cPutF {ref C : String} {T : u_T} {N ci index : Nat} {v : Value} {ty : FieldType} {a : Nat} {fs : List Value} (hC : wCx own cc nL ret D dT p s m args meth c) (hA : wAz A s) (hS : cSt D base A s es H locs) (k0 : Nat) (he : es[k0]? = some (a, .inr (ci, fs))) (hin : ∀ w ∈ u_ws C T N, w ∈ lw_all) (ty0 : Nat → FieldType) (hty : ∀ k, k < N → parseFieldDescriptor (T k).2.2.1 = some (ty0 k)) (hnm : ∀ a, a < N → ∀ b, b < N → a ≠ b → (T a).2.1 ≠ (T b).2.1) (hc : clL[ci]? = some (C, T, N)) (k : Nat) (hk : k < N) (hlink : Cond.fieldLink own index ref (T k).2.1 (T k).2.2.1 ∈ lw_all) (hsame : ∀ x, s.fieldFound? (T k).1 (T k).2.1 (T k).2.2.1 = some x → s.fieldFound? ref (T k).2.1 (T k).2.2.1 = some x) (hfin : (T k).2.2.2 = true) (hin2 : meth.name = "<init>") (hdecl : (T k).1 = own) (hd : parseFieldDescriptor (T k).2.2.1 = some ty) (hn : narrow ty v = v) (hfit : fits ty v = true) (hl : k < fs.length)
    (hdg : decode cc pc = .ok (.putfield index, 3)) (kk : ∀ (H1 : Heap) (locs1 : List Loc), cSt D base A s (es.set k0 (a, .inr (ci, fs.set k v))) H1 locs1 → W p l e R s m args below meth c H1 locs1 cells slots Q (F0 m (pc + 3) ls (rest))) : W p l e R s m args below meth c H locs cells slots Q (F0 m pc ls (v :: .ref a :: rest)) := by
  refine va_putF hC.1 hC.2.1 hC.2.2.2.2.1 hin ty0 hty hnm hC.2.2.2.1 hC.2.2.2.2.2.2.2.1 hS.1 hS.2.1 hS.2.2.1 (base.length + k0) (cW_at.trans he) hc k hk (hC.2.2.2.2.1 _ hlink) hsame hfin hin2 hdecl hd hn hfit hl hdg (fun H1 locs1 hP hD hS1 => ?_)
  rw [cW_set] at hP hD
  exact kk H1 locs1 ⟨hP, hD, hS1, trivial⟩
theorem cNew {C : String} {T : u_T} {N ci index : Nat} {fs : List Value} (hC : wCx own cc nL ret D dT p s m args meth c) (hA : wAz A s) (hS : cSt D base A s es H locs) (hin : ∀ w ∈ u_ws C T N, w ∈ lw_all) (ty : Nat → FieldType) (hty : ∀ k, k < N → parseFieldDescriptor (T k).2.2.1 = some (ty k)) (hcl : Cond.classLink own index C ∈ lw_all) (hinst : Cond.instantiable C N ∈ lw_all) (hini : Cond.initialized C ∈ lw_all) (hc : clL[ci]? = some (C, T, N)) (hfs : ∀ j, j < N → defaultValue (ty j) = vp_V fs j) (hf : cells + 1 ≤ R.cells ∧ slots + N ≤ R.slots) (hdg : decode cc pc = .ok (.new index, 3))
    (kk : ∀ (q : Nat) (H1 : Heap), cSt D base A s (es ++ [(q, .inr (ci, fs))]) H1 locs → W p l e R s m args below meth c H1 locs (cells + 1) (slots + N) Q (F0 m (pc + 3) ls (.ref q :: rest))) : W p l e R s m args below meth c H locs cells slots Q (F0 m pc ls (rest)) := by
  refine va_new (ci := ci) (fs := fs) (C := C) (T := T) (N := N) hC.1 hC.2.1 hC.2.2.2.2.1 hin ty hty hC.2.2.2.1 (hC.2.2.2.2.1 _ hcl) (hC.2.2.2.2.1 _ hinst) (hC.2.2.2.2.1 _ hini) hC.2.2.2.2.2.2.2.1 hS.1 hS.2.1 hS.2.2.1 hA.1 hc hfs hf.1 hf.2 hdg (fun q H1 hP hD hS1 => ?_)
  rw [List.append_assoc] at hP hD
  exact kk q H1 ⟨hP, hD, hS1, trivial⟩
theorem cArrR_P {n : Int32} {N' index : Nat} (hC : wCx own cc nL ret D dT p s m args meth c) (hA : wAz A s) (hS : cSt D base A s es H locs) (hcl : Cond.classLink own index "LeastFrames$Point" ∈ lw_all) (hn : ¬ n < 0) (hN : n.toNatClampNeg = N') (hb : N' ≤ 2000) (hf : cells + 1 ≤ R.cells ∧ slots + N' ≤ R.slots) (hdg : decode cc pc = .ok (.anewarray index, 3)) (kk : ∀ (q : Nat) (H1 : Heap), cSt D base A s (es ++ [(q, .inl (dT 3, N', .inr (.inr (.inr (.inr (fun _ => none))))))]) H1 locs → W p l e R s m args below meth c H1 locs (cells + 1) (slots + N') Q (F0 m (pc + 3) ls (.ref q :: rest))) : W p l e R s m args below meth c H locs cells slots Q (F0 m pc ls (.int n :: rest)) := by
  refine va_newq hC.1 hC.2.1 hC.2.2.2.1 (hC.2.2.2.2.1 _ hcl) hC.2.2.2.2.2.2.2.2.2.1 hC.2.2.2.2.2.2.2.1 hS.1 hS.2.1 hS.2.2.1 hA.1 hn hN (by omega) hf.1 hf.2 hdg (fun q cA H1 hK1 hP hD hS1 => ?_)
  have e1 : cA = dT 3 := by
    obtain ⟨k1, c1, a1, a2, a3, a4⟩ := (hK1.2 6 (cA, .object "LeastFrames$Point") rfl).2
    obtain ⟨k2, c2, b1, b2, b3, b4⟩ := (hC.2.2.2.2.2.2.2.1.2 3 _ rfl).2
    exact Option.some.inj (a4.symm.trans b4)
  subst e1
  rw [List.append_assoc] at hP hD
  exact kk q H1 ⟨hP, hD, hS1, trivial⟩
theorem cAst_P {n a v : Nat} {vs : List Value} {f : Nat → Option Nat} {i : Int32} (hC : wCx own cc nL ret D dT p s m args meth c) (hA : wAz A s) (hS : cSt D base A s es H locs) (k0 k1 : Nat) (ha : es[k0]? = some (a, .inl (dT 3, n, .inr (.inr (.inr (.inr f)))))) (hv : es[k1]? = some (v, .inr (1, vs))) (hi : vp_in i n) (hdg : decode cc pc = .ok (.aastore, 1)) (kk : ∀ (H1 : Heap) (locs1 : List Loc), cSt D base A s (es.set k0 (a, .inl (dT 3, n, .inr (.inr (.inr (.inr (va_up f i.toNatClampNeg (some v)))))))) H1 locs1 → W p l e R s m args below meth c H1 locs1 cells slots Q (F0 m (pc + 1) ls (rest))) : W p l e R s m args below meth c H locs cells slots Q (F0 m pc ls (.ref v :: .int i :: .ref a :: rest)) := by
  refine va_astq hC.1 hC.2.1 hC.2.2.2.2.2.2.2.1 hS.1 hS.2.1 hS.2.2.1 (base.length + k0) 3 (base.length + k1) 1 (cW_at.trans ha) rfl (cW_at.trans hv) rfl hi hdg (fun H1 locs1 hP hD hS1 => ?_)
  rw [cW_set] at hP hD
  exact kk H1 locs1 ⟨hP, hD, hS1, trivial⟩
theorem cArrR_S {n : Int32} {N' index : Nat} (hC : wCx own cc nL ret D dT p s m args meth c) (hA : wAz A s) (hS : cSt D base A s es H locs) (hcl : Cond.classLink own index "LeastFrames$Sheet" ∈ lw_all) (hn : ¬ n < 0) (hN : n.toNatClampNeg = N') (hb : N' ≤ 2000) (hf : cells + 1 ≤ R.cells ∧ slots + N' ≤ R.slots) (hdg : decode cc pc = .ok (.anewarray index, 3)) (kk : ∀ (q : Nat) (H1 : Heap), cSt D base A s (es ++ [(q, .inl (dT 4, N', .inr (.inr (.inr (.inr (fun _ => none))))))]) H1 locs → W p l e R s m args below meth c H1 locs (cells + 1) (slots + N') Q (F0 m (pc + 3) ls (.ref q :: rest))) : W p l e R s m args below meth c H locs cells slots Q (F0 m pc ls (.int n :: rest)) := by
  refine va_newq hC.1 hC.2.1 hC.2.2.2.1 (hC.2.2.2.2.1 _ hcl) hC.2.2.2.2.2.2.2.2.2.2.1.1 hC.2.2.2.2.2.2.2.1 hS.1 hS.2.1 hS.2.2.1 hA.1 hn hN (by omega) hf.1 hf.2 hdg (fun q cA H1 hK1 hP hD hS1 => ?_)
  have e1 : cA = dT 4 := by
    obtain ⟨k1, c1, a1, a2, a3, a4⟩ := (hK1.2 6 (cA, .object "LeastFrames$Sheet") rfl).2
    obtain ⟨k2, c2, b1, b2, b3, b4⟩ := (hC.2.2.2.2.2.2.2.1.2 4 _ rfl).2
    exact Option.some.inj (a4.symm.trans b4)
  subst e1
  rw [List.append_assoc] at hP hD
  exact kk q H1 ⟨hP, hD, hS1, trivial⟩
theorem cAst_S {n a v : Nat} {vs : List Value} {f : Nat → Option Nat} {i : Int32} (hC : wCx own cc nL ret D dT p s m args meth c) (hA : wAz A s) (hS : cSt D base A s es H locs) (k0 k1 : Nat) (ha : es[k0]? = some (a, .inl (dT 4, n, .inr (.inr (.inr (.inr f)))))) (hv : es[k1]? = some (v, .inr (3, vs))) (hi : vp_in i n) (hdg : decode cc pc = .ok (.aastore, 1)) (kk : ∀ (H1 : Heap) (locs1 : List Loc), cSt D base A s (es.set k0 (a, .inl (dT 4, n, .inr (.inr (.inr (.inr (va_up f i.toNatClampNeg (some v)))))))) H1 locs1 → W p l e R s m args below meth c H1 locs1 cells slots Q (F0 m (pc + 1) ls (rest))) : W p l e R s m args below meth c H locs cells slots Q (F0 m pc ls (.ref v :: .int i :: .ref a :: rest)) := by
  refine va_astq hC.1 hC.2.1 hC.2.2.2.2.2.2.2.1 hS.1 hS.2.1 hS.2.2.1 (base.length + k0) 4 (base.length + k1) 3 (cW_at.trans ha) rfl (cW_at.trans hv) rfl hi hdg (fun H1 locs1 hP hD hS1 => ?_)
  rw [cW_set] at hP hD
  exact kk H1 locs1 ⟨hP, hD, hS1, trivial⟩
/-- a call of a constructor: the object is the last cell made -/
theorem cCall {es' : va_W} {z : Nat × va_E} {post : va_W → Prop} {bytes : ByteArray} {maxL index mc ms : Nat} {rm : Room} {y : MethodName} {As st0 : List Value} {q : Nat} (hC : wCx own cc nL ret D dT p s m args meth c) (hA : wAz A s) (hS : cSt D base A s es H locs) (hes : es = es' ++ [z]) (hM : Met l y (ws_ y bytes maxL none) rm (wPc D dT (fun e9 : va_W => (base ++ es') ++ e9) (fun _ => True) H.size [z] (.ref q :: As)) (va_Qv post (wB D (fun e9 : va_W => (base ++ es') ++ e9) (fun _ => True) (va_A ((base ++ es') ++ [z]) H.size)) (va_A ((base ++ es') ++ [z]) H.size)) mc ms (va_A ((base ++ es') ++ [z]) H.size)) (hg : Cond.code y bytes maxL none ∈ lw_all) (hini : Cond.initialized y.cls ∈ lw_all) (hlk : (Cond.methodLink own index y).before args s = true) (hins : Cond.instanceMethod y ∈ lw_all) (hyn : y.name = "<init>")
    (hc : wCal R own index y bytes maxL none rm mc ms As.length cells slots) (hl : ls.size = nL) (hst : st0 = As.reverse ++ .ref q :: rest) (hrest : (rest.map fun v => v.category).sum ≤ 8) (hdg : decode cc pc = .ok (.invokespecial index, 3))
    (kk : ∀ (e9 : va_W) (H1 : Heap) (locs1 : List Loc), post e9 → cSt D base A s (es' ++ e9) H1 locs1 → W p l e R s m args below meth c H1 locs1 (cells + mc) (slots + ms) Q (F0 m (pc + 3) ls (rest))) : W p l e R s m args below meth c H locs cells slots Q (F0 m pc ls (st0)) := by
  subst hes
  have hS' : wSt D (fun e9 : va_W => (base ++ es') ++ e9) (fun _ => True) A s [z] H locs := by
    have h1 : va_P D clL (base ++ (es' ++ [z])) H := hS.1
    have h2 : va_D A (base ++ (es' ++ [z])) := hS.2.1
    rw [← List.append_assoc] at h1 h2
    exact ⟨h1, h2, hS.2.2.1, trivial⟩
  refine va_callv (va_runI (As := As) (rest := rest) ⟨hC.1, hC.2.1, hC.2.2.1, hC.2.2.2.1, hC.2.2.2.2.1⟩ hM (cwI As.length hC.2.2.2.2.1 (lw_meth hg) rfl hc.1.1 hc.1.2 (hC.2.2.2.2.1 _ hini) hlk (hC.2.2.2.2.1 _ hins) hyn hc.2.1 hc.2.2.1) ⟨wBlind, wPreU hC.2.2.2.2.2.2.2 hA hS'⟩ rfl rfl hl hst (lv_room hrest) hdg hc.2.2.2) hS.2.2.1 (fun q _ h => wFree hA hS' q h) (wFree hA hS') (fun u t H1 locs1 ht _ hp hB _ _ hS1 => ?_)
  have h9 := wBack hA hS' ht hB hS1
  have h1 : va_P D clL ((base ++ es') ++ u) H1 := h9.1
  have h2 : va_D A ((base ++ es') ++ u) := h9.2.1
  rw [List.append_assoc] at h1 h2
  exact kk u H1 locs1 hp ⟨h1, h2, h9.2.2.1, trivial⟩
/-- a call of a constructor: the object is the last cell made -/
theorem cCallN {host : String} {es' : va_W} {z : Nat × va_E} {post : va_W → Prop} {bytes : ByteArray} {maxL index mc ms : Nat} {rm : Room} {y : MethodName} {As st0 : List Value} {q : Nat} (hC : wCx own cc nL ret D dT p s m args meth c) (hA : wAz A s) (hS : cSt D base A s es H locs) (hes : es = es' ++ [z]) (hM : Met l y (ws_ y bytes maxL none) rm (wPc D dT (fun e9 : va_W => (base ++ es') ++ e9) (fun _ => True) H.size [z] (.ref q :: As)) (va_Qv post (wB D (fun e9 : va_W => (base ++ es') ++ e9) (fun _ => True) (va_A ((base ++ es') ++ [z]) H.size)) (va_A ((base ++ es') ++ [z]) H.size)) mc ms (va_A ((base ++ es') ++ [z]) H.size)) (hg : Cond.code y bytes maxL none ∈ lw_all) (hini : Cond.initialized y.cls ∈ lw_all) (hlk : Cond.methodLinkNest own index y host ∈ nwL) (hins : Cond.instanceMethod y ∈ lw_all) (hyn : y.name = "<init>")
    (hc : wCal R own index y bytes maxL none rm mc ms As.length cells slots) (hl : ls.size = nL) (hst : st0 = As.reverse ++ .ref q :: rest) (hrest : (rest.map fun v => v.category).sum ≤ 8) (hdg : decode cc pc = .ok (.invokespecial index, 3))
    (kk : ∀ (e9 : va_W) (H1 : Heap) (locs1 : List Loc), post e9 → cSt D base A s (es' ++ e9) H1 locs1 → W p l e R s m args below meth c H1 locs1 (cells + mc) (slots + ms) Q (F0 m (pc + 3) ls (rest))) : W p l e R s m args below meth c H locs cells slots Q (F0 m pc ls (st0)) := by
  subst hes
  have hS' : wSt D (fun e9 : va_W => (base ++ es') ++ e9) (fun _ => True) A s [z] H locs := by
    have h1 : va_P D clL (base ++ (es' ++ [z])) H := hS.1
    have h2 : va_D A (base ++ (es' ++ [z])) := hS.2.1
    rw [← List.append_assoc] at h1 h2
    exact ⟨h1, h2, hS.2.2.1, trivial⟩
  refine va_callv (va_runIN (host := host) (As := As) (rest := rest) ⟨hC.1, hC.2.1, hC.2.2.1, hC.2.2.2.1, hC.2.2.2.2.1⟩ hM ⟨va_cnB As.length hC.2.2.2.2.1 (lw_meth hg) rfl hc.1.1 hc.1.2 (hC.2.2.2.2.2.2.2.2.1 _ hlk) (hC.2.2.2.2.1 _ hini) hc.2.1 hc.2.2.1, hyn, hC.2.2.2.2.1 _ hins⟩ ⟨wBlind, wPreU hC.2.2.2.2.2.2.2 hA hS'⟩ rfl rfl hl hst (lv_room hrest) hdg hc.2.2.2) hS.2.2.1 (fun q _ h => wFree hA hS' q h) (wFree hA hS') (fun u t H1 locs1 ht _ hp hB _ _ hS1 => ?_)
  have h9 := wBack hA hS' ht hB hS1
  have h1 : va_P D clL ((base ++ es') ++ u) H1 := h9.1
  have h2 : va_D A ((base ++ es') ++ u) := h9.2.1
  rw [List.append_assoc] at h1 h2
  exact kk u H1 locs1 hp ⟨h1, h2, h9.2.2.1, trivial⟩
theorem cGet {ref C : String} {T : u_T} {N ci index a : Nat} {fs : List Value} {v : Value} (hC : wCx own cc nL ret D dT p s m args meth c) (hA : wAz A s) (hS : cSt D base A s es H locs) (k0 : Nat) (he : es[k0]? = some (a, .inr (ci, fs))) (hin : ∀ w ∈ u_ws C T N, w ∈ lw_all) (hc : clL[ci]? = some (C, T, N)) (k : Nat) (hk : k < N) (hlink : Cond.fieldLink own index ref (T k).2.1 (T k).2.2.1 ∈ lw_all) (hsame : ∀ x, s.fieldFound? (T k).1 (T k).2.1 (T k).2.2.1 = some x → s.fieldFound? ref (T k).2.1 (T k).2.2.1 = some x) (hv : fs[k]? = some v) (hdg : decode cc pc = .ok (.getfield index, 3)) (kk : W p l e R s m args below meth c H locs cells slots Q (F0 m (pc + 3) ls (v :: rest))) : W p l e R s m args below meth c H locs cells slots Q (F0 m pc ls (.ref a :: rest)) :=
  va_get hC.1 hC.2.1 hC.2.2.2.2.1 hin hC.2.2.2.1 hC.2.2.2.2.2.2.2.1 hS.1 (base.length + k0) (cW_at.trans he) hc k hk (hC.2.2.2.2.1 _ hlink) hsame hv hdg kk
theorem cIst {n a : Nat} {f : Nat → Int32} {i x : Int32} (hC : wCx own cc nL ret D dT p s m args meth c) (hA : wAz A s) (hS : cSt D base A s es H locs) (k0 : Nat) (he : es[k0]? = some (a, .inl (dT 0, n, .inl f))) (hi : vp_in i n) (hdg : decode cc pc = .ok (.iastore, 1)) (kk : ∀ (H1 : Heap) (locs1 : List Loc), cSt D base A s (es.set k0 (a, .inl (dT 0, n, .inl (upd f i.toNatClampNeg x)))) H1 locs1 → W p l e R s m args below meth c H1 locs1 cells slots Q (F0 m (pc + 1) ls (rest))) : W p l e R s m args below meth c H locs cells slots Q (F0 m pc ls (.int x :: .int i :: .ref a :: rest)) := by
  refine va_iast hC.1 hC.2.1 hC.2.2.2.2.2.2.2.1 hS.1 hS.2.1 hS.2.2.1 (base.length + k0) 0 (cW_at.trans he) rfl hi hdg (fun H1 locs1 hP hD hS1 => ?_)
  rw [cW_set] at hP hD
  exact kk H1 locs1 ⟨hP, hD, hS1, trivial⟩
/-- an array of arrays: ten of eleven longs -/
theorem cMulti (hC : wCx own cc nL ret D dT p s m args meth c) (hA : wAz A s) (hS : cSt D base A s es H locs) (hcl : Cond.classLink own 15 "[[J" ∈ lw_all) (hf : cells + 11 ≤ R.cells ∧ slots + 120 ≤ R.slots) (hdg : decode cc pc = .ok (.multianewarray 15 2, 4)) (kk : ∀ (q : Nat) (ad : Nat → Nat) (H1 : Heap), cSt D base A s (es ++ ((q, .inl (dT 5, 10, .inr (.inr (.inr (.inr (fun j => some (ad j))))))) :: (List.range 10).map (fun j => (ad j, .inl (dT 1, 11, .inr (.inl (fun _ => 0))))))) H1 locs → W p l e R s m args below meth c H1 locs (cells + 11) (slots + 120) Q (F0 m (pc + 4) ls (.ref q :: rest))) : W p l e R s m args below meth c H locs cells slots Q (F0 m pc ls (.int 11 :: .int 10 :: rest)) := sorry
end CONS
