/-! METHODS THAT THROW OR CATCH: entries, calls, ends over a world (general rows) -/
theorem xEnt {σ : Type} {l : Launch} {y : MethodName} {cc : ByteArray} {maxL : Nat} {ret : Option FieldType} {rm : Room} {D : va_G} {dT : Nat → ClassId} {Wd : σ → va_W} {I : σ → Prop} {x : σ} {av : List Value} {Q : (Nat → Prop) → Array Value → State → Outcome → State → Prop} {XC : (Nat → Prop) → String → Addr → State → State → Prop} {mc ms : Nat} (hy : plainName y.cls = true) (hlen : (lg_sl av).length ≤ maxL)
    (body : ∀ (p : Program) (e : Env) (s : State) (m : MethodId) (below : List Frame) (meth : Method) (c : Code) (A : Nat → Prop) (ls : Array Slot), wCx y.cls cc maxL ret D dT p s m av.toArray meth c → (∀ z ∈ c.exceptionTable.toList, False) → wAz A s → wSt D Wd I A s x s.heap [] → lv_has ls maxL (lv_args 0 av) → W p l e rm s m av.toArray below meth c s.heap [] 0 0 (vx_MQ below (Q A) (XC A) av.toArray s mc ms A) (F0 m 0 ls [])) (sz : Nat) :
    vx_Met l y (ws_ y cc maxL ret) rm (wPc D dT Wd I sz x av) (Q (va_A (Wd x) sz)) (XC (va_A (Wd x) sz)) mc ms (va_A (Wd x) sz) := by
  refine vx_ofW (cc := cc) (maxL := maxL) (ret := ret) hy rfl ?_
  intro p e s m args below meth c s₁ B hml htb hv
  obtain ⟨rfl, hsz, hP, hK, hD0, hI, hZ⟩ := hv
  have hts := atoms_spec (ws := ws_ y cc maxL ret) B.pre
  have hts : ∀ w ∈ lw_all, w.before _ s = true := fun w h => hts w (List.mem_cons_of_mem _ h)
  have hown : s.vm.findClass y.cls = some m.cls := findClass_of_methodNamed B.named
  subst hsz
  have hD := hD0.self (sz := s.heap.size)
  rw [lg_entry_eq]
  exact body p e s m below meth c _ _ ⟨B.exec, B.bytes, hml, hown, hts, B.returns, B.notSynchronized, hK⟩ htb ⟨fun q h => Or.inr h, hZ⟩ ⟨hP, hD, va_S.rf, hI⟩ (lv_entry av hlen)
theorem xEntH {σ : Type} {l : Launch} {y : MethodName} {cc : ByteArray} {maxL : Nat} {ret : Option FieldType} {hh : List (Nat × Nat × Nat × Nat)} {rm : Room} {D : va_G} {dT : Nat → ClassId} {Wd : σ → va_W} {I : σ → Prop} {x : σ} {av : List Value} {Q : (Nat → Prop) → Array Value → State → Outcome → State → Prop} {XC : (Nat → Prop) → String → Addr → State → State → Prop} {mc ms : Nat} (hy : plainName y.cls = true) (hlen : (lg_sl av).length ≤ maxL)
    (body : ∀ (p : Program) (e : Env) (s : State) (m : MethodId) (below : List Frame) (meth : Method) (c : Code) (A : Nat → Prop) (ls : Array Slot), wCx y.cls cc maxL ret D dT p s m av.toArray meth c → c.exceptionTable.toList = tableOf hh → wAz A s → wSt D Wd I A s x s.heap [] → lv_has ls maxL (lv_args 0 av) → W p l e rm s m av.toArray below meth c s.heap [] 0 0 (vx_MQ below (Q A) (XC A) av.toArray s mc ms A) (F0 m 0 ls [])) (sz : Nat) :
    vx_Met l y (wsW_ y cc maxL ret hh) rm (wPc D dT Wd I sz x av) (Q (va_A (Wd x) sz)) (XC (va_A (Wd x) sz)) mc ms (va_A (Wd x) sz) := by
  refine vx_ofWH (cc := cc) (maxL := maxL) (ret := ret) (hh := hh) hy rfl ?_
  intro p e s m args below meth c s₁ B hml hv
  obtain ⟨rfl, hsz, hP, hK, hD0, hI, hZ⟩ := hv
  have hts := atoms_spec (ws := wsW_ y cc maxL ret hh) B.pre
  have htb := vx_table (x := y) B (hts _ List.mem_cons_self)
  have hts : ∀ w ∈ lw_all, w.before _ s = true := fun w h => hts w (List.mem_cons_of_mem _ h)
  have hown : s.vm.findClass y.cls = some m.cls := findClass_of_methodNamed B.named
  subst hsz
  have hD := hD0.self (sz := s.heap.size)
  rw [lg_entry_eq]
  exact body p e s m below meth c _ _ ⟨B.exec, B.bytes, hml, hown, hts, B.returns, B.notSynchronized, hK⟩ htb ⟨fun q h => Or.inr h, hZ⟩ ⟨hP, hD, va_S.rf, hI⟩ (lv_entry av hlen)
theorem wEntH {σ : Type} {l : Launch} {y : MethodName} {cc : ByteArray} {maxL : Nat} {ret : Option FieldType} {hh : List (Nat × Nat × Nat × Nat)} {rm : Room} {D : va_G} {dT : Nat → ClassId} {Wd : σ → va_W} {I : σ → Prop} {x : σ} {av : List Value} {Q : (Nat → Prop) → Array Value → State → Outcome → State → Prop} {mc ms : Nat} (hy : plainName y.cls = true) (hlen : (lg_sl av).length ≤ maxL)
    (body : ∀ (p : Program) (e : Env) (s : State) (m : MethodId) (below : List Frame) (meth : Method) (c : Code) (A : Nat → Prop) (ls : Array Slot), wCx y.cls cc maxL ret D dT p s m av.toArray meth c → c.exceptionTable.toList = tableOf hh → wAz A s → wSt D Wd I A s x s.heap [] → lv_has ls maxL (lv_args 0 av) → W p l e rm s m av.toArray below meth c s.heap [] 0 0 (MQ below (Q A) av.toArray s mc ms A) (F0 m 0 ls [])) (sz : Nat) :
    Met l y (wsW_ y cc maxL ret hh) rm (wPc D dT Wd I sz x av) (Q (va_A (Wd x) sz)) mc ms (va_A (Wd x) sz) := by
  refine va_MetW (cc := cc) (maxL := maxL) (ret := ret) (hh := hh) hy rfl ?_
  intro p e s m args below meth c s₁ B hml hv
  obtain ⟨rfl, hsz, hP, hK, hD0, hI, hZ⟩ := hv
  have hts := atoms_spec (ws := wsW_ y cc maxL ret hh) B.pre
  have htb := vx_table (x := y) B (hts _ List.mem_cons_self)
  have hts : ∀ w ∈ lw_all, w.before _ s = true := fun w h => hts w (List.mem_cons_of_mem _ h)
  have hown : s.vm.findClass y.cls = some m.cls := findClass_of_methodNamed B.named
  subst hsz
  have hD := hD0.self (sz := s.heap.size)
  rw [lg_entry_eq]
  exact body p e s m below meth c _ _ ⟨B.exec, B.bytes, hml, hown, hts, B.returns, B.notSynchronized, hK⟩ htb ⟨fun q h => Or.inr h, hZ⟩ ⟨hP, hD, va_S.rf, hI⟩ (lv_entry av hlen)
section GENX
variable {p : Program} {l : Launch} {e : Env} {R : Room} {s : State} {m : MethodId} {args : Array Value} {below : List Frame} {meth : Method} {c : Code} {H : Heap} {locs : List Loc} {cells slots : Nat} {Q : State → Prop}
variable {σ : Type} {D : va_G} {dT : Nat → ClassId} {Wd : σ → va_W} {I : σ → Prop} {A : Nat → Prop} {x : σ} {own : String} {cc bytes : ByteArray} {nL maxL : Nat} {ret ret' : Option FieldType} {hh : List (Nat × Nat × Nat × Nat)} {pc : Nat} {ls : Array Slot} {y : MethodName} {index mc ms : Nat} {rm : Room} {st0 rest As : List Value} {b : Nat}
variable {Qc : Array Value → State → Outcome → State → Prop} {XC : String → Addr → State → State → Prop} {ci : Nat} {q : vw_C} {fs : List Value}
/-- a callee with handlers that throws nothing out -/
theorem wRunVW (q0 : Nat) (hC : wCx own cc nL ret D dT p s m args meth c) (hM : Met l y (wsW_ y bytes maxL ret' hh) rm (wPc D dT Wd I H.size x (.ref b :: As)) Qc mc ms (va_A (Wd x) H.size)) (hg : GoodIn lw_all (wsV own index y.cls y (wsW_ y bytes maxL ret' hh)))
    (hc : wCal R own index y bytes maxL ret' rm mc ms As.length cells slots) (hr : (Wd x)[q0]? = some (b, .inr (ci, fs))) (hq : clL[ci]? = some q) (hqc : q.1 = y.cls) (hA : wAz A s) (hS : wSt D Wd I A s x H locs) (hl : ls.size = nL) (hst : st0 = As.reverse ++ .ref b :: rest) (hrest : (rest.map fun v => v.category).sum ≤ 8) (hdg : decode cc pc = .ok (.invokevirtual index, 3)) :
    va_Run p l e R s m args below meth c H locs cells slots mc ms (F0 m pc ls st0) rest (Qc (Value.ref b :: As).toArray) (va_A (Wd x) H.size) :=
  vx_runVW (As := As) (rest := rest) ⟨hC.1, hC.2.1, hC.2.2.1, hC.2.2.2.1, hC.2.2.2.2.1⟩ hM (vx_cwVW As.length hC.2.2.2.2.1 hg rfl hc.1.1 hc.1.2 ⟨rfl, hc.2.1⟩ hc.2.2.1) ⟨wBlind, by rw [← hqc]; exact va_recv hC.2.2.2.2.2.2.2.1 hS.1 (q0 := q0) hq hr, wPreU hC.2.2.2.2.2.2.2 hA hS⟩ rfl rfl hl hst (lv_room hrest) hdg hc.2.2.2
/-- a callee that may throw, without and with handlers -/
theorem xRunV (q0 : Nat) (hC : wCx own cc nL ret D dT p s m args meth c) (hM : vx_Met l y (ws_ y bytes maxL ret') rm (wPc D dT Wd I H.size x (.ref b :: As)) Qc XC mc ms (va_A (Wd x) H.size)) (hg : GoodIn lw_all (wsV own index y.cls y (ws_ y bytes maxL ret')))
    (hc : wCal R own index y bytes maxL ret' rm mc ms As.length cells slots) (hr : (Wd x)[q0]? = some (b, .inr (ci, fs))) (hq : clL[ci]? = some q) (hqc : q.1 = y.cls) (hA : wAz A s) (hS : wSt D Wd I A s x H locs) (hl : ls.size = nL) (hst : st0 = As.reverse ++ .ref b :: rest) (hrest : (rest.map fun v => v.category).sum ≤ 8) (hdg : decode cc pc = .ok (.invokevirtual index, 3)) :
    vx_Run p l e R s m args below meth c H locs cells slots mc ms (F0 m pc ls st0) rest (Qc (Value.ref b :: As).toArray) XC (va_A (Wd x) H.size) :=
  vx_runV (As := As) (rest := rest) ⟨hC.1, hC.2.1, hC.2.2.1, hC.2.2.2.1, hC.2.2.2.2.1⟩ hM (cwV As.length hC.2.2.2.2.1 hg rfl hc.1.1 hc.1.2 ⟨rfl, hc.2.1⟩ hc.2.2.1) ⟨wBlind, by rw [← hqc]; exact va_recv hC.2.2.2.2.2.2.2.1 hS.1 (q0 := q0) hq hr, wPreU hC.2.2.2.2.2.2.2 hA hS⟩ rfl rfl hl hst (lv_room hrest) hdg hc.2.2.2
theorem xRunVX (q0 : Nat) (hC : wCx own cc nL ret D dT p s m args meth c) (hM : vx_Met l y (wsW_ y bytes maxL ret' hh) rm (wPc D dT Wd I H.size x (.ref b :: As)) Qc XC mc ms (va_A (Wd x) H.size)) (hg : GoodIn lw_all (wsV own index y.cls y (wsW_ y bytes maxL ret' hh)))
    (hc : wCal R own index y bytes maxL ret' rm mc ms As.length cells slots) (hr : (Wd x)[q0]? = some (b, .inr (ci, fs))) (hq : clL[ci]? = some q) (hqc : q.1 = y.cls) (hA : wAz A s) (hS : wSt D Wd I A s x H locs) (hl : ls.size = nL) (hst : st0 = As.reverse ++ .ref b :: rest) (hrest : (rest.map fun v => v.category).sum ≤ 8) (hdg : decode cc pc = .ok (.invokevirtual index, 3)) :
    vx_Run p l e R s m args below meth c H locs cells slots mc ms (F0 m pc ls st0) rest (Qc (Value.ref b :: As).toArray) XC (va_A (Wd x) H.size) :=
  vx_runVX (As := As) (rest := rest) ⟨hC.1, hC.2.1, hC.2.2.1, hC.2.2.2.1, hC.2.2.2.2.1⟩ hM (vx_cwVW As.length hC.2.2.2.2.1 hg rfl hc.1.1 hc.1.2 ⟨rfl, hc.2.1⟩ hc.2.2.1) ⟨wBlind, by rw [← hqc]; exact va_recv hC.2.2.2.2.2.2.2.1 hS.1 (q0 := q0) hq hr, wPreU hC.2.2.2.2.2.2.2 hA hS⟩ rfl rfl hl hst (lv_room hrest) hdg hc.2.2.2
/-- an answer that is a cell, of a callee that may throw (follows vx_calli) -/
theorem xcallr {S SX : Type} {mc ms : Nat} {free : Addr → Prop} {A0 A1 : Nat → Prop} {H0 : Heap} {a : Array Value} {post : S → Prop} {px : SX → Prop} {B : S → Nat → State → Prop} {BX : String → Addr → SX → State → Prop} {AX : Nat → Prop} (hr : vx_Run p l e R s m args below meth c H locs cells slots mc ms (F0 m pc ls st0) rest (va_Qr post B A1 a) (vx_X px BX AX) free) (hS : va_S A0 H0 H locs) (hA : ∀ q, q < H.size → A1 q → A0 q) (hf : ∀ q, free q → A0 q) (hAX : ∀ q, q < H.size → AX q → A0 q)
    (kx : ∀ (E : String) (ce : Cell) (q9 : Addr) (u : SX) (t : State) (H1 : Heap) (locs1 : List Loc), t.heap = H1 → s.vm.Alike t.vm → px u → BX E q9 u t → H.size ≤ H1.size → (∀ q : Nat, q < H.size → ¬ AX q → H1[q]? = H[q]?) → va_S A0 H0 H1 locs1 → H1[q9]? = some ce → ce.vm = .none → s.vm.findClass E = some ce.cls → vx_W p l e R s m args below meth c H1 locs1 (cells + mc) (slots + ms) Q (F0 m pc ls rest) q9)
    (kk : ∀ (u : S) (ra : Nat) (t : State) (H1 : Heap) (locs1 : List Loc), t.heap = H1 → s.vm.Alike t.vm → post u → B u ra t → H.size ≤ H1.size → (∀ q : Nat, q < H.size → ¬ A1 q → H1[q]? = H[q]?) → va_S A0 H0 H1 locs1 → W p l e R s m args below meth c H1 locs1 (cells + mc) (slots + ms) Q (F0 m (pc + 3) ls (.ref ra :: rest))) : W p l e R s m args below meth c H locs cells slots Q (F0 m pc ls st0) := by
  intro T hT X
  rcases hr T hT X with ⟨v, st₀, t, T', L, h0, X', hL, e1, e2, ⟨⟨u, ra, hv, hp, hb⟩, hF⟩, st⟩ | ⟨q, st₀, t, T', L, E, ce, h0, X', hL, e1, e2, ⟨u, hp, hb, hF⟩, hce, hcv, hcl, st⟩
  · cases hv
    obtain ⟨k1, k2, k3⟩ := vx_keep h0 e1 hS hA hf hL hF
    obtain ⟨t2, a1, b1⟩ := kk u ra t T'.heap (locs ++ L) e1.symm (by rw [← e2]; exact X'.warmed.alike) hp hb k1 k2 k3 T' rfl X'
    exact ⟨t2, st t2 a1, b1⟩
  · obtain ⟨k1, k2, k3⟩ := vx_keep h0 e1 hS hAX hf hL hF
    obtain ⟨t2, a1, b1⟩ := kx E ce q u t T'.heap (locs ++ L) e1.symm (by rw [← e2]; exact X'.warmed.alike) hp hb k1 k2 k3 (by rw [e1]; exact hce) hcv hcl T' rfl X'
    exact ⟨t2, st.trans a1, b1⟩
theorem wReta {post : σ × Nat → Prop} {v : Nat} {C : String} (hC : wCx own cc nL (some (.object C)) D dT p s m args meth c) (hS : wSt D Wd I A s x H locs) (hp : post (x, v)) (h1 : cells ≤ mc) (h2 : slots ≤ ms) (hdg : decode cc pc = .ok (.areturn, 1)) : W p l e R s m args below meth c H locs cells slots (MQ below (va_Qr post (fun u a t => a = u.2 ∧ wB D Wd I A u.1 t) A) args s mc ms A) (F0 m pc ls [.ref v]) :=
  W.widen h1 h2 (W.aret (v := .ref v) (rt := .object C) hC.1 hC.2.1 hC.2.2.2.2.2.1 (Or.inl ⟨_, rfl⟩) (Or.inr ⟨_, rfl⟩) (fun t ht _ => ⟨⟨(x, v), v, rfl, hp, rfl, by rw [ht]; exact hS.1, hS.2.1, hS.2.2.2⟩, hS.2.2.1.F ht⟩) hS.2.2.1.2.2 hdg hC.2.2.2.2.2.2.1)
/-- the thrown object goes on to the caller -/
theorem xOut {S : Type} {px : S → Prop} {B : String → Addr → S → State → Prop} {q : Addr} {ce : Cell} {E : String} {Qc : Array Value → State → Outcome → State → Prop} (u : S) (hout : ∀ z ∈ c.exceptionTable.toList, covers z pc = false) (hlocks : meth.locks = false) (hp : px u) (hB : ∀ t : State, t.heap = H → B E q u t) (hS : va_S A s.heap H locs) (hcell : H[q]? = some ce) (hv : ce.vm = .none) (hcl : s.vm.findClass E = some ce.cls) (h1 : cells ≤ mc) (h2 : slots ≤ ms) :
    vx_W p l e R s m args below meth c H locs cells slots (vx_MQ below Qc (vx_X px B A) args s mc ms A) (F0 m pc ls rest) q :=
  vx_out hout hlocks hcell hv hcl (fun t ht _ => ⟨u, hp, hB t ht, hS.F ht⟩) hS.2.2 h1 h2
end GENX
