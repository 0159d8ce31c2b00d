/-! EXCEPTIONS OF THE PROGRAM'S OWN: their constructors, getCause (launches without stack traces) -/
section XEXA
variable {p : Program} {l : Launch} {e : Env} {R : Room} {s : State} {m : MethodId} {args sargs : Array Value} {below : List Frame} {meth : Method} {c : Code} {H : Heap} {locs : List Loc} {cells slots : Nat} {Q : State → Prop}
/-- fillInStackTrace() of a launch without stack traces, as what its callers are owed -/
theorem fillOff {len W9 : Nat} (hexec : p.tables.exec = Jvm.exec) (htr : e.platform.stackTraces = false)
    (T : ThrowableC) (L : T.Links e.platform s) (hfillN : s.methodNamed? Bundle.tFill = some T.fill) {u0 : RefV} {self : Addr} {cell cellS : Cell}
    (hobj : ∀ k, cell.vm ≠ .statics k) (hknown : cell.vm ≠ .unknown) (hfree : cell.monitor.owner = none) (hcount : cell.monitor.count = 0)
    (hvS : cell.slots[T.fStack.slot]? = some u0.v) (hsel0 : selectMethod e.platform s.vm cell.cls T.fill0 = .method T.fill0)
    (hneS : T.aS ≠ self) (hknownS : cellS.vm ≠ .unknown) (hvU : cellS.slots[T.fUnassigned.slot]? = some u0.v) (htS : Jvm.Takes s cell T.fStack u0.v)
    (hback : ∃ B : BackC, B.Links T e.platform s ∧ cell.slots[B.fBack.slot]? = some .null) (hRframes : 2 < R.frames) (hRlocals : W9 + 42 ≤ R.locals) :
    Back l R p e below s sargs Bundle.tFill len W9 (fun A a => a = #[.ref self] ∧ A.U.heap[self]? = some cell ∧ A.U.heap[T.aS]? = some cellS)
      (fun A _ v B => v = some (.ref self) ∧ B.U.heap = A.U.heap.setIfInBounds self (cell.setSlot T.fStack.slot u0.v) ∧ B.locs = A.locs ++ [⟨self, T.fStack.slot⟩] ∧ B.cells = A.cells ∧ B.slots = A.slots) := by
  intro m meth c A g ig mk a X hg hsize hdg hWd hmk hPre
  obtain ⟨T', locs, cells, slots⟩ := A
  obtain ⟨ha, hcell, hcellS⟩ := hPre
  dsimp only [Pt.U, Pt.locs, Pt.cells, Pt.slots] at X hmk hcell hcellS ⊢
  subst ha
  have e1 : T'.methodNamed? Bundle.tFill = s.methodNamed? Bundle.tFill := by
    rw [State.methodNamed?_of_vm (U := T') (V := s.setVm T'.vm) rfl]; exact State.methodNamed?_setVm X.warmed.alike _
  obtain rfl : mk = T.fill := Option.some.inj ((hmk.symm.trans e1).trans hfillN)
  have h : At T' g.method c below := by rw [hg]; exact X.here
  have hfr' : T'.frames.length + 2 < (e.platform.stackLimits T'.me).1 := X.framesAbove hRframes
  have hwd' : (stackUse (.java g :: T'.frames.tail)).2 + 42 ≤ (e.platform.stackLimits T'.me).2 := X.stackAbove hsize (K := 42) (by omega)
  obtain ⟨g₀, hg0⟩ := Option.isSome_iff_exists.mp h.top
  obtain ⟨tl0, htl0⟩ := State.topJava?_eq_some.mp hg0
  have hlen0 : T'.frames.length = (Frame.java g :: T'.frames.tail).length := by rw [htl0]; rfl
  have hlt : self < T'.heap.size := (Array.getElem?_eq_some_iff.mp hcell).1
  have hfg : (T'.setTop g).frames = [] ++ (Frame.java g :: T'.frames.tail) := by rw [State.frames_setTop _ htl0, htl0]; rfl
  have hroom : e.platform.stackFull (((T'.setTop g).threads[(T'.setTop g).cur]?).getD { frames := [] }) (T'.setTop g).frames (1 + 2) = false :=
    roomAbove (pushed := []) (base := .java g :: T'.frames.tail) (free := 42) (lim := e.platform.stackLimits T'.me) hfg (State.stackLimits_setTop _ h.top g) (by rw [← hlen0]; simp only [List.length_nil]; omega) hwd' (by simp only [stackUse_nil]; omega)
  have hroomN : ∀ vm1 : Vm, e.platform.stackFull ((((fillInside (T'.setVm vm1) g T.fill self cell).setTop (fillJ T.fill self 16 [])).threads[((fillInside (T'.setVm vm1) g T.fill self cell).setTop (fillJ T.fill self 16 [])).cur]?).getD { frames := [] }) ((fillInside (T'.setVm vm1) g T.fill self cell).setTop (fillJ T.fill self 16 [])).frames (nativeFrameWords "java/lang/Throwable" "fillInStackTrace" 2) = false := fun vm1 => by
    have hfF : (fillInside (T'.setVm vm1) g T.fill self cell).frames = .java (entryFrameSync T.fill #[.ref self] 1 self) :: .java g :: T'.frames.tail :=
      frames_entered (g := g) (show ((T'.setVm vm1).setCell self (cell.withEntry T'.cur)).topJava?.isSome from h.top) _
    have htopF : (fillInside (T'.setVm vm1) g T.fill self cell).topJava?.isSome := by rw [State.topJava?_of_frames hfF]; rfl
    exact roomAbove (pushed := [.java (fillJ T.fill self 16 [])]) (base := .java g :: T'.frames.tail) (free := 42) (lim := e.platform.stackLimits T'.me) (State.frames_setTop _ hfF)
      (by rw [State.stackLimits_setTop _ htopF, State.stackLimits_pushFrame, State.stackLimits_setTop _ (show ((T'.setVm vm1).setCell self (cell.withEntry (T'.setVm vm1).cur)).topJava?.isSome from h.top)]; rfl)
      (by rw [← hlen0]; simp only [List.length_cons, List.length_nil]; omega) hwd' (by rw [show (stackUse [Frame.java (fillJ T.fill self 16 [])]).2 = 14 from by rw [stackUse_java, stackUse_nil]; simp [operandWords]]; decide)
  obtain ⟨vm', hW', st⟩ := Steps.fillColdAnyV p (V := T') (g := g) (c := c) (self := self) h hexec T L X.warmed
    (Nn := fun u => u) heapOnly_id (fun _ _ => rfl) (fun _ => rfl) (fun u x y => setCell_twice _ _ _ _)
    (cell := cell) (cellS := cellS) (cN := cell.withEntry T'.cur) (u0 := u0) (ig := ig) (len := len) []
    hcell hobj hknown (Or.inl hfree) hvS hsel0 hcellS hneS hknownS hvU (fun u hu => hu) (fun u hu => hu) rfl rfl rfl rfl htS hdg
    (fun _ vm1 hW1 hA1 t' ht => L.nativeOff p htr hA1 hW1 (hroomN vm1) ht) hroom (by obtain ⟨B, LB, hvB⟩ := hback; exact ⟨B, LB, hvB, fun _ _ => rfl⟩)
  have hend : ((cell.withEntry T'.cur).setSlot T.fStack.slot u0.v).left = cell.setSlot T.fStack.slot u0.v := by
    simp only [Cell.left_setSlot, Cell.left_withEntry T'.cur hfree hcount]
  rw [hend] at st
  have X2 := (X.noted hW').stored (a := self) (cell := cell) hcell T.fStack.slot u0.v
  exact ⟨some (.ref self), ⟨(T'.setVm vm').setCell self (cell.setSlot T.fStack.slot u0.v), locs ++ [⟨self, T.fStack.slot⟩], cells, slots⟩, X2, ⟨rfl, rfl, rfl, rfl, rfl⟩, st _ (Steps.refl _)⟩
end XEXA
/-! Throwable.getCause(): synchronized; cause == this ? null : cause -/
def yGC : MethodName := ⟨"java/lang/Throwable", "getCause", "()Ljava/lang/Throwable;"⟩
abbrev cGC : ByteArray := prog_23_method_8_code
theorem dGC_0 : decode cGC 0 = .ok (.aload_n 0, 1) := by decide +kernel
theorem dGC_1 : decode cGC 1 = .ok (.getfield 7, 3) := by decide +kernel
theorem dGC_4 : decode cGC 4 = .ok (.aload_n 0, 1) := by decide +kernel
theorem dGC_5 : decode cGC 5 = .ok (.if_acmp .ne 7, 3) := by decide +kernel
theorem dGC_12 : decode cGC 12 = .ok (.aload_n 0, 1) := by decide +kernel
theorem dGC_13 : decode cGC 13 = .ok (.getfield 7, 3) := by decide +kernel
theorem dGC_16 : decode cGC 16 = .ok (.areturn, 1) := by decide +kernel
section XGC
variable {p : Program} {l : Launch} {e : Env} {R : Room} {s : State} {args sargs : Array Value} {below : List Frame}
theorem gcOff {len W9 : Nat} (hexec : p.tables.exec = Jvm.exec) (T : ThrowableC) (L : T.Links e.platform s) (hT : s.vm.findClass "java/lang/Throwable" = some T.cT)
    (hcs : (Cond.codeSync yGC cGC 1 (some (.object "java/lang/Throwable"))).before args s = true) (hins : (Cond.instanceMethod yGC).before args s = true) {self x : Addr} {cell : Cell} (hne : x ≠ self)
    (hobj : ∀ k, cell.vm ≠ .statics k) (hknown : cell.vm ≠ .unknown) (hfree : cell.monitor.owner = none) (hcount : cell.monitor.count = 0) (hv : cell.slots[T.fCause.slot]? = some (.ref x)) (hRframes : 1 < R.frames) (hRlocals : W9 + 20 ≤ R.locals) :
    Back l R p e below s sargs yGC len W9 (fun A a => a = #[.ref self] ∧ A.U.heap[self]? = some cell)
      (fun A _ v B => v = some (.ref x) ∧ B.U.heap = A.U.heap ∧ B.locs = A.locs ∧ B.cells = A.cells ∧ B.slots = A.slots) := by
  intro m meth c A g ig mk a X hg hsize hdg hWd hmk hPre
  obtain ⟨V, locs, cells, slots⟩ := A
  obtain ⟨ha, hcell⟩ := hPre
  dsimp only [Pt.U, Pt.locs, Pt.cells, Pt.slots] at X hmk hcell ⊢
  subst ha
  have e1 : V.methodNamed? yGC = s.methodNamed? yGC := by
    rw [State.methodNamed?_of_vm (U := V) (V := s.setVm V.vm) rfl]; exact State.methodNamed?_setVm X.warmed.alike _
  have hmk0 : s.methodNamed? yGC = some mk := e1.symm.trans hmk
  obtain ⟨mk', methM, hn', hmM, hstM, -⟩ := Cond.instanceMethod_spec hins
  cases hn'.symm.trans hmk0
  obtain ⟨methM', cM, hmM', hcM, hbM, hlM, hrM, hlkM, -, -⟩ := Cond.codeSync_spec hmk0 hcs
  cases hmM'.symm.trans hmM
  have hW := X.warmed
  have h : At V g.method c below := by rw [hg]; exact X.here
  have hmF : ∀ vm, s.WarmedH vm → vm.method? mk = some methM := fun vm hv => hv.methodAt hmM
  have hplain : ∀ vm, s.WarmedH vm → (V.setVm vm).plainMethod mk := fun vm hv =>
    State.plainMethod.of_named (x := yGC) (by decide +kernel) (by rw [State.methodNamed?_of_vm (U := V.setVm vm) (V := s.setVm vm) rfl]; exact (State.methodNamed?_setVm hv.alike _).trans hmk0) (hmF vm hv)
  have hcls : mk.cls = T.cT := Option.some.inj ((findClass_of_methodNamed hmk0).symm.trans hT)
  obtain ⟨g₀, hg0⟩ := Option.isSome_iff_exists.mp h.top
  obtain ⟨tl0, htl0⟩ := State.topJava?_eq_some.mp hg0
  have hlen0 : V.frames.length = (Frame.java g :: V.frames.tail).length := by rw [htl0]; rfl
  have hlt : self < V.heap.size := (Array.getElem?_eq_some_iff.mp hcell).1
  have hfr' : V.frames.length + 1 < (e.platform.stackLimits V.me).1 := X.framesAbove hRframes
  have hwd' : (stackUse (.java g :: V.frames.tail)).2 + 20 ≤ (e.platform.stackLimits V.me).2 := X.stackAbove hsize (K := 20) (by omega)
  have hfg : (V.setTop g).frames = [] ++ (Frame.java g :: V.frames.tail) := by rw [State.frames_setTop _ htl0, htl0]; rfl
  have hroom : e.platform.stackFull (((V.setTop g).threads[(V.setTop g).cur]?).getD { frames := [] }) (V.setTop g).frames (cM.maxLocals + 2) = false := by
    rw [hlM]
    exact roomAbove (pushed := []) (base := .java g :: V.frames.tail) (free := 20) (lim := e.platform.stackLimits V.me) hfg (State.stackLimits_setTop _ h.top g) (by rw [← hlen0]; simp only [List.length_nil]; omega) hwd' (by simp only [stackUse_nil]; omega)
  have hAof : ∀ vm, s.WarmedH vm → At (fillInside (V.setVm vm) g mk self cell) mk cM below := fun vm hWv => by
    have := At.enter_sync (g := g) (h.setVm (hW.alike.symm.trans hWv.alike)) #[.ref self] self (cell.withEntry V.cur) (hmF vm hWv) hcM (hplain vm hWv)
    rw [hlM] at this
    exact this
  have hcellU : ∀ vm, (fillInside (V.setVm vm) g mk self cell).heap[self]? = some (cell.withEntry V.cur) := fun vm => by
    show (V.heap.setIfInBounds self (cell.withEntry V.cur))[self]? = _
    simp [hlt]
  have hvU : (cell.withEntry V.cur).slots[T.fCause.slot]? = some (.ref x) := hv
  have hW0 : s.WarmedH (V.setVm V.vm).vm := hW
  obtain ⟨vm1, hW1, st1⟩ := Steps.getfieldCold (tb := p.tables) (s₀ := s) (U := fillInside (V.setVm V.vm) g mk self cell) (f := fillJ mk self 1 [.ref self]) (a := self) (rest := []) (cell := cell.withEntry V.cur) (v := .ref x) (hAof _ hW0) hexec (by rw [hbM]; exact dGC_1) hW0 (by rw [hcls]; exact L.link7) (by rw [hcls]; exact L.right7) L.cls L.at7
    L.causeInstance rfl (hcellU _) hknown hvU
  obtain ⟨vm2, hW2, st2⟩ := Steps.getfieldCold (tb := p.tables) (s₀ := s) (U := fillInside (V.setVm vm1) g mk self cell) (f := fillJ mk self 13 [.ref self]) (a := self) (rest := []) (cell := cell.withEntry V.cur) (v := .ref x) (hAof _ hW1) hexec (by rw [hbM]; exact dGC_13) hW1 (by rw [hcls]; exact L.link7) (by rw [hcls]; exact L.right7) L.cls L.at7
    L.causeInstance rfl (hcellU _) hknown hvU
  have hend : (cell.withEntry V.cur).left = cell := Cell.left_withEntry V.cur hfree hcount
  refine ⟨some (.ref x), ⟨V.setVm vm2, locs, cells, slots⟩, X.noted hW2, ⟨rfl, rfl, rfl, rfl, rfl⟩, ?_⟩
  dsimp only [Pt.U]
  rw [doInvoke_enter_sync h.top [] (hmF _ hW) hcM hlkM hstM rfl hcell (Or.inl hfree) hroom, hlM]
  have hA0 : At (fillInside V g mk self cell) mk cM below := hAof V.vm hW
  have hA1 := hAof vm1 hW1
  have hA2 := hAof vm2 hW2
  show Steps p.tables e below ((fillInside V g mk self cell).setTop (fillJ mk self 0 [])) _
  jvm_step hA0 [hA0.top, hexec, hbM, dGC_0, Value.isRef]
  refine st1 _ ?_
  show Steps p.tables e below ((fillInside (V.setVm vm1) g mk self cell).setTop (fillJ mk self 4 [.ref x])) _
  jvm_step hA1 [hA1.top, hexec, hbM, dGC_4, Value.isRef]
  jvm_step hA1 [hA1.top, hexec, hbM, dGC_5, Value.isRef, hne]
  refine ⟨_, rfl, _, rfl, ?_⟩
  rw [if_pos (by simp [if_acmp.holds, hne])]
  jvm_step hA1 [hA1.top, hexec, hbM, dGC_12, Value.isRef]
  refine st2 _ ?_
  show Steps p.tables e below ((fillInside (V.setVm vm2) g mk self cell).setTop (fillJ mk self 16 [.ref x])) _
  jvm_step hA2 [hA2.top, hexec, hbM, dGC_16, areturn.wp_sem, Value.isRef, FieldType.isReference]
  refine ⟨methM, hmF vm2 hW2, ⟨_, hrM, rfl⟩, fun acts' => ?_⟩
  have hfr : (fillInside (V.setVm vm2) g mk self cell).frames = .java (entryFrameSync mk #[.ref self] 1 self) :: .java g :: V.frames.tail :=
    frames_entered (g := g) (show ((V.setVm vm2).setCell self (cell.withEntry V.cur)).topJava?.isSome from h.top) _
  have hcode : (fillInside (V.setVm vm2) g mk self cell).code? g.method = some c := by
    have h9 := (X.noted hW2).here.code
    rw [State.code?_eq] at h9 ⊢
    rw [hg]
    exact h9
  have h8 := doReturn_leave_sync (e := e) (u := fillInside (V.setVm vm2) g mk self cell) (g := g) (meth := methM) (cg := c) (ig := ig) (len := len) (v := some (.ref x)) (a := self) (cell := cell.withEntry V.cur)
      (f := fillJ mk self 16 []) (f₀ := entryFrameSync mk #[.ref self] 1 self) (r := V.frames.tail) acts' L.owns hfr (hmF vm2 hW2) hlkM rfl rfl (hcellU vm2) rfl hcode hdg
  rw [hend] at h8
  rw [h8]
  have hset : ((V.setVm vm2).setCell self (cell.withEntry V.cur)).setCell self cell = V.setVm vm2 := by
    rw [setCell_twice]
    have hh : V.heap.setIfInBounds self cell = V.heap := by
      apply Array.ext_getElem?
      intro i
      rw [Array.getElem?_setIfInBounds]
      split
      · rename_i h9; subst h9
        exact hcell.symm
      · rfl
    show ({ V.setVm vm2 with heap := V.heap.setIfInBounds self cell } : State) = _
    rw [hh]
    rfl
  have e1 : ((fillInside (V.setVm vm2) g mk self cell).setCell self cell).setFrames (.java g :: V.frames.tail) = (V.setVm vm2).setTop g := by
    have h7 := setFrames_entered (s := (V.setVm vm2).setCell self (cell.withEntry V.cur)) (g := g) h.top (.java (entryFrameSync mk #[.ref self] 1 self))
    have h6 : ((fillInside (V.setVm vm2) g mk self cell).setFrames (.java g :: ((V.setVm vm2).setCell self (cell.withEntry V.cur)).frames.tail)).setCell self cell = (((V.setVm vm2).setCell self (cell.withEntry V.cur)).setTop g).setCell self cell := congrArg (fun z : State => z.setCell self cell) h7
    calc _ = (((V.setVm vm2).setCell self (cell.withEntry V.cur)).setTop g).setCell self cell := h6
      _ = (((V.setVm vm2).setCell self (cell.withEntry V.cur)).setCell self cell).setTop g := rfl
      _ = _ := by rw [hset]
  rw [e1, heapOnly_id.setTop_setTop (s := V.setVm vm2) h.top g _]
  exact Steps.refl _
end XGC

def WE (base : va_W) (q ci : Nat) (fs : List Value) : va_W := base ++ [(q, .inr (ci, fs))]
theorem WE_at {base : va_W} {q ci : Nat} {fs : List Value} : (WE base q ci fs)[base.length]? = some (q, .inr (ci, fs)) := by
  unfold WE
  rw [List.getElem?_append_right (Nat.le_refl _), Nat.sub_self]; rfl
theorem WE_set {base : va_W} {q ci : Nat} {fs fs' : List Value} : (WE base q ci fs).set base.length (q, .inr (ci, fs')) = WE base q ci fs' := by
  unfold WE
  rw [List.set_append_right _ _ (Nat.le_refl _), Nat.sub_self]; rfl
section XEXB
variable {p : Program} {l : Launch} {e : Env} {R : Room} {s : State} {m : MethodId} {args : Array Value} {below : List Frame} {meth : Method} {c : Code} {H : Heap} {locs : List Loc} {cells slots : Nat} {Q : State → Prop}
variable {D : va_G} {dT : Nat → ClassId} {A : Nat → Prop} {base : va_W} {q ci : Nat} {fs : List Value} {own : String} {cc : ByteArray} {nL : Nat} {ret : Option FieldType} {pc : Nat} {ls : Array Slot} {rest : List Value}
/-- a write of a field of the object that is made (follows va_put, va_putF); its monitor stays as it is -/
theorem xPutM {ref C : String} {T : u_T} {N index : Nat} {v : Value} {ty : FieldType} (hC : wCx own cc nL ret D dT p s m args meth c) (hS : wSt D (WE base q ci) (fun _ => True) A s fs H locs) (hM : FM H q) (hin : ∀ w ∈ u_ws C T N, w ∈ lw_all) (ty0 : Nat → FieldType) (hty : ∀ k, k < N → parseFieldDescriptor (T k).2.2.1 = some (ty0 k)) (hnm : ∀ a, a < N → ∀ b, b < N → a ≠ b → (T a).2.1 ≠ (T b).2.1) (hc : clL[ci]? = some (C, T, N)) (k : Nat) (hk : k < N) (hlink : Cond.fieldLink own index ref (T k).2.1 (T k).2.2.1 ∈ lw_all) (hsame : ∀ x, s.fieldFound? (T k).1 (T k).2.1 (T k).2.2.1 = some x → s.fieldFound? ref (T k).2.1 (T k).2.2.1 = some x) (hfin : (T k).2.2.2 = false) (hd : parseFieldDescriptor (T k).2.2.1 = some ty) (hn : narrow ty v = v) (hfit : fits ty v = true) (hl : k < fs.length)
    (hdg : decode cc pc = .ok (.putfield index, 3)) (kk : ∀ (H1 : Heap) (locs1 : List Loc), wSt D (WE base q ci) (fun _ => True) A s (fs.set k v) H1 locs1 → FM H1 q → W p l e R s m args below meth c H1 locs1 cells slots Q (F0 m (pc + 3) ls rest)) : W p l e R s m args below meth c H locs cells slots Q (F0 m pc ls (v :: .ref q :: rest)) := by
  have hK := hC.2.2.2.2.2.2.2.1
  have hts := hC.2.2.2.2.1
  have hlink := hts _ hlink
  have hin : ∀ w ∈ u_ws C T N, w ∈ lw_all := hin
  have hap := va_apart (own := own) hts hin ty0 hty hnm hK hc
  obtain ⟨hP, hD, hS0, -⟩ := hS
  obtain ⟨r, h1, cell, q1, q2, q3, q4⟩ := hP base.length _ WE_at
  have hr : r = (C, T, N) := Option.some.inj (h1.symm.trans hc)
  subst hr
  obtain ⟨hS, hfc, kC, hkC, hkind⟩ := hK.1 ci _ hc
  obtain ⟨cf, kf, fi, f, hi, hsl⟩ := hS k hk
  have hlay := hts _ (hin _ (u_in_lay hk))
  unfold u_lay at hlay
  rw [if_neg (by rw [hfin]; decide)] at hlay
  have hst := (u_facts hfc hkC (u_lays hts hin hk) hi).1
  have h6 := u_store hfc hkC hkind hlay hi hd hn hfit
  refine W.putK hC.1 hC.2.1 (f := f) ⟨hC.2.2.2.1, hlink, ⟨_, _, _, hsame _ hi⟩, hst⟩ (by rw [q2]; exact h6) q1 q3 (by rw [hsl]; exact k2_hasslot (q4 k hk)) rfl rfl hdg fun H' e1 e2 e3 => ?_
  have e1' := e1
  rw [hsl] at e1 ⊢
  have g1 : va_P D clL ((WE base q ci fs).set base.length (q, .inr (ci, fs.set k v))) H' := hP.set hD WE_at ⟨_, hc, t_OB.to (V := updV (vp_V fs) k v) ⟨_, e1, q2, q3, t_set q4 hap hk v⟩ (fun j _ => vp_updV_set hl v j)⟩ e3
  have g2 : va_D A ((WE base q ci fs).set base.length (q, .inr (ci, fs.set k v))) := hD.set WE_at
  rw [WE_set] at g1 g2
  obtain ⟨cM, m1, m2, m3⟩ := hM
  cases m1.symm.trans q1
  exact kk H' _ ⟨g1, g2, hS0.put e2 e3 (hD.2 _ _ WE_at), trivial⟩ ⟨_, e1', m2, m3⟩
theorem xPutMF {ref C : String} {T : u_T} {N index : Nat} {v : Value} {ty : FieldType} (hC : wCx own cc nL ret D dT p s m args meth c) (hS : wSt D (WE base q ci) (fun _ => True) A s fs H locs) (hM : FM H q) (hin : ∀ w ∈ u_ws C T N, w ∈ lw_all) (ty0 : Nat → FieldType) (hty : ∀ k, k < N → parseFieldDescriptor (T k).2.2.1 = some (ty0 k)) (hnm : ∀ a, a < N → ∀ b, b < N → a ≠ b → (T a).2.1 ≠ (T b).2.1) (hc : clL[ci]? = some (C, T, N)) (k : Nat) (hk : k < N) (hlink : Cond.fieldLink own index ref (T k).2.1 (T k).2.2.1 ∈ lw_all) (hsame : ∀ x, s.fieldFound? (T k).1 (T k).2.1 (T k).2.2.1 = some x → s.fieldFound? ref (T k).2.1 (T k).2.2.1 = some x) (hfin : (T k).2.2.2 = true) (hin2 : meth.name = "<init>") (hdecl : (T k).1 = own) (hd : parseFieldDescriptor (T k).2.2.1 = some ty) (hn : narrow ty v = v) (hfit : fits ty v = true) (hl : k < fs.length)
    (hdg : decode cc pc = .ok (.putfield index, 3)) (kk : ∀ (H1 : Heap) (locs1 : List Loc), wSt D (WE base q ci) (fun _ => True) A s (fs.set k v) H1 locs1 → FM H1 q → W p l e R s m args below meth c H1 locs1 cells slots Q (F0 m (pc + 3) ls rest)) : W p l e R s m args below meth c H locs cells slots Q (F0 m pc ls (v :: .ref q :: rest)) := by
  have hK := hC.2.2.2.2.2.2.2.1
  have hts := hC.2.2.2.2.1
  have hown := hC.2.2.2.1
  have hlink := hts _ hlink
  have hin : ∀ w ∈ u_ws C T N, w ∈ lw_all := hin
  have hap := va_apart (own := own) hts hin ty0 hty hnm hK hc
  obtain ⟨hP, hD, hS0, -⟩ := hS
  obtain ⟨r, h1, cell, q1, q2, q3, q4⟩ := hP base.length _ WE_at
  have hr : r = (C, T, N) := Option.some.inj (h1.symm.trans hc)
  subst hr
  obtain ⟨hS, hfc, kC, hkC, hkind⟩ := hK.1 ci _ hc
  obtain ⟨cf, kf, fi, f, hi, hsl⟩ := hS k hk
  have hlay := hts _ (hin _ (u_in_lay hk))
  unfold u_lay at hlay
  rw [if_pos hfin] at hlay
  have hst := (u_facts hfc hkC (u_lays hts hin hk) hi).1
  have hcf : m.cls = cf := by
    obtain ⟨_, _, c', _, _, _, -, -, hf', -, -, -, hown2, -⟩ := Cond.laysFinal_spec hlay
    have e1 : c' = cf := by have := hi.symm.trans hf'; simp at this; exact this.1.symm
    rw [hdecl] at hown2
    rw [← e1]; exact Option.some.inj (hown.symm.trans hown2)
  have h6 := u_fits hfc hkC hkind (Or.inr hlay) hi hd hn hfit
  refine W.putFinK hC.1 hC.2.1 hown hlink (hsame _ hi) hst hcf hin2 (by rw [q2]; exact h6) q1 q3 (by rw [hsl]; exact k2_hasslot (q4 k hk)) rfl rfl hdg fun H' e1 e2 e3 => ?_
  have e1' := e1
  rw [hsl] at e1 ⊢
  have g1 : va_P D clL ((WE base q ci fs).set base.length (q, .inr (ci, fs.set k v))) H' := hP.set hD WE_at ⟨_, hc, t_OB.to (V := updV (vp_V fs) k v) ⟨_, e1, q2, q3, t_set q4 hap hk v⟩ (fun j _ => vp_updV_set hl v j)⟩ e3
  have g2 : va_D A ((WE base q ci fs).set base.length (q, .inr (ci, fs.set k v))) := hD.set WE_at
  rw [WE_set] at g1 g2
  obtain ⟨cM, m1, m2, m3⟩ := hM
  cases m1.symm.trans q1
  exact kk H' _ ⟨g1, g2, hS0.put e2 e3 (hD.2 _ _ WE_at), trivial⟩ ⟨_, e1', m2, m3⟩
theorem xThrowAtoms (hts : ∀ w ∈ lw_all, w.before args s = true) (hA : wAz A s) : ∀ w ∈ Bundle.throwableAtoms, w.before args s = true := by
  intro w hw
  simp only [Bundle.throwableAtoms, List.mem_cons, List.not_mem_nil, or_false] at hw
  rcases hw with rfl | rfl | rfl | rfl | rfl | rfl | rfl | rfl | rfl | rfl | rfl | rfl | rfl | rfl | rfl | rfl | rfl | rfl | rfl | rfl | rfl | rfl | rfl | rfl
  · exact hts _ q90
  · exact hts _ q415
  · exact hts _ q424
  · exact hts _ q446
  · exact hts _ q449
  · exact hts _ q451
  · exact hts _ q416
  · exact hts _ q417
  · exact hts _ q113
  · exact hts _ q114
  · exact hts _ q418
  · exact hts _ q423
  · exact hts _ q447
  · exact hts _ q468
  · exact hts _ q405
  · exact hts _ q469
  · exact hts _ q407
  · exact hts _ q470
  · exact hts _ q409
  · exact hts _ q419
  · exact hA.2.1.2.word
  · exact hts _ q421
  · exact hA.2.2.2.word
  · exact hts _ q411
/-- fillInStackTrace() on the object that is made -/
theorem xFill5 {ret' : Option FieldType} {v : Value} (hC : wCx "java/lang/Throwable" cc nL ret' D dT p s m args meth c) (hfl : l.stackTraces = false) (hA : wAz A s) (hS : wSt D (WE base q 5) (fun _ => True) A s fs H locs) (hM : FM H q) (hZ : va_Z Bundle.tN "UNASSIGNED_STACK" Bundle.steD v A s s.heap) (hv : v.isRef = true) (h1 : vp_V fs 1 = v) (h4 : vp_V fs 4 = .null) (hsize : ls.size = nL) (hrest : (rest.map fun v => v.category).sum ≤ 8) (hR : 3 ≤ R.frames ∧ 60 ≤ R.locals) (hdg : decode cc pc = .ok (.invokevirtual 27, 3))
    (kk : ∀ (H1 : Heap) (locs1 : List Loc), wSt D (WE base q 5) (fun _ => True) A s fs H1 locs1 → FM H1 q → W p l e R s m args below meth c H1 locs1 cells slots Q (F0 m (pc + 3) ls (.ref q :: rest))) : W p l e R s m args below meth c H locs cells slots Q (F0 m pc ls (.ref q :: rest)) := by
  intro T0 hT0 X
  subst hT0
  have hts := hC.2.2.2.2.1
  have hK := hC.2.2.2.2.2.2.2.1
  obtain ⟨hP, hD, hS0, -⟩ := hS
  obtain ⟨r, hr1, cell, q1, q2, q3, q4⟩ := hP base.length _ WE_at
  have hr : r = (RX5, TX5, 7) := Option.some.inj (hr1.symm.trans rfl)
  subst hr
  obtain ⟨hSl, hfc, kC, hkC, hkind⟩ := hK.1 5 _ rfl
  obtain ⟨cM, m1, m2, m3⟩ := hM
  have hq1 : T0.heap[q]? = some cell := q1
  cases m1.symm.trans hq1
  have htr : e.platform.stackTraces = false := (show e.platform.stackTraces = l.stackTraces by rw [X.admits.platform]).trans hfl
  have howns : e.platform.frameOwnsMonitors = true := by rw [X.admits.platform]
  have hfin : e.platform.finalization = false := by rw [X.admits.platform]
  have hpl : e.platform.magicAccessors = ({} : Platform).magicAccessors := by rw [X.admits.platform]
  obtain ⟨T, Z, L, LZ, Y⟩ := ThrowableC.of_atoms (args := args) howns hfin hpl (xThrowAtoms hts hA)
  have hcls : s.vm.findClass RX5 = some cell.cls := by rw [q2]; exact hfc
  have hsel0 : selectMethod e.platform s.vm cell.cls T.fill0 = .method T.fill0 := by
    obtain ⟨c2, r2, m2, q1, q2, q3, q4, -⟩ := Cond.selects_spec (hts _ q402)
    cases Option.some.inj (q1.symm.trans hcls)
    cases Option.some.inj (q2.symm.trans (State.methodFound?_of_named Y.fill0 (by decide)))
    cases Option.some.inj (q3.symm.trans Y.fill0)
    rw [Launch.admits_selectMethod X.admits]; exact q4
  obtain ⟨cU, kU, iU, fU, aU, cellS, u1, u2, u3, u4, u5, u6, u7, u8⟩ := hZ
  cases u1.symm.trans Y.unassigned
  cases Option.some.inj (u4.symm.trans L.statics)
  have hcS : T0.heap[T.aS]? = some cellS := (hS0.2.1 _ (Array.getElem?_eq_some_iff.mp u5).1 u8).trans u5
  have hknownS : cellS.vm ≠ .unknown := fun h9 => by rw [h9] at u6; cases u6
  have hneS : T.aS ≠ q := fun h9 => u8 (by rw [h9]; exact hD.2 _ _ WE_at)
  obtain ⟨ci198, i198, fB, hk198, hg198, ha198, hsB, -, hnB, htB, hffB⟩ := Cond.ownField (t := .object "java/lang/Object") Y.found L.cls (by decide +kernel) (hts _ q414) (hts _ q413) e.platform hpl
  have sl : ∀ (k : Nat), k < 7 → ∀ {cf kf fi f}, s.fieldFound? (TX5 k).1 (TX5 k).2.1 (TX5 k).2.2.1 = some (cf, kf, fi, f) → cell.slots[f.slot]? = some (vp_V fs k) := by
    intro k hk cf kf fi f hf
    obtain ⟨cf', kf', fi', f', hf', hsl⟩ := hSl k hk
    have hf' : s.fieldFound? (TX5 k).1 (TX5 k).2.1 (TX5 k).2.2.1 = some (cf', kf', fi', f') := hf'
    cases hf.symm.trans hf'
    have := q4 k hk
    rw [← hsl] at this
    exact this
  have sStk := sl 1 (by decide) Y.stack
  have sBk := sl 4 (by decide) hffB
  rw [h1] at sStk
  rw [h4] at sBk
  have ht1 : Jvm.Takes s cell T.fStack v := by
    refine ⟨(Array.getElem?_eq_some_iff.mp sStk).1, ?_⟩
    have hty := (u_facts hfc hkC (u_lays (k := 1) hts in_X5 (by decide)) Y.stack).2.2
    have h9 := fresh_fits (s := s) (U := s) (x := v) (Vm.Alike.refl _) hkC hkind hty (by rw [Y.stackType]; exact fits_refV_array _ ⟨v, hv⟩)
    rw [q2, q3]; exact h9
  have hSE := hts _ q403
  obtain ⟨v6, vm6, ⟨T6, L6, c6, n6⟩, hW6, X6, ⟨hv6, hH6, hL6, hc6, hn6⟩, come27⟩ := X.virtualBack hC.1 (own := "java/lang/Throwable") (C := RX5) (index := 27) (y := Bundle.tFill) (z := Bundle.tFill) hC.2.2.2.1 (hts _ q423) (va_Nw.use rfl (hC.2.2.2.2.2.2.2.2.1 _ nw_q442)) (notFace_of_selects hSE) hSE (hts _ q424) (by decide)
    (fillOff (l := l) (R := R) (W9 := 8) hC.1 htr T L Y.fill (u0 := ⟨v, hv⟩) (self := q) (cell := cell) (cellS := cellS) (fun _ => by rw [q3]; simp) (by rw [q3]; simp) m2 m3 sStk hsel0 hneS hknownS u7 ht1
      ⟨{ ci198 := ci198, i198 := i198, fBack := fB }, ⟨hk198, hg198, ha198, hsB⟩, sBk⟩ (by omega) (by omega))
    (b := q) (cB := cell.cls) hcls ⟨cell, hq1, rfl, by rw [q3]; rfl⟩ (g := F0 m pc ls (.ref q :: rest)) rfl (hsize.trans hC.2.2.1.symm) (Steps.refl _) (argsL := []) (rest := rest)
    (fun sig h => by rw [show parseMethodDescriptor Bundle.tFill.desc = some ⟨[], some (.object "java/lang/Throwable")⟩ from by decide +kernel] at h; rw [← Option.some.inj h]; rfl) rfl (by show 2 * 0 + _ ≤ 8; omega) (by rw [hC.2.1]; exact hdg)
    (fun vmx hWx => ⟨rfl, hq1, hcS⟩)
  dsimp only [Pt.U, Pt.locs, Pt.cells, Pt.slots] at X6 hH6 hL6 hc6 hn6 come27
  subst hv6 hL6 hc6 hn6
  have hlt : q < T0.heap.size := (Array.getElem?_eq_some_iff.mp hq1).1
  have hH6 : T6.heap = T0.heap.setIfInBounds q (cell.setSlot T.fStack.slot v) := hH6
  have e1 : T6.heap[q]? = some (cell.setSlot T.fStack.slot v) := by rw [hH6]; simp [hlt]
  have e2 : T6.heap.size = T0.heap.size := by rw [hH6]; simp
  have e3 : ∀ y, y ≠ q → T6.heap[y]? = T0.heap[y]? := fun y hy => by rw [hH6]; simp [Ne.symm hy]
  have hsame : (cell.setSlot T.fStack.slot v) = cell := by
    have : cell.slots.setIfInBounds T.fStack.slot v = cell.slots := by
      apply Array.ext_getElem?
      intro i
      rw [Array.getElem?_setIfInBounds]
      split
      · rename_i h9; subst h9
        rw [if_pos (Array.getElem?_eq_some_iff.mp sStk).1, sStk]
      · rfl
    unfold Cell.setSlot
    rw [this]
  rw [hsame] at e1
  have hP6 : va_P D clL (WE base q 5 fs) T6.heap := hP.kept (fun k z hz => by
    by_cases hzq : z.1 = q
    · rw [hzq, e1, hq1]
    · exact e3 _ hzq)
  obtain ⟨t, a1, b1⟩ := kk T6.heap (locs ++ [⟨q, T.fStack.slot⟩]) ⟨hP6, hD, hS0.put e2 e3 (hD.2 _ _ WE_at), trivial⟩ ⟨cell, e1, m2, m3⟩ T6 rfl X6
  exact ⟨t, come27.trans a1, b1⟩
/-- fillInStackTrace() on the object that is made -/
theorem xFill7 {ret' : Option FieldType} {v : Value} (hC : wCx "java/lang/Throwable" cc nL ret' D dT p s m args meth c) (hfl : l.stackTraces = false) (hA : wAz A s) (hS : wSt D (WE base q 7) (fun _ => True) A s fs H locs) (hM : FM H q) (hZ : va_Z Bundle.tN "UNASSIGNED_STACK" Bundle.steD v A s s.heap) (hv : v.isRef = true) (h1 : vp_V fs 1 = v) (h4 : vp_V fs 4 = .null) (hsize : ls.size = nL) (hrest : (rest.map fun v => v.category).sum ≤ 8) (hR : 3 ≤ R.frames ∧ 60 ≤ R.locals) (hdg : decode cc pc = .ok (.invokevirtual 27, 3))
    (kk : ∀ (H1 : Heap) (locs1 : List Loc), wSt D (WE base q 7) (fun _ => True) A s fs H1 locs1 → FM H1 q → W p l e R s m args below meth c H1 locs1 cells slots Q (F0 m (pc + 3) ls (.ref q :: rest))) : W p l e R s m args below meth c H locs cells slots Q (F0 m pc ls (.ref q :: rest)) := by
  intro T0 hT0 X
  subst hT0
  have hts := hC.2.2.2.2.1
  have hK := hC.2.2.2.2.2.2.2.1
  obtain ⟨hP, hD, hS0, -⟩ := hS
  obtain ⟨r, hr1, cell, q1, q2, q3, q4⟩ := hP base.length _ WE_at
  have hr : r = (RX7, TX7, 7) := Option.some.inj (hr1.symm.trans rfl)
  subst hr
  obtain ⟨hSl, hfc, kC, hkC, hkind⟩ := hK.1 7 _ rfl
  obtain ⟨cM, m1, m2, m3⟩ := hM
  have hq1 : T0.heap[q]? = some cell := q1
  cases m1.symm.trans hq1
  have htr : e.platform.stackTraces = false := (show e.platform.stackTraces = l.stackTraces by rw [X.admits.platform]).trans hfl
  have howns : e.platform.frameOwnsMonitors = true := by rw [X.admits.platform]
  have hfin : e.platform.finalization = false := by rw [X.admits.platform]
  have hpl : e.platform.magicAccessors = ({} : Platform).magicAccessors := by rw [X.admits.platform]
  obtain ⟨T, Z, L, LZ, Y⟩ := ThrowableC.of_atoms (args := args) howns hfin hpl (xThrowAtoms hts hA)
  have hcls : s.vm.findClass RX7 = some cell.cls := by rw [q2]; exact hfc
  have hsel0 : selectMethod e.platform s.vm cell.cls T.fill0 = .method T.fill0 := by
    obtain ⟨c2, r2, m2, q1, q2, q3, q4, -⟩ := Cond.selects_spec (hts _ q575)
    cases Option.some.inj (q1.symm.trans hcls)
    cases Option.some.inj (q2.symm.trans (State.methodFound?_of_named Y.fill0 (by decide)))
    cases Option.some.inj (q3.symm.trans Y.fill0)
    rw [Launch.admits_selectMethod X.admits]; exact q4
  obtain ⟨cU, kU, iU, fU, aU, cellS, u1, u2, u3, u4, u5, u6, u7, u8⟩ := hZ
  cases u1.symm.trans Y.unassigned
  cases Option.some.inj (u4.symm.trans L.statics)
  have hcS : T0.heap[T.aS]? = some cellS := (hS0.2.1 _ (Array.getElem?_eq_some_iff.mp u5).1 u8).trans u5
  have hknownS : cellS.vm ≠ .unknown := fun h9 => by rw [h9] at u6; cases u6
  have hneS : T.aS ≠ q := fun h9 => u8 (by rw [h9]; exact hD.2 _ _ WE_at)
  obtain ⟨ci198, i198, fB, hk198, hg198, ha198, hsB, -, hnB, htB, hffB⟩ := Cond.ownField (t := .object "java/lang/Object") Y.found L.cls (by decide +kernel) (hts _ q414) (hts _ q413) e.platform hpl
  have sl : ∀ (k : Nat), k < 7 → ∀ {cf kf fi f}, s.fieldFound? (TX7 k).1 (TX7 k).2.1 (TX7 k).2.2.1 = some (cf, kf, fi, f) → cell.slots[f.slot]? = some (vp_V fs k) := by
    intro k hk cf kf fi f hf
    obtain ⟨cf', kf', fi', f', hf', hsl⟩ := hSl k hk
    have hf' : s.fieldFound? (TX7 k).1 (TX7 k).2.1 (TX7 k).2.2.1 = some (cf', kf', fi', f') := hf'
    cases hf.symm.trans hf'
    have := q4 k hk
    rw [← hsl] at this
    exact this
  have sStk := sl 1 (by decide) Y.stack
  have sBk := sl 4 (by decide) hffB
  rw [h1] at sStk
  rw [h4] at sBk
  have ht1 : Jvm.Takes s cell T.fStack v := by
    refine ⟨(Array.getElem?_eq_some_iff.mp sStk).1, ?_⟩
    have hty := (u_facts hfc hkC (u_lays (k := 1) hts in_X7 (by decide)) Y.stack).2.2
    have h9 := fresh_fits (s := s) (U := s) (x := v) (Vm.Alike.refl _) hkC hkind hty (by rw [Y.stackType]; exact fits_refV_array _ ⟨v, hv⟩)
    rw [q2, q3]; exact h9
  have hSE := hts _ q426
  obtain ⟨v6, vm6, ⟨T6, L6, c6, n6⟩, hW6, X6, ⟨hv6, hH6, hL6, hc6, hn6⟩, come27⟩ := X.virtualBack hC.1 (own := "java/lang/Throwable") (C := RX7) (index := 27) (y := Bundle.tFill) (z := Bundle.tFill) hC.2.2.2.1 (hts _ q423) (va_Nw.use rfl (hC.2.2.2.2.2.2.2.2.1 _ nw_q442)) (notFace_of_selects hSE) hSE (hts _ q424) (by decide)
    (fillOff (l := l) (R := R) (W9 := 8) hC.1 htr T L Y.fill (u0 := ⟨v, hv⟩) (self := q) (cell := cell) (cellS := cellS) (fun _ => by rw [q3]; simp) (by rw [q3]; simp) m2 m3 sStk hsel0 hneS hknownS u7 ht1
      ⟨{ ci198 := ci198, i198 := i198, fBack := fB }, ⟨hk198, hg198, ha198, hsB⟩, sBk⟩ (by omega) (by omega))
    (b := q) (cB := cell.cls) hcls ⟨cell, hq1, rfl, by rw [q3]; rfl⟩ (g := F0 m pc ls (.ref q :: rest)) rfl (hsize.trans hC.2.2.1.symm) (Steps.refl _) (argsL := []) (rest := rest)
    (fun sig h => by rw [show parseMethodDescriptor Bundle.tFill.desc = some ⟨[], some (.object "java/lang/Throwable")⟩ from by decide +kernel] at h; rw [← Option.some.inj h]; rfl) rfl (by show 2 * 0 + _ ≤ 8; omega) (by rw [hC.2.1]; exact hdg)
    (fun vmx hWx => ⟨rfl, hq1, hcS⟩)
  dsimp only [Pt.U, Pt.locs, Pt.cells, Pt.slots] at X6 hH6 hL6 hc6 hn6 come27
  subst hv6 hL6 hc6 hn6
  have hlt : q < T0.heap.size := (Array.getElem?_eq_some_iff.mp hq1).1
  have hH6 : T6.heap = T0.heap.setIfInBounds q (cell.setSlot T.fStack.slot v) := hH6
  have e1 : T6.heap[q]? = some (cell.setSlot T.fStack.slot v) := by rw [hH6]; simp [hlt]
  have e2 : T6.heap.size = T0.heap.size := by rw [hH6]; simp
  have e3 : ∀ y, y ≠ q → T6.heap[y]? = T0.heap[y]? := fun y hy => by rw [hH6]; simp [Ne.symm hy]
  have hsame : (cell.setSlot T.fStack.slot v) = cell := by
    have : cell.slots.setIfInBounds T.fStack.slot v = cell.slots := by
      apply Array.ext_getElem?
      intro i
      rw [Array.getElem?_setIfInBounds]
      split
      · rename_i h9; subst h9
        rw [if_pos (Array.getElem?_eq_some_iff.mp sStk).1, sStk]
      · rfl
    unfold Cell.setSlot
    rw [this]
  rw [hsame] at e1
  have hP6 : va_P D clL (WE base q 7 fs) T6.heap := hP.kept (fun k z hz => by
    by_cases hzq : z.1 = q
    · rw [hzq, e1, hq1]
    · exact e3 _ hzq)
  obtain ⟨t, a1, b1⟩ := kk T6.heap (locs ++ [⟨q, T.fStack.slot⟩]) ⟨hP6, hD, hS0.put e2 e3 (hD.2 _ _ WE_at), trivial⟩ ⟨cell, e1, m2, m3⟩ T6 rfl X6
  exact ⟨t, come27.trans a1, b1⟩
def mPc (D : va_G) (dT : Nat → ClassId) (base : va_W) (q ci sz : Nat) (fs av : List Value) : Array Value → State → Prop := fun a U => wPc D dT (WE base q ci) (fun _ => True) sz fs av a U ∧ FM U.heap q
def mB (D : va_G) (base : va_W) (q ci : Nat) (A : Nat → Prop) : List Value → State → Prop := fun fs t => wB D (WE base q ci) (fun _ => True) A fs t ∧ FM t.heap q
theorem mBlind {sz : Nat} {av : List Value} : FrameBlind (mPc D dT base q ci sz fs av) := by
  intro a U g mk h
  exact ⟨wBlind _ _ _ _ h.1, h.2⟩
theorem mRetv {post : List Value → Prop} {mc ms : Nat} (hC : wCx own cc nL none D dT p s m args meth c) (hS : wSt D (WE base q ci) (fun _ => True) A s fs H locs) (hM : FM H q) (hp : post fs) (h1 : cells ≤ mc) (h2 : slots ≤ ms) (hdg : decode cc pc = .ok (.return_, 1)) : W p l e R s m args below meth c H locs cells slots (MQ below (va_Qv post (mB D base q ci A) A) args s mc ms A) (F0 m pc ls []) :=
  W.widen h1 h2 (W.vret hC.1 hC.2.1 hC.2.2.2.2.2.1 (fun t ht _ => ⟨⟨fs, rfl, hp, ⟨by rw [ht]; exact hS.1, hS.2.1, trivial⟩, by rw [ht]; exact hM⟩, hS.2.2.1.F ht⟩) hS.2.2.1.2.2 hdg hC.2.2.2.2.2.2.1)
theorem mCall {post : List Value → Prop} {bytes : ByteArray} {maxL index : Nat} {rm : Room} {y : MethodName} {As st0 : List Value} (hC : wCx own cc nL ret D dT p s m args meth c) (hA : wAz A s) (hS : wSt D (WE base q ci) (fun _ => True) A s fs H locs) (hMM : FM H q) (hM : Met l y (ws_ y bytes maxL none) rm (mPc D dT base q ci H.size fs (.ref q :: As)) (va_Qv post (mB D base q ci (va_A (WE base q ci fs) H.size)) (va_A (WE base q ci fs) H.size)) 0 0 (va_A (WE base q ci fs) H.size)) (hg : Cond.code y bytes maxL none ∈ lw_all) (hini : Cond.initialized y.cls ∈ lw_all) (hlk : Cond.methodLink own index y ∈ lw_all) (hins : Cond.instanceMethod y ∈ lw_all) (hyn : y.name = "<init>")
    (hc : wCal R own index y bytes maxL none rm 0 0 As.length cells slots) (hl : ls.size = nL) (hst : st0 = As.reverse ++ .ref q :: rest) (hrest : (rest.map fun v => v.category).sum ≤ 8) (hdg : decode cc pc = .ok (.invokespecial index, 3))
    (kk : ∀ (fs' : List Value) (H1 : Heap) (locs1 : List Loc), post fs' → wSt D (WE base q ci) (fun _ => True) A s fs' H1 locs1 → FM H1 q → W p l e R s m args below meth c H1 locs1 cells slots Q (F0 m (pc + 3) ls rest)) : W p l e R s m args below meth c H locs cells slots Q (F0 m pc ls st0) :=
  va_callv (va_runI (As := As) (rest := rest) ⟨hC.1, hC.2.1, hC.2.2.1, hC.2.2.2.1, hC.2.2.2.2.1⟩ hM (cwI As.length hC.2.2.2.2.1 (lw_meth hg) rfl hc.1.1 hc.1.2 (hC.2.2.2.2.1 _ hini) (hC.2.2.2.2.1 _ hlk) (hC.2.2.2.2.1 _ hins) hyn hc.2.1 hc.2.2.1) ⟨mBlind, fun U hU hW => ⟨wPreU hC.2.2.2.2.2.2.2 hA hS U hU hW, by rw [hU]; exact hMM⟩⟩ rfl rfl hl hst (lv_room hrest) hdg hc.2.2.2) hS.2.2.1 (fun q _ h => wFree hA hS q h) (wFree hA hS)
    (fun u t H1 locs1 ht _ hp hB _ _ hS1 => kk u H1 locs1 hp (wBack hA hS ht hB.1 hS1) (by rw [← ht]; exact hB.2))
end XEXB
theorem mEnt {l : Launch} {y : MethodName} {cc : ByteArray} {maxL : Nat} {ret : Option FieldType} {rm : Room} {D : va_G} {dT : Nat → ClassId} {base : va_W} {q ci : Nat} {fs av : List Value} {Q : (Nat → Prop) → Array Value → State → Outcome → State → Prop} {mc ms : Nat} (hy : plainName y.cls = true) (hlen : (lg_sl av).length ≤ maxL)
    (body : ∀ (p : Program) (e : Env) (s : State) (m : MethodId) (below : List Frame) (meth : Method) (c : Code) (A : Nat → Prop) (ls : Array Slot), wCx y.cls cc maxL ret D dT p s m av.toArray meth c → meth.name = y.name → wAz A s → wSt D (WE base q ci) (fun _ => True) A s fs s.heap [] → FM s.heap q → lv_has ls maxL (lv_args 0 av) → W p l e rm s m av.toArray below meth c s.heap [] 0 0 (MQ below (Q A) av.toArray s mc ms A) (F0 m 0 ls [])) (sz : Nat) :
    Met l y (ws_ y cc maxL ret) rm (mPc D dT base q ci sz fs av) (Q (va_A (WE base q ci fs) sz)) mc ms (va_A (WE base q ci fs) sz) := by
  refine Met.ofW (cc := cc) (maxL := maxL) (ret := ret) hy rfl ?_
  intro p e s m args below meth c s₁ B hml hv
  obtain ⟨⟨rfl, hsz, hP, hK, hD0, hI, hZ⟩, hM⟩ := hv
  have hts := atoms_spec (ws := ws_ y cc maxL ret) B.pre
  have hts : ∀ w ∈ lw_all, w.before _ s = true := fun w h => hts w (List.mem_cons_of_mem _ h)
  have hown : s.vm.findClass y.cls = some m.cls := findClass_of_methodNamed B.named
  have hin : meth.name = y.name := (name_of_methodNamed B.named B.method).1
  subst hsz
  have hD := hD0.self (sz := s.heap.size)
  rw [lg_entry_eq]
  exact body p e s m below meth c _ _ ⟨B.exec, B.bytes, hml, hown, hts, B.returns, B.notSynchronized, hK⟩ hin ⟨fun q h => Or.inr h, hZ⟩ ⟨hP, hD, va_S.rf, hI⟩ hM (lv_entry av hlen)
theorem mEntF {l : Launch} {y : MethodName} {cc : ByteArray} {maxL : Nat} {ret : Option FieldType} {rm : Room} {D : va_G} {dT : Nat → ClassId} {base : va_W} {q ci : Nat} {fs av : List Value} {Q : (Nat → Prop) → Array Value → State → Outcome → State → Prop} {mc ms : Nat} (hy : plainFor y = true) (hlen : (lg_sl av).length ≤ maxL)
    (body : ∀ (p : Program) (e : Env) (s : State) (m : MethodId) (below : List Frame) (meth : Method) (c : Code) (A : Nat → Prop) (ls : Array Slot), wCx y.cls cc maxL ret D dT p s m av.toArray meth c → meth.name = y.name → wAz A s → wSt D (WE base q ci) (fun _ => True) A s fs s.heap [] → FM s.heap q → lv_has ls maxL (lv_args 0 av) → W p l e rm s m av.toArray below meth c s.heap [] 0 0 (MQ below (Q A) av.toArray s mc ms A) (F0 m 0 ls [])) (sz : Nat) :
    Met l y (ws_ y cc maxL ret) rm (mPc D dT base q ci sz fs av) (Q (va_A (WE base q ci fs) sz)) mc ms (va_A (WE base q ci fs) sz) := by
  refine va_MetF (cc := cc) (maxL := maxL) (ret := ret) hy rfl ?_
  intro p e s m args below meth c s₁ B hml hv
  obtain ⟨⟨rfl, hsz, hP, hK, hD0, hI, hZ⟩, hM⟩ := hv
  have hts := atoms_spec (ws := ws_ y cc maxL ret) B.pre
  have hts : ∀ w ∈ lw_all, w.before _ s = true := fun w h => hts w (List.mem_cons_of_mem _ h)
  have hown : s.vm.findClass y.cls = some m.cls := findClass_of_methodNamed B.named
  have hin : meth.name = y.name := (name_of_methodNamed B.named B.method).1
  subst hsz
  have hD := hD0.self (sz := s.heap.size)
  rw [lg_entry_eq]
  exact body p e s m below meth c _ _ ⟨B.exec, B.bytes, hml, hown, hts, B.returns, B.notSynchronized, hK⟩ hin ⟨fun q h => Or.inr h, hZ⟩ ⟨hP, hD, va_S.rf, hI⟩ hM (lv_entry av hlen)
abbrev rmJ0_init : Room := { frames := 3, cells := 0, slots := 0, locals := 60 }
theorem hd_J0_init : yJ0_init.cls ≠ "java/lang/invoke/MethodHandle" ∧ yJ0_init.cls ≠ "java/lang/invoke/VarHandle" ∧ (parseMethodDescriptor yJ0_init.desc).map (fun d => d.parameters.length) = some 0 := by decide +kernel
set_option maxHeartbeats 4000000 in
set_option maxRecDepth 100000 in
theorem met_J0_init {l : Launch} (hfl : l.stackTraces = false) (D : va_G) (dT : Nat → ClassId) (base : va_W) (q sz : Nat) : Met l yJ0_init (ws_ yJ0_init cJ0_init 1 none) rmJ0_init (mPc D dT base q 5 sz d5 [.ref q]) (va_Qv (fun fs => fs.length = 7) (mB D base q 5 (va_A (WE base q 5 d5) sz)) (va_A (WE base q 5 d5) sz)) 0 0 (va_A (WE base q 5 d5) sz) := by
  refine mEntF (y := yJ0_init) (cc := cJ0_init) (maxL := 1) (ret := none) (av := [.ref q]) (Q := fun A => va_Qv (fun fs => fs.length = 7) (mB D base q 5 A) A) (by decide +kernel) (Nat.le_of_ble_eq_true rfl) (fun p e s m below meth c A ls hC hin hA hS hM hl => ?_) sz
  have hl : lv_has ls 1 [(0, .ref q)] := hl
  have hx := hC.1
  have hb := hC.2.1
  have hown := hC.2.2.2.1
  have hts := hC.2.2.2.2.1
  generalize hH : s.heap = H at hS hM ⊢
  have hS : wSt D (WE base q 5) (fun _ => True) A s d5 H [] := by rw [← hH] at hS ⊢; exact hS
  obtain ⟨u, hu, hZu⟩ : ∃ v : Value, v.isRef = true ∧ va_Z Bundle.tN "UNASSIGNED_STACK" Bundle.steD v A s s.heap := by
    rcases hA.2.1.1 with h | ⟨t, h⟩
    · exact ⟨.null, rfl, h⟩
    · exact ⟨.ref t, rfl, h⟩
  obtain ⟨n, hn, hZn⟩ : ∃ v : Value, v.isRef = true ∧ va_Z Bundle.tN "SUPPRESSED_SENTINEL" Bundle.listD v A s s.heap := by
    rcases hA.2.2.1 with h | ⟨t, h⟩
    · exact ⟨.null, rfl, h⟩
    · exact ⟨.ref t, rfl, h⟩
  refine lv_aload_n hx hb dJ0_init_0 rfl (lv_at hl 0 rfl) ?_
  refine W.objInit hx hb hown (hts _ q418) (hts _ q113) (hts _ q114) rfl (by rw [hC.2.2.1]; exact hl.1) rfl dJ0_init_1 (Nat.le_of_ble_eq_true rfl) (Nat.le_of_ble_eq_true rfl) ?_
  refine W.eq (g2 := F0 m 4 ls []) rfl ?_
  refine lv_aload_n hx hb dJ0_init_4 rfl (lv_at hl 0 rfl) ?_
  refine lv_aload_n hx hb dJ0_init_5 rfl (lv_at hl 0 rfl) ?_
  refine xPutM hC hS hM in_X5 tyX5 tyX5_ok nmX5 rfl 0 (by decide) q468 (fun _ h => h) rfl (show parseFieldDescriptor (TX5 0).2.2.1 = some (tyX5 0) from tyX5_ok 0 (by decide)) rfl rfl (by simp) dJ0_init_6 (fun H locs hS hM => ?_)
  refine lv_aload_n hx hb dJ0_init_9 rfl (lv_at hl 0 rfl) ?_
  refine va_gets hx hb hZu hS.2.2.1 hown (hts _ q419) (fun _ h => h) dJ0_init_10 ?_
  refine xPutM hC hS hM in_X5 tyX5 tyX5_ok nmX5 rfl 1 (by decide) q469 (fun _ h => h) rfl (show parseFieldDescriptor (TX5 1).2.2.1 = some (tyX5 1) from tyX5_ok 1 (by decide)) (narrow_refV _ ⟨u, hu⟩) (fits_refV_array _ ⟨u, hu⟩) (by simp) dJ0_init_13 (fun H locs hS hM => ?_)
  refine lv_aload_n hx hb dJ0_init_16 rfl (lv_at hl 0 rfl) ?_
  refine va_gets hx hb hZn hS.2.2.1 hown (hts _ q421) (fun _ h => h) dJ0_init_17 ?_
  refine xPutM hC hS hM in_X5 tyX5 tyX5_ok nmX5 rfl 2 (by decide) q470 (fun _ h => h) rfl (show parseFieldDescriptor (TX5 2).2.2.1 = some (tyX5 2) from tyX5_ok 2 (by decide)) (narrow_refV _ ⟨n, hn⟩) (fits_refV_object _ ⟨n, hn⟩) (by simp) dJ0_init_20 (fun H locs hS hM => ?_)
  refine lv_aload_n hx hb dJ0_init_23 rfl (lv_at hl 0 rfl) ?_
  refine xFill5 hC hfl hA hS hM hZu hu rfl rfl hl.1 (Nat.zero_le _) ⟨(Nat.le_of_ble_eq_true rfl), (Nat.le_of_ble_eq_true rfl)⟩ dJ0_init_24 (fun H locs hS hM => ?_)
  refine lv_pop hx hb dJ0_init_27 rfl ?_
  exact mRetv hC hS hM rfl (Nat.le_refl _) (Nat.le_refl _) dJ0_init_28
abbrev rmJ1_init : Room := { frames := 4, cells := 0, slots := 0, locals := 90 }
theorem hd_J1_init : yJ1_init.cls ≠ "java/lang/invoke/MethodHandle" ∧ yJ1_init.cls ≠ "java/lang/invoke/VarHandle" ∧ (parseMethodDescriptor yJ1_init.desc).map (fun d => d.parameters.length) = some 0 := by decide +kernel
set_option maxHeartbeats 4000000 in
set_option maxRecDepth 100000 in
theorem met_J1_init {l : Launch} (hfl : l.stackTraces = false) (D : va_G) (dT : Nat → ClassId) (base : va_W) (q sz : Nat) : Met l yJ1_init (ws_ yJ1_init cJ1_init 1 none) rmJ1_init (mPc D dT base q 5 sz d5 [.ref q]) (va_Qv (fun fs => fs.length = 7) (mB D base q 5 (va_A (WE base q 5 d5) sz)) (va_A (WE base q 5 d5) sz)) 0 0 (va_A (WE base q 5 d5) sz) := by
  refine mEntF (y := yJ1_init) (cc := cJ1_init) (maxL := 1) (ret := none) (av := [.ref q]) (Q := fun A => va_Qv (fun fs => fs.length = 7) (mB D base q 5 A) A) (by decide +kernel) (Nat.le_of_ble_eq_true rfl) (fun p e s m below meth c A ls hC hin hA hS hM hl => ?_) sz
  have hl : lv_has ls 1 [(0, .ref q)] := hl
  have hx := hC.1
  have hb := hC.2.1
  have hown := hC.2.2.2.1
  have hts := hC.2.2.2.2.1
  generalize hH : s.heap = H at hS hM ⊢
  have hS : wSt D (WE base q 5) (fun _ => True) A s d5 H [] := by rw [← hH] at hS ⊢; exact hS
  refine lv_aload_n hx hb dJ1_init_0 rfl (lv_at hl 0 rfl) ?_
  refine mCall (As := []) hC hA hS hM (met_J0_init hfl D dT base q H.size ) q417 q90 q462 q416 rfl ⟨⟨rfl, rfl⟩, hd_J0_init, ⟨(Nat.le_of_ble_eq_true rfl), (Nat.le_of_ble_eq_true rfl)⟩, ⟨(Nat.le_of_ble_eq_true rfl), (Nat.le_of_ble_eq_true rfl)⟩⟩ hl.1 rfl (Nat.zero_le _) dJ1_init_1 (fun fs H locs hp hS hM => ?_)
  exact mRetv hC hS hM hp (Nat.le_refl _) (Nat.le_refl _) dJ1_init_4
abbrev rmX5_init : Room := { frames := 6, cells := 0, slots := 0, locals := 120 }
theorem hd_X5_init : yX5_init.cls ≠ "java/lang/invoke/MethodHandle" ∧ yX5_init.cls ≠ "java/lang/invoke/VarHandle" ∧ (parseMethodDescriptor yX5_init.desc).map (fun d => d.parameters.length) = some 1 := by decide +kernel
set_option maxHeartbeats 4000000 in
set_option maxRecDepth 100000 in
theorem met_X5_init {l : Launch} (hfl : l.stackTraces = false) (D : va_G) (dT : Nat → ClassId) (base : va_W) (q sz : Nat) (w : Int32) : Met l yX5_init (ws_ yX5_init cX5_init 2 none) rmX5_init (mPc D dT base q 5 sz d5 [.ref q, .int w]) (va_Qv (fun fs => fs[6]? = some (.int w)) (mB D base q 5 (va_A (WE base q 5 d5) sz)) (va_A (WE base q 5 d5) sz)) 0 0 (va_A (WE base q 5 d5) sz) := by
  refine mEnt (y := yX5_init) (cc := cX5_init) (maxL := 2) (ret := none) (av := [.ref q, .int w]) (Q := fun A => va_Qv (fun fs => fs[6]? = some (.int w)) (mB D base q 5 A) A) (by decide) (Nat.le_of_ble_eq_true rfl) (fun p e s m below meth c A ls hC hin hA hS hM hl => ?_) sz
  have hl : lv_has ls 2 [(0, .ref q), (1, .int w)] := hl
  have hx := hC.1
  have hb := hC.2.1
  have hown := hC.2.2.2.1
  have hts := hC.2.2.2.2.1
  generalize hH : s.heap = H at hS hM ⊢
  have hS : wSt D (WE base q 5) (fun _ => True) A s d5 H [] := by rw [← hH] at hS ⊢; exact hS
  refine lv_aload_n hx hb dX5_init_0 rfl (lv_at hl 0 rfl) ?_
  refine mCall (As := []) hC hA hS hM (met_J1_init hfl D dT base q H.size ) q461 q91 q459 q460 rfl ⟨⟨rfl, rfl⟩, hd_J1_init, ⟨(Nat.le_of_ble_eq_true rfl), (Nat.le_of_ble_eq_true rfl)⟩, ⟨(Nat.le_of_ble_eq_true rfl), (Nat.le_of_ble_eq_true rfl)⟩⟩ hl.1 rfl (Nat.zero_le _) dX5_init_1 (fun fs H locs hp hS hM => ?_)
  refine lv_aload_n hx hb dX5_init_4 rfl (lv_at hl 0 rfl) ?_
  refine lv_iload_n hx hb dX5_init_5 rfl (lv_at hl 1 rfl) ?_
  refine xPutMF hC hS hM in_X5 tyX5 tyX5_ok nmX5 rfl 6 (by decide) q463 (fun _ h => h) rfl hin rfl (show parseFieldDescriptor (TX5 6).2.2.1 = some (tyX5 6) from tyX5_ok 6 (by decide)) rfl rfl (by have h9 := hp; omega) dX5_init_6 (fun H locs hS hM => ?_)
  exact mRetv hC hS hM (List.getElem?_set_self (by have h9 := hp; omega)) (Nat.le_refl _) (Nat.le_refl _) dX5_init_9
abbrev rmJ0_init_2 : Room := { frames := 3, cells := 0, slots := 0, locals := 60 }
theorem hd_J0_init_2 : yJ0_init_2.cls ≠ "java/lang/invoke/MethodHandle" ∧ yJ0_init_2.cls ≠ "java/lang/invoke/VarHandle" ∧ (parseMethodDescriptor yJ0_init_2.desc).map (fun d => d.parameters.length) = some 2 := by decide +kernel
set_option maxHeartbeats 4000000 in
set_option maxRecDepth 100000 in
theorem met_J0_init_2 {l : Launch} (hfl : l.stackTraces = false) (D : va_G) (dT : Nat → ClassId) (base : va_W) (q sz : Nat) (x : Nat) : Met l yJ0_init_2 (ws_ yJ0_init_2 cJ0_init_2 3 none) rmJ0_init_2 (mPc D dT base q 7 sz d5 [.ref q, .null, .ref x]) (va_Qv (fun fs => fs.length = 7 ∧ fs[0]? = some (.ref x)) (mB D base q 7 (va_A (WE base q 7 d5) sz)) (va_A (WE base q 7 d5) sz)) 0 0 (va_A (WE base q 7 d5) sz) := by
  refine mEntF (y := yJ0_init_2) (cc := cJ0_init_2) (maxL := 3) (ret := none) (av := [.ref q, .null, .ref x]) (Q := fun A => va_Qv (fun fs => fs.length = 7 ∧ fs[0]? = some (.ref x)) (mB D base q 7 A) A) (by decide +kernel) (Nat.le_of_ble_eq_true rfl) (fun p e s m below meth c A ls hC hin hA hS hM hl => ?_) sz
  have hl : lv_has ls 3 [(0, .ref q), (1, .null), (2, .ref x)] := hl
  have hx := hC.1
  have hb := hC.2.1
  have hown := hC.2.2.2.1
  have hts := hC.2.2.2.2.1
  generalize hH : s.heap = H at hS hM ⊢
  have hS : wSt D (WE base q 7) (fun _ => True) A s d5 H [] := by rw [← hH] at hS ⊢; exact hS
  obtain ⟨u, hu, hZu⟩ : ∃ v : Value, v.isRef = true ∧ va_Z Bundle.tN "UNASSIGNED_STACK" Bundle.steD v A s s.heap := by
    rcases hA.2.1.1 with h | ⟨t, h⟩
    · exact ⟨.null, rfl, h⟩
    · exact ⟨.ref t, rfl, h⟩
  obtain ⟨n, hn, hZn⟩ : ∃ v : Value, v.isRef = true ∧ va_Z Bundle.tN "SUPPRESSED_SENTINEL" Bundle.listD v A s s.heap := by
    rcases hA.2.2.1 with h | ⟨t, h⟩
    · exact ⟨.null, rfl, h⟩
    · exact ⟨.ref t, rfl, h⟩
  refine lv_aload_n hx hb dJ0_init_2_0 rfl (lv_at hl 0 rfl) ?_
  refine W.objInit hx hb hown (hts _ q418) (hts _ q113) (hts _ q114) rfl (by rw [hC.2.2.1]; exact hl.1) rfl dJ0_init_2_1 (Nat.le_of_ble_eq_true rfl) (Nat.le_of_ble_eq_true rfl) ?_
  refine W.eq (g2 := F0 m 4 ls []) rfl ?_
  refine lv_aload_n hx hb dJ0_init_2_4 rfl (lv_at hl 0 rfl) ?_
  refine lv_aload_n hx hb dJ0_init_2_5 rfl (lv_at hl 0 rfl) ?_
  refine xPutM hC hS hM in_X7 tyX7 tyX7_ok nmX7 rfl 0 (by decide) q468 (fun _ h => h) rfl (show parseFieldDescriptor (TX7 0).2.2.1 = some (tyX7 0) from tyX7_ok 0 (by decide)) rfl rfl (by simp) dJ0_init_2_6 (fun H locs hS hM => ?_)
  refine lv_aload_n hx hb dJ0_init_2_9 rfl (lv_at hl 0 rfl) ?_
  refine va_gets hx hb hZu hS.2.2.1 hown (hts _ q419) (fun _ h => h) dJ0_init_2_10 ?_
  refine xPutM hC hS hM in_X7 tyX7 tyX7_ok nmX7 rfl 1 (by decide) q469 (fun _ h => h) rfl (show parseFieldDescriptor (TX7 1).2.2.1 = some (tyX7 1) from tyX7_ok 1 (by decide)) (narrow_refV _ ⟨u, hu⟩) (fits_refV_array _ ⟨u, hu⟩) (by simp) dJ0_init_2_13 (fun H locs hS hM => ?_)
  refine lv_aload_n hx hb dJ0_init_2_16 rfl (lv_at hl 0 rfl) ?_
  refine va_gets hx hb hZn hS.2.2.1 hown (hts _ q421) (fun _ h => h) dJ0_init_2_17 ?_
  refine xPutM hC hS hM in_X7 tyX7 tyX7_ok nmX7 rfl 2 (by decide) q470 (fun _ h => h) rfl (show parseFieldDescriptor (TX7 2).2.2.1 = some (tyX7 2) from tyX7_ok 2 (by decide)) (narrow_refV _ ⟨n, hn⟩) (fits_refV_object _ ⟨n, hn⟩) (by simp) dJ0_init_2_20 (fun H locs hS hM => ?_)
  refine lv_aload_n hx hb dJ0_init_2_23 rfl (lv_at hl 0 rfl) ?_
  refine xFill7 hC hfl hA hS hM hZu hu rfl rfl hl.1 (Nat.zero_le _) ⟨(Nat.le_of_ble_eq_true rfl), (Nat.le_of_ble_eq_true rfl)⟩ dJ0_init_2_24 (fun H locs hS hM => ?_)
  refine lv_pop hx hb dJ0_init_2_27 rfl ?_
  refine lv_aload_n hx hb dJ0_init_2_28 rfl (lv_at hl 0 rfl) ?_
  refine lv_aload_nN hx hb dJ0_init_2_29 rfl (lv_at hl 1 rfl) ?_
  refine xPutM hC hS hM in_X7 tyX7 tyX7_ok nmX7 rfl 3 (by decide) q467 (fun _ h => h) rfl (show parseFieldDescriptor (TX7 3).2.2.1 = some (tyX7 3) from tyX7_ok 3 (by decide)) rfl rfl (by simp) dJ0_init_2_30 (fun H locs hS hM => ?_)
  refine lv_aload_n hx hb dJ0_init_2_33 rfl (lv_at hl 0 rfl) ?_
  refine lv_aload_n hx hb dJ0_init_2_34 rfl (lv_at hl 2 rfl) ?_
  refine xPutM hC hS hM in_X7 tyX7 tyX7_ok nmX7 rfl 0 (by decide) q468 (fun _ h => h) rfl (show parseFieldDescriptor (TX7 0).2.2.1 = some (tyX7 0) from tyX7_ok 0 (by decide)) rfl rfl (by simp) dJ0_init_2_35 (fun H locs hS hM => ?_)
  exact mRetv hC hS hM ⟨rfl, rfl⟩ (Nat.le_refl _) (Nat.le_refl _) dJ0_init_2_38
abbrev rmJ1_init_2 : Room := { frames := 4, cells := 0, slots := 0, locals := 90 }
theorem hd_J1_init_2 : yJ1_init_2.cls ≠ "java/lang/invoke/MethodHandle" ∧ yJ1_init_2.cls ≠ "java/lang/invoke/VarHandle" ∧ (parseMethodDescriptor yJ1_init_2.desc).map (fun d => d.parameters.length) = some 2 := by decide +kernel
set_option maxHeartbeats 4000000 in
set_option maxRecDepth 100000 in
theorem met_J1_init_2 {l : Launch} (hfl : l.stackTraces = false) (D : va_G) (dT : Nat → ClassId) (base : va_W) (q sz : Nat) (x : Nat) : Met l yJ1_init_2 (ws_ yJ1_init_2 cJ1_init_2 3 none) rmJ1_init_2 (mPc D dT base q 7 sz d5 [.ref q, .null, .ref x]) (va_Qv (fun fs => fs.length = 7 ∧ fs[0]? = some (.ref x)) (mB D base q 7 (va_A (WE base q 7 d5) sz)) (va_A (WE base q 7 d5) sz)) 0 0 (va_A (WE base q 7 d5) sz) := by
  refine mEntF (y := yJ1_init_2) (cc := cJ1_init_2) (maxL := 3) (ret := none) (av := [.ref q, .null, .ref x]) (Q := fun A => va_Qv (fun fs => fs.length = 7 ∧ fs[0]? = some (.ref x)) (mB D base q 7 A) A) (by decide +kernel) (Nat.le_of_ble_eq_true rfl) (fun p e s m below meth c A ls hC hin hA hS hM hl => ?_) sz
  have hl : lv_has ls 3 [(0, .ref q), (1, .null), (2, .ref x)] := hl
  have hx := hC.1
  have hb := hC.2.1
  have hown := hC.2.2.2.1
  have hts := hC.2.2.2.2.1
  generalize hH : s.heap = H at hS hM ⊢
  have hS : wSt D (WE base q 7) (fun _ => True) A s d5 H [] := by rw [← hH] at hS ⊢; exact hS
  refine lv_aload_n hx hb dJ1_init_2_0 rfl (lv_at hl 0 rfl) ?_
  refine lv_aload_nN hx hb dJ1_init_2_1 rfl (lv_at hl 1 rfl) ?_
  refine lv_aload_n hx hb dJ1_init_2_2 rfl (lv_at hl 2 rfl) ?_
  refine mCall (As := [.null, .ref x]) hC hA hS hM (met_J0_init_2 hfl D dT base q H.size x ) q589 q90 q587 q588 rfl ⟨⟨rfl, rfl⟩, hd_J0_init_2, ⟨(Nat.le_of_ble_eq_true rfl), (Nat.le_of_ble_eq_true rfl)⟩, ⟨(Nat.le_of_ble_eq_true rfl), (Nat.le_of_ble_eq_true rfl)⟩⟩ hl.1 rfl (Nat.zero_le _) dJ1_init_2_3 (fun fs H locs hp hS hM => ?_)
  exact mRetv hC hS hM hp (Nat.le_refl _) (Nat.le_refl _) dJ1_init_2_6
abbrev rmX7_init : Room := { frames := 6, cells := 0, slots := 0, locals := 120 }
theorem hd_X7_init : yX7_init.cls ≠ "java/lang/invoke/MethodHandle" ∧ yX7_init.cls ≠ "java/lang/invoke/VarHandle" ∧ (parseMethodDescriptor yX7_init.desc).map (fun d => d.parameters.length) = some 2 := by decide +kernel
set_option maxHeartbeats 4000000 in
set_option maxRecDepth 100000 in
theorem met_X7_init {l : Launch} (hfl : l.stackTraces = false) (D : va_G) (dT : Nat → ClassId) (base : va_W) (q sz : Nat) (w : Int32) (x : Nat) : Met l yX7_init (ws_ yX7_init cX7_init 3 none) rmX7_init (mPc D dT base q 7 sz d5 [.ref q, .int w, .ref x]) (va_Qv (fun fs => fs[6]? = some (.int w) ∧ fs[0]? = some (.ref x)) (mB D base q 7 (va_A (WE base q 7 d5) sz)) (va_A (WE base q 7 d5) sz)) 0 0 (va_A (WE base q 7 d5) sz) := by
  refine mEnt (y := yX7_init) (cc := cX7_init) (maxL := 3) (ret := none) (av := [.ref q, .int w, .ref x]) (Q := fun A => va_Qv (fun fs => fs[6]? = some (.int w) ∧ fs[0]? = some (.ref x)) (mB D base q 7 A) A) (by decide) (Nat.le_of_ble_eq_true rfl) (fun p e s m below meth c A ls hC hin hA hS hM hl => ?_) sz
  have hl : lv_has ls 3 [(0, .ref q), (1, .int w), (2, .ref x)] := hl
  have hx := hC.1
  have hb := hC.2.1
  have hown := hC.2.2.2.1
  have hts := hC.2.2.2.2.1
  generalize hH : s.heap = H at hS hM ⊢
  have hS : wSt D (WE base q 7) (fun _ => True) A s d5 H [] := by rw [← hH] at hS ⊢; exact hS
  refine lv_aload_n hx hb dX7_init_0 rfl (lv_at hl 0 rfl) ?_
  refine lv_null hx hb dX7_init_1 ?_
  refine lv_aload_n hx hb dX7_init_2 rfl (lv_at hl 2 rfl) ?_
  refine mCall (As := [.null, .ref x]) hC hA hS hM (met_J1_init_2 hfl D dT base q H.size x ) q586 q91 q584 q585 rfl ⟨⟨rfl, rfl⟩, hd_J1_init_2, ⟨(Nat.le_of_ble_eq_true rfl), (Nat.le_of_ble_eq_true rfl)⟩, ⟨(Nat.le_of_ble_eq_true rfl), (Nat.le_of_ble_eq_true rfl)⟩⟩ hl.1 rfl (Nat.zero_le _) dX7_init_3 (fun fs H locs hp hS hM => ?_)
  refine lv_aload_n hx hb dX7_init_6 rfl (lv_at hl 0 rfl) ?_
  refine lv_iload_n hx hb dX7_init_7 rfl (lv_at hl 1 rfl) ?_
  refine xPutMF hC hS hM in_X7 tyX7 tyX7_ok nmX7 rfl 6 (by decide) q590 (fun _ h => h) rfl hin rfl (show parseFieldDescriptor (TX7 6).2.2.1 = some (tyX7 6) from tyX7_ok 6 (by decide)) rfl rfl (by have := hp.1; omega) dX7_init_8 (fun H locs hS hM => ?_)
  exact mRetv hC hS hM ⟨List.getElem?_set_self (by have := hp.1; omega), by rw [List.getElem?_set_ne (by decide)]; exact hp.2⟩ (Nat.le_refl _) (Nat.le_refl _) dX7_init_11
