/-! Throwable.getCause(): synchronized; cause == this ? null : cause -/
def yGC : MethodName := ⟨"java/lang/Throwable", "getCause", "()Ljava/lang/Throwable;"⟩
abbrev cGC : ByteArray := prog_23_method_8_code
theorem dGC_0 : decode cGC 0 = .ok (.aload_n 0, 1) := by decide +kernel
theorem dGC_1 : decode cGC 1 = .ok (.getfield 7, 3) := by decide +kernel
theorem dGC_4 : decode cGC 4 = .ok (.aload_n 0, 1) := by decide +kernel
theorem dGC_5 : decode cGC 5 = .ok (.if_acmp .ne 7, 3) := by decide +kernel
theorem dGC_12 : decode cGC 12 = .ok (.aload_n 0, 1) := by decide +kernel
theorem dGC_13 : decode cGC 13 = .ok (.getfield 7, 3) := by decide +kernel
theorem dGC_16 : decode cGC 16 = .ok (.areturn, 1) := by decide +kernel
section XGC
variable {p : Program} {l : Launch} {e : Env} {R : Room} {s : State} {args sargs : Array Value} {below : List Frame}
theorem gcOff {len W9 : Nat} (hexec : p.tables.exec = Jvm.exec) (T : ThrowableC) (L : T.Links e.platform s) (hT : s.vm.findClass "java/lang/Throwable" = some T.cT)
    (hcs : (Cond.codeSync yGC cGC 1 (some (.object "java/lang/Throwable"))).before args s = true) (hins : (Cond.instanceMethod yGC).before args s = true) {self x : Addr} {cell : Cell} (hne : x ≠ self)
    (hobj : ∀ k, cell.vm ≠ .statics k) (hknown : cell.vm ≠ .unknown) (hfree : cell.monitor.owner = none) (hcount : cell.monitor.count = 0) (hv : cell.slots[T.fCause.slot]? = some (.ref x)) (hRframes : 1 < R.frames) (hRlocals : W9 + 20 ≤ R.locals) :
    Back l R p e below s sargs yGC len W9 (fun A a => a = #[.ref self] ∧ A.U.heap[self]? = some cell)
      (fun A _ v B => v = some (.ref x) ∧ B.U.heap = A.U.heap ∧ B.locs = A.locs ∧ B.cells = A.cells ∧ B.slots = A.slots) := by
  intro m meth c A g ig mk a X hg hsize hdg hWd hmk hPre
  obtain ⟨V, locs, cells, slots⟩ := A
  obtain ⟨ha, hcell⟩ := hPre
  dsimp only [Pt.U, Pt.locs, Pt.cells, Pt.slots] at X hmk hcell ⊢
  subst ha
  have e1 : V.methodNamed? yGC = s.methodNamed? yGC := by
    rw [State.methodNamed?_of_vm (U := V) (V := s.setVm V.vm) rfl]; exact State.methodNamed?_setVm X.warmed.alike _
  have hmk0 : s.methodNamed? yGC = some mk := e1.symm.trans hmk
  obtain ⟨mk', methM, hn', hmM, hstM, -⟩ := Cond.instanceMethod_spec hins
  cases hn'.symm.trans hmk0
  obtain ⟨methM', cM, hmM', hcM, hbM, hlM, hrM, hlkM, -, -⟩ := Cond.codeSync_spec hmk0 hcs
  cases hmM'.symm.trans hmM
  have hW := X.warmed
  have h : At V g.method c below := by rw [hg]; exact X.here
  have hmF : ∀ vm, s.WarmedH vm → vm.method? mk = some methM := fun vm hv => hv.methodAt hmM
  have hplain : ∀ vm, s.WarmedH vm → (V.setVm vm).plainMethod mk := fun vm hv =>
    State.plainMethod.of_named (x := yGC) (by decide +kernel) (by rw [State.methodNamed?_of_vm (U := V.setVm vm) (V := s.setVm vm) rfl]; exact (State.methodNamed?_setVm hv.alike _).trans hmk0) (hmF vm hv)
  have hcls : mk.cls = T.cT := Option.some.inj ((findClass_of_methodNamed hmk0).symm.trans hT)
  obtain ⟨g₀, hg0⟩ := Option.isSome_iff_exists.mp h.top
  obtain ⟨tl0, htl0⟩ := State.topJava?_eq_some.mp hg0
  have hlen0 : V.frames.length = (Frame.java g :: V.frames.tail).length := by rw [htl0]; rfl
  have hlt : self < V.heap.size := (Array.getElem?_eq_some_iff.mp hcell).1
  have hfr' : V.frames.length + 1 < (e.platform.stackLimits V.me).1 := X.framesAbove hRframes
  have hwd' : (stackUse (.java g :: V.frames.tail)).2 + 20 ≤ (e.platform.stackLimits V.me).2 := X.stackAbove hsize (K := 20) (by omega)
  have hfg : (V.setTop g).frames = [] ++ (Frame.java g :: V.frames.tail) := by rw [State.frames_setTop _ htl0, htl0]; rfl
  have hroom : e.platform.stackFull (((V.setTop g).threads[(V.setTop g).cur]?).getD { frames := [] }) (V.setTop g).frames (cM.maxLocals + 2) = false := by
    rw [hlM]
    exact roomAbove (pushed := []) (base := .java g :: V.frames.tail) (free := 20) (lim := e.platform.stackLimits V.me) hfg (State.stackLimits_setTop _ h.top g) (by rw [← hlen0]; simp only [List.length_nil]; omega) hwd' (by simp only [stackUse_nil]; omega)
  have hAof : ∀ vm, s.WarmedH vm → At (fillInside (V.setVm vm) g mk self cell) mk cM below := fun vm hWv => by
    have := At.enter_sync (g := g) (h.setVm (hW.alike.symm.trans hWv.alike)) #[.ref self] self (cell.withEntry V.cur) (hmF vm hWv) hcM (hplain vm hWv)
    rw [hlM] at this
    exact this
  have hcellU : ∀ vm, (fillInside (V.setVm vm) g mk self cell).heap[self]? = some (cell.withEntry V.cur) := fun vm => by
    show (V.heap.setIfInBounds self (cell.withEntry V.cur))[self]? = _
    simp [hlt]
  have hvU : (cell.withEntry V.cur).slots[T.fCause.slot]? = some (.ref x) := hv
  have hW0 : s.WarmedH (V.setVm V.vm).vm := hW
  obtain ⟨vm1, hW1, st1⟩ := Steps.getfieldCold (tb := p.tables) (s₀ := s) (U := fillInside (V.setVm V.vm) g mk self cell) (f := fillJ mk self 1 [.ref self]) (a := self) (rest := []) (cell := cell.withEntry V.cur) (v := .ref x) (hAof _ hW0) hexec (by rw [hbM]; exact dGC_1) hW0 (by rw [hcls]; exact L.link7) (by rw [hcls]; exact L.right7) L.cls L.at7
    L.causeInstance rfl (hcellU _) hknown hvU
  obtain ⟨vm2, hW2, st2⟩ := Steps.getfieldCold (tb := p.tables) (s₀ := s) (U := fillInside (V.setVm vm1) g mk self cell) (f := fillJ mk self 13 [.ref self]) (a := self) (rest := []) (cell := cell.withEntry V.cur) (v := .ref x) (hAof _ hW1) hexec (by rw [hbM]; exact dGC_13) hW1 (by rw [hcls]; exact L.link7) (by rw [hcls]; exact L.right7) L.cls L.at7
    L.causeInstance rfl (hcellU _) hknown hvU
  have hend : (cell.withEntry V.cur).left = cell := Cell.left_withEntry V.cur hfree hcount
  refine ⟨some (.ref x), ⟨V.setVm vm2, locs, cells, slots⟩, X.noted hW2, ⟨rfl, rfl, rfl, rfl, rfl⟩, ?_⟩
  dsimp only [Pt.U]
  rw [doInvoke_enter_sync h.top [] (hmF _ hW) hcM hlkM hstM rfl hcell (Or.inl hfree) hroom, hlM]
  have hA0 : At (fillInside V g mk self cell) mk cM below := hAof V.vm hW
  have hA1 := hAof vm1 hW1
  have hA2 := hAof vm2 hW2
  show Steps p.tables e below ((fillInside V g mk self cell).setTop (fillJ mk self 0 [])) _
  jvm_step hA0 [hA0.top, hexec, hbM, dGC_0, Value.isRef]
  refine st1 _ ?_
  show Steps p.tables e below ((fillInside (V.setVm vm1) g mk self cell).setTop (fillJ mk self 4 [.ref x])) _
  jvm_step hA1 [hA1.top, hexec, hbM, dGC_4, Value.isRef]
  jvm_step hA1 [hA1.top, hexec, hbM, dGC_5, Value.isRef, hne]
  refine ⟨_, rfl, _, rfl, ?_⟩
  rw [if_pos (by simp [if_acmp.holds, hne])]
  jvm_step hA1 [hA1.top, hexec, hbM, dGC_12, Value.isRef]
  refine st2 _ ?_
  show Steps p.tables e below ((fillInside (V.setVm vm2) g mk self cell).setTop (fillJ mk self 16 [.ref x])) _
  jvm_step hA2 [hA2.top, hexec, hbM, dGC_16, areturn.wp_sem, Value.isRef, FieldType.isReference]
  refine ⟨methM, hmF vm2 hW2, ⟨_, hrM, rfl⟩, fun acts' => ?_⟩
  have hfr : (fillInside (V.setVm vm2) g mk self cell).frames = .java (entryFrameSync mk #[.ref self] 1 self) :: .java g :: V.frames.tail :=
    frames_entered (g := g) (show ((V.setVm vm2).setCell self (cell.withEntry V.cur)).topJava?.isSome from h.top) _
  have hcode : (fillInside (V.setVm vm2) g mk self cell).code? g.method = some c := by
    have h9 := (X.noted hW2).here.code
    rw [State.code?_eq] at h9 ⊢
    rw [hg]
    exact h9
  have h8 := doReturn_leave_sync (e := e) (u := fillInside (V.setVm vm2) g mk self cell) (g := g) (meth := methM) (cg := c) (ig := ig) (len := len) (v := some (.ref x)) (a := self) (cell := cell.withEntry V.cur)
      (f := fillJ mk self 16 []) (f₀ := entryFrameSync mk #[.ref self] 1 self) (r := V.frames.tail) acts' L.owns hfr (hmF vm2 hW2) hlkM rfl rfl (hcellU vm2) rfl hcode hdg
  rw [hend] at h8
  rw [h8]
  have hset : ((V.setVm vm2).setCell self (cell.withEntry V.cur)).setCell self cell = V.setVm vm2 := by
    rw [setCell_twice]
    have hh : V.heap.setIfInBounds self cell = V.heap := by
      apply Array.ext_getElem?
      intro i
      rw [Array.getElem?_setIfInBounds]
      split
      · rename_i h9; subst h9
        exact hcell.symm
      · rfl
    show ({ V.setVm vm2 with heap := V.heap.setIfInBounds self cell } : State) = _
    rw [hh]
    rfl
  have e1 : ((fillInside (V.setVm vm2) g mk self cell).setCell self cell).setFrames (.java g :: V.frames.tail) = (V.setVm vm2).setTop g := by
    have h7 := setFrames_entered (s := (V.setVm vm2).setCell self (cell.withEntry V.cur)) (g := g) h.top (.java (entryFrameSync mk #[.ref self] 1 self))
    have h6 : ((fillInside (V.setVm vm2) g mk self cell).setFrames (.java g :: ((V.setVm vm2).setCell self (cell.withEntry V.cur)).frames.tail)).setCell self cell = (((V.setVm vm2).setCell self (cell.withEntry V.cur)).setTop g).setCell self cell := congrArg (fun z : State => z.setCell self cell) h7
    calc _ = (((V.setVm vm2).setCell self (cell.withEntry V.cur)).setTop g).setCell self cell := h6
      _ = (((V.setVm vm2).setCell self (cell.withEntry V.cur)).setCell self cell).setTop g := rfl
      _ = _ := by rw [hset]
  rw [e1, heapOnly_id.setTop_setTop (s := V.setVm vm2) h.top g _]
  exact Steps.refl _
end XGC
