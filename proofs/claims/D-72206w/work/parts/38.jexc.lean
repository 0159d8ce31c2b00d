/-! EXCEPTIONS OF THE MACHINE'S OWN in the component: casts, indices, sizes, overflow, copies -/
def ccT (t : String) : Prop := (t == notModelled) = false ∧ (stringBytes (stringToUtf16 t)).size ≤ 400
def ccK (k : Class) : Prop := (k.name = "[I" ∨ k.name = "[J") ∧ k.hidden = none ∧ k.loader = none ∧ ∃ a b, k.kind = .array a b
theorem ccK.prim {k : Class} (h : ccK k) : k.ofPrimitives = true := by
  obtain ⟨h1, -, -, a, b, h4⟩ := h
  unfold Class.ofPrimitives
  rw [h4]
  rcases h1 with h1 | h1 <;> rw [h1]
  · exact (by decide +kernel : ((withoutBrackets "[I").length == 1) = true)
  · exact (by decide +kernel : ((withoutBrackets "[J").length == 1) = true)
theorem ccText {vm : Vm} {k1 k2 : Class} (h1 : ccK k1) (h2 : ccK k2) : ccT (Op.checkcast.message vm k1 k2) := by
  have p1 := h1.prim
  have p2 := h2.prim
  obtain ⟨n1, d1, l1, -⟩ := h1
  obtain ⟨n2, d2, l2, -⟩ := h2
  have m1 : vm.moduleOf k1 = vm.modules.find? (·.name == "java.base") := by unfold Vm.moduleOf; rw [if_pos p1]
  have m2 : vm.moduleOf k2 = vm.modules.find? (·.name == "java.base") := by unfold Vm.moduleOf; rw [if_pos p2]
  have hs : vm.sameModule k1 k2 = true := by
    unfold Vm.sameModule
    rw [m1, m2]
    cases vm.modules.find? (·.name == "java.base") with
    | none => simp [l1, l2]
    | some x => simp
  have hh : vm.home k1 = "module java.base of loader 'bootstrap'" ∨ vm.home k1 = "unnamed module of loader 'bootstrap'" := by
    unfold Vm.home
    rw [m1, l1]
    cases hf : vm.modules.find? (·.name == "java.base") with
    | none => right; rfl
    | some x =>
      left
      have : x.name = "java.base" := by
        have := List.find?_some hf
        simpa using this
      simp only [this]
      rfl
  have s1 : k1.shown = dotted k1.name := by unfold Class.shown; rw [d1]
  have s2 : k2.shown = dotted k2.name := by unfold Class.shown; rw [d2]
  unfold ccT Op.checkcast.message Vm.homes
  rw [if_pos hs, s1, s2]
  rcases n1 with n1 | n1 <;> rcases n2 with n2 | n2 <;> rcases hh with hh | hh <;> rw [n1, n2, hh] <;> decide +kernel
section JEXA
variable {p : Program} {l : Launch} {e : Env} {R : Room} {s : State} {m : MethodId} {args : Array Value} {below : List Frame} {meth : Method} {c : Code} {H : Heap} {locs : List Loc} {cells slots : Nat} {Q : State → Prop}
variable {D : va_G} {dT : Nat → ClassId} {a : Nat → Nat} {A : Nat → Prop} {X : XS} {vs0 vs : XE} {own : String} {cc : ByteArray} {nL : Nat} {ret : Option FieldType} {pc : Nat} {ls : Array Slot} {rest : List Value} {j : Nat}
theorem ccK_of {k : Class} {nm : String} {c0 : ClassId} (hnm : nm = "[I" ∨ nm = "[J") (hf : s.vm.findClass nm = some c0) (hk : s.vm.classes[c0]? = some k) (ha : ∃ a b, k.kind = .array a b) : ccK k := by
  have hl := Vm.findClass_boot hf hk
  obtain ⟨hlt, hp, -⟩ := Array.findIdx?_eq_some_iff_getElem.mp hf
  have hk2 : s.vm.classes[c0] = k := by simpa [hlt] using hk
  rw [hk2] at hp
  simp only [Bool.and_eq_true, Option.isNone_iff_eq_none, beq_iff_eq] at hp
  exact ⟨by rw [hp.1.1.1]; exact hnm, hp.1.1.2, hl, ha⟩
theorem jCastNo {nm : String} {index : Nat} {b : Addr} {cell : Cell} {cT : ClassId} {k1 k2 : Class} (hC : wCx own cc nL ret D dT p s m args meth c) (hlink : Cond.classLink own index nm ∈ lw_all) (hcell : H[b]? = some cell) (hobj : cell.vm.isStatics = false) (hks : s.vm.classes[cell.cls]? = some k1) (hkt : s.vm.classes[cT]? = some k2) (hcT : s.vm.findClass nm = some cT) (hasg : s.vm.assignable cell.cls cT = false) (h1 : ccK k1) (h2 : ccK k2)
    (hdg : decode cc pc = .ok (.checkcast index, 3)) (k : ∀ tx : String, ccT tx → vx_Note p l e R s m args below meth c H locs cells slots Q (F0 m pc ls (.ref b :: rest)) "java/lang/ClassCastException" tx) : W p l e R s m args below meth c H locs cells slots Q (F0 m pc ls (.ref b :: rest)) := by
  intro T hT X
  have hpl : e.platform.magicAccessors = ({} : Platform).magicAccessors := by rw [X.admits.platform]
  obtain ⟨c', hc', hcl⟩ := Cond.classLink_spec hC.2.2.2.1 (hC.2.2.2.2.1 _ hlink) e.platform hpl
  cases hcT.symm.trans hc'
  obtain ⟨dk, _, _, kt, hd, _, _, _, _, hkt9, _, hopen⟩ := hcl.here
  have hcl₀ := X.warmed.classLinks hcl
  have hW' : s.WarmedH (T.vm.noted m.cls index (.cls cT)) := X.warmed.noted hd hopen (State.rightAt_cls hcl)
  obtain ⟨ks', hks', es⟩ := hW'.alike.2.2 _ _ hks
  obtain ⟨kt', hkt', et⟩ := hW'.alike.2.2 _ _ hkt
  have g1 : ccK ks' := by rw [es]; exact h1
  have g2 : ccK kt' := by rw [et]; exact h2
  obtain ⟨t, st, q⟩ := k _ (ccText (vm := T.vm.noted m.cls index (.cls cT)) g1 g2) (T.setVm (T.vm.noted m.cls index (.cls cT))) hT (X.noted hW')
  refine ⟨t, ?_, q⟩
  have hdg' : decode c.code pc = .ok (.checkcast index, 3) := by rw [hC.2.1]; exact hdg
  jvm_step X.here [hC.1, hdg', Op.checkcast.wp_cold (e := e) (s := T) (f := F0 m pc ls (.ref b :: rest)) X.here.top rfl (resolveClass_links e.toSetting hcl₀) hcl₀.ready,
    Op.checkcast.wp_ready (e := e) (s := T.setVm (T.vm.noted m.cls index (.cls cT))) (f := F0 m pc ls (.ref b :: rest)) X.here.top hcl₀.ready rfl]
  refine ⟨cell, by rw [hT]; exact hcell, VmData.noStatics_of hobj, ks', hks', kt', hkt', ?_⟩
  have h1 : (T.vm.noted m.cls index (Resolved.cls cT)).assignable cell.cls cT = false := by rw [hW'.alike.assignable]; exact hasg
  simp only [h1]
  exact st
end JEXA
section JEXB
variable {p : Program} {l : Launch} {e : Env} {R : Room} {s : State} {m : MethodId} {args : Array Value} {below : List Frame} {meth : Method} {c : Code} {H : Heap} {locs : List Loc} {cells slots : Nat} {Q : State → Prop}
variable {D : va_G} {dT : Nat → ClassId} {a : Nat → Nat} {A : Nat → Prop} {X : XS} {vs0 vs : XE} {own : String} {cc : ByteArray} {nL : Nat} {ret : Option FieldType} {pc : Nat} {ls : Array Slot} {rest : List Value} {j : Nat}
theorem StX.exc {H1 : Heap} (hS : StX D dT a A s vs0 X vs H locs) (h2 : ∀ q : Nat, q < H.size → H1[q]? = H[q]?) (hS1 : va_S A s.heap H1 locs) : StX D dT a A s vs0 X vs H1 locs := ⟨hS.1.kept (fun k z hz => h2 _ (hS.1 k z hz).lt), hS.2.1, hS1, hS.2.2.2⟩
theorem jat_CCE (hC : wCx own cc nL ret D dT p s m args meth c) (hA : wAz A s) : ∀ w ∈ vx_atM "java/lang/ClassCastException" ["java/lang/RuntimeException", "java/lang/Exception"], w.before args s = true := by
  intro w hw
  have hts := hC.2.2.2.2.1
  obtain ⟨hw, hno⟩ := List.mem_filter.mp hw
  simp only [Bundle.messageArmAtoms, Bundle.throwableSAtoms, Bundle.chainSAtoms, Bundle.passSAtoms, Bundle.stringAtoms, List.mem_append, List.mem_cons, List.not_mem_nil, or_false, or_assoc] at hw
  rcases hw with hw | rfl | rfl | rfl | rfl | rfl | rfl | rfl | rfl | rfl | rfl | rfl | rfl | rfl | rfl | rfl | rfl | rfl | rfl | rfl | rfl | rfl | rfl | rfl | rfl | rfl | rfl | rfl | rfl | rfl | rfl | rfl | rfl | rfl | rfl | rfl | rfl | rfl | rfl | rfl | rfl
  · exact xThrowAtoms hts hA _ hw
  · exact hts _ q757
  · exact hts _ q758
  · exact hts _ q467
  · exact hts _ q411
  · exact hts _ q786
  · exact hts _ q787
  · exact hts _ q788
  · exact hts _ q751
  · exact va_Nw.use rfl (hC.2.2.2.2.2.2.2.2.1 _ nw_q768)
  · exact hts _ q751
  · exact hts _ q752
  · exact hts _ q753
  · exact hts _ q754
  · exact va_Nw.use rfl (hC.2.2.2.2.2.2.2.2.1 _ nw_q399)
  · exact hts _ q754
  · exact hts _ q755
  · exact hts _ q756
  · exact hts _ q757
  · exact va_Nw.use rfl (hC.2.2.2.2.2.2.2.2.1 _ nw_q401)
  · exact hts _ q99
  · exact hts _ q770
  · exact hts _ q771
  · exact hts _ q772
  · exact hts _ q774
  · exact hts _ q773
  · exact hts _ q775
  · exact hts _ q100
  · exact hts _ q785
  · exact va_Nw.use rfl (hC.2.2.2.2.2.2.2.2.1 _ nw_q796)
  · exact hts _ q797
  · exact hts _ q430
  · exact hts _ q791
  · exact hts _ q792
  · exact hts _ q794
  · exact hts _ q790
  · exact absurd hno (by decide)
  · exact absurd hno (by decide)
  · exact hts _ q414
  · exact hts _ q413
  · exact hts _ q789
theorem jgo_CCE : ∀ w ∈ vx_atM "java/lang/ClassCastException" ["java/lang/RuntimeException", "java/lang/Exception"], vx_ot w = true := List.all_eq_true.mp (by decide +kernel)
theorem jn_CCE {text : String} {nb : Nat} (hC : wCx own cc nL ret D dT p s m args meth c) (hfl : l.stackTraces = false) (hA : wAz A s) (hS : StX D dT a A s vs0 X vs H locs) (hsize : ls.size = nL) (ht1 : (text == notModelled) = false) (ht2 : (stringBytes (stringToUtf16 text)).size ≤ nb) (hnb : nb ≤ 1000) (hR : 8 ≤ R.frames ∧ 10300 ≤ R.locals) (hrest : (rest.map fun v => v.category).sum ≤ 16) (hf : cells + 3 ≤ R.cells ∧ slots + (nb + 10) ≤ R.slots)
    (kx : ∀ (q9 : Addr) (ce : Cell) (H1 : Heap), StX D dT a A s vs0 X vs H1 locs → H1[q9]? = some ce → ce.vm = .none → s.vm.findClass "java/lang/ClassCastException" = some ce.cls → vx_W p l e R s m args below meth c H1 locs (cells + 3) (slots + (nb + 10)) Q (F0 m pc ls rest) q9) : vx_Note p l e R s m args below meth c H locs cells slots Q (F0 m pc ls rest) "java/lang/ClassCastException" text :=
  vx_vm (nb := nb) (names := ["java/lang/RuntimeException", "java/lang/Exception"]) hC.1 hfl (by decide +kernel) (by decide +kernel) (by decide +kernel) (by decide +kernel) (jat_CCE hC hA) jgo_CCE hA.2.1 hA.2.2 hS.2.2.1 (hsize.trans hC.2.2.1.symm) ht1 ht2 hnb (by show _ + 4 < _; simp only [List.length_cons, List.length_nil]; omega) (by omega) (by decide) hf.1 hf.2 hC.2.2.2.2.2.2.1
    (fun H1 q9 ce h1 h2 h3 h4 h5 h6 => kx q9 ce H1 (hS.exc h2 h3) h4 h5 h6)
theorem jat_AIX (hC : wCx own cc nL ret D dT p s m args meth c) (hA : wAz A s) : ∀ w ∈ vx_atM "java/lang/ArrayIndexOutOfBoundsException" ["java/lang/IndexOutOfBoundsException", "java/lang/RuntimeException", "java/lang/Exception"], w.before args s = true := by
  intro w hw
  have hts := hC.2.2.2.2.1
  obtain ⟨hw, hno⟩ := List.mem_filter.mp hw
  simp only [Bundle.messageArmAtoms, Bundle.throwableSAtoms, Bundle.chainSAtoms, Bundle.passSAtoms, Bundle.stringAtoms, List.mem_append, List.mem_cons, List.not_mem_nil, or_false, or_assoc] at hw
  rcases hw with hw | rfl | rfl | rfl | rfl | rfl | rfl | rfl | rfl | rfl | rfl | rfl | rfl | rfl | rfl | rfl | rfl | rfl | rfl | rfl | rfl | rfl | rfl | rfl | rfl | rfl | rfl | rfl | rfl | rfl | rfl | rfl | rfl | rfl | rfl | rfl | rfl | rfl | rfl | rfl | rfl | rfl | rfl | rfl | rfl | rfl
  · exact xThrowAtoms hts hA _ hw
  · exact hts _ q757
  · exact hts _ q758
  · exact hts _ q467
  · exact hts _ q411
  · exact hts _ q800
  · exact hts _ q801
  · exact hts _ q802
  · exact hts _ q803
  · exact va_Nw.use rfl (hC.2.2.2.2.2.2.2.2.1 _ nw_q815)
  · exact hts _ q803
  · exact hts _ q804
  · exact hts _ q805
  · exact hts _ q751
  · exact va_Nw.use rfl (hC.2.2.2.2.2.2.2.2.1 _ nw_q768)
  · exact hts _ q751
  · exact hts _ q752
  · exact hts _ q753
  · exact hts _ q754
  · exact va_Nw.use rfl (hC.2.2.2.2.2.2.2.2.1 _ nw_q399)
  · exact hts _ q754
  · exact hts _ q755
  · exact hts _ q756
  · exact hts _ q757
  · exact va_Nw.use rfl (hC.2.2.2.2.2.2.2.2.1 _ nw_q401)
  · exact hts _ q99
  · exact hts _ q770
  · exact hts _ q771
  · exact hts _ q772
  · exact hts _ q774
  · exact hts _ q773
  · exact hts _ q775
  · exact hts _ q102
  · exact hts _ q799
  · exact va_Nw.use rfl (hC.2.2.2.2.2.2.2.2.1 _ nw_q813)
  · exact hts _ q816
  · exact hts _ q428
  · exact hts _ q808
  · exact hts _ q809
  · exact hts _ q811
  · exact hts _ q807
  · exact absurd hno (by decide)
  · exact absurd hno (by decide)
  · exact hts _ q414
  · exact hts _ q413
  · exact hts _ q806
theorem jgo_AIX : ∀ w ∈ vx_atM "java/lang/ArrayIndexOutOfBoundsException" ["java/lang/IndexOutOfBoundsException", "java/lang/RuntimeException", "java/lang/Exception"], vx_ot w = true := List.all_eq_true.mp (by decide +kernel)
theorem jn_AIX {text : String} {nb : Nat} (hC : wCx own cc nL ret D dT p s m args meth c) (hfl : l.stackTraces = false) (hA : wAz A s) (hS : StX D dT a A s vs0 X vs H locs) (hsize : ls.size = nL) (ht1 : (text == notModelled) = false) (ht2 : (stringBytes (stringToUtf16 text)).size ≤ nb) (hnb : nb ≤ 1000) (hR : 8 ≤ R.frames ∧ 10300 ≤ R.locals) (hrest : (rest.map fun v => v.category).sum ≤ 16) (hf : cells + 3 ≤ R.cells ∧ slots + (nb + 10) ≤ R.slots)
    (kx : ∀ (q9 : Addr) (ce : Cell) (H1 : Heap), StX D dT a A s vs0 X vs H1 locs → H1[q9]? = some ce → ce.vm = .none → s.vm.findClass "java/lang/ArrayIndexOutOfBoundsException" = some ce.cls → vx_W p l e R s m args below meth c H1 locs (cells + 3) (slots + (nb + 10)) Q (F0 m pc ls rest) q9) : vx_Note p l e R s m args below meth c H locs cells slots Q (F0 m pc ls rest) "java/lang/ArrayIndexOutOfBoundsException" text :=
  vx_vm (nb := nb) (names := ["java/lang/IndexOutOfBoundsException", "java/lang/RuntimeException", "java/lang/Exception"]) hC.1 hfl (by decide +kernel) (by decide +kernel) (by decide +kernel) (by decide +kernel) (jat_AIX hC hA) jgo_AIX hA.2.1 hA.2.2 hS.2.2.1 (hsize.trans hC.2.2.1.symm) ht1 ht2 hnb (by show _ + 4 < _; simp only [List.length_cons, List.length_nil]; omega) (by omega) (by decide) hf.1 hf.2 hC.2.2.2.2.2.2.1
    (fun H1 q9 ce h1 h2 h3 h4 h5 h6 => kx q9 ce H1 (hS.exc h2 h3) h4 h5 h6)
theorem jat_NAS (hC : wCx own cc nL ret D dT p s m args meth c) (hA : wAz A s) : ∀ w ∈ vx_atM "java/lang/NegativeArraySizeException" ["java/lang/RuntimeException", "java/lang/Exception"], w.before args s = true := by
  intro w hw
  have hts := hC.2.2.2.2.1
  obtain ⟨hw, hno⟩ := List.mem_filter.mp hw
  simp only [Bundle.messageArmAtoms, Bundle.throwableSAtoms, Bundle.chainSAtoms, Bundle.passSAtoms, Bundle.stringAtoms, List.mem_append, List.mem_cons, List.not_mem_nil, or_false, or_assoc] at hw
  rcases hw with hw | rfl | rfl | rfl | rfl | rfl | rfl | rfl | rfl | rfl | rfl | rfl | rfl | rfl | rfl | rfl | rfl | rfl | rfl | rfl | rfl | rfl | rfl | rfl | rfl | rfl | rfl | rfl | rfl | rfl | rfl | rfl | rfl | rfl | rfl | rfl | rfl | rfl | rfl | rfl | rfl
  · exact xThrowAtoms hts hA _ hw
  · exact hts _ q757
  · exact hts _ q758
  · exact hts _ q467
  · exact hts _ q411
  · exact hts _ q748
  · exact hts _ q749
  · exact hts _ q750
  · exact hts _ q751
  · exact va_Nw.use rfl (hC.2.2.2.2.2.2.2.2.1 _ nw_q768)
  · exact hts _ q751
  · exact hts _ q752
  · exact hts _ q753
  · exact hts _ q754
  · exact va_Nw.use rfl (hC.2.2.2.2.2.2.2.2.1 _ nw_q399)
  · exact hts _ q754
  · exact hts _ q755
  · exact hts _ q756
  · exact hts _ q757
  · exact va_Nw.use rfl (hC.2.2.2.2.2.2.2.2.1 _ nw_q401)
  · exact hts _ q99
  · exact hts _ q770
  · exact hts _ q771
  · exact hts _ q772
  · exact hts _ q774
  · exact hts _ q773
  · exact hts _ q775
  · exact hts _ q98
  · exact hts _ q747
  · exact va_Nw.use rfl (hC.2.2.2.2.2.2.2.2.1 _ nw_q766)
  · exact hts _ q769
  · exact hts _ q431
  · exact hts _ q761
  · exact hts _ q762
  · exact hts _ q764
  · exact hts _ q760
  · exact absurd hno (by decide)
  · exact absurd hno (by decide)
  · exact hts _ q414
  · exact hts _ q413
  · exact hts _ q759
theorem jgo_NAS : ∀ w ∈ vx_atM "java/lang/NegativeArraySizeException" ["java/lang/RuntimeException", "java/lang/Exception"], vx_ot w = true := List.all_eq_true.mp (by decide +kernel)
theorem jn_NAS {text : String} {nb : Nat} (hC : wCx own cc nL ret D dT p s m args meth c) (hfl : l.stackTraces = false) (hA : wAz A s) (hS : StX D dT a A s vs0 X vs H locs) (hsize : ls.size = nL) (ht1 : (text == notModelled) = false) (ht2 : (stringBytes (stringToUtf16 text)).size ≤ nb) (hnb : nb ≤ 1000) (hR : 8 ≤ R.frames ∧ 10300 ≤ R.locals) (hrest : (rest.map fun v => v.category).sum ≤ 16) (hf : cells + 3 ≤ R.cells ∧ slots + (nb + 10) ≤ R.slots)
    (kx : ∀ (q9 : Addr) (ce : Cell) (H1 : Heap), StX D dT a A s vs0 X vs H1 locs → H1[q9]? = some ce → ce.vm = .none → s.vm.findClass "java/lang/NegativeArraySizeException" = some ce.cls → vx_W p l e R s m args below meth c H1 locs (cells + 3) (slots + (nb + 10)) Q (F0 m pc ls rest) q9) : vx_Note p l e R s m args below meth c H locs cells slots Q (F0 m pc ls rest) "java/lang/NegativeArraySizeException" text :=
  vx_vm (nb := nb) (names := ["java/lang/RuntimeException", "java/lang/Exception"]) hC.1 hfl (by decide +kernel) (by decide +kernel) (by decide +kernel) (by decide +kernel) (jat_NAS hC hA) jgo_NAS hA.2.1 hA.2.2 hS.2.2.1 (hsize.trans hC.2.2.1.symm) ht1 ht2 hnb (by show _ + 4 < _; simp only [List.length_cons, List.length_nil]; omega) (by omega) (by decide) hf.1 hf.2 hC.2.2.2.2.2.2.1
    (fun H1 q9 ce h1 h2 h3 h4 h5 h6 => kx q9 ce H1 (hS.exc h2 h3) h4 h5 h6)
theorem jat_ASE (hC : wCx own cc nL ret D dT p s m args meth c) (hA : wAz A s) : ∀ w ∈ vx_atM "java/lang/ArrayStoreException" ["java/lang/RuntimeException", "java/lang/Exception"], w.before args s = true := by
  intro w hw
  have hts := hC.2.2.2.2.1
  obtain ⟨hw, hno⟩ := List.mem_filter.mp hw
  simp only [Bundle.messageArmAtoms, Bundle.throwableSAtoms, Bundle.chainSAtoms, Bundle.passSAtoms, Bundle.stringAtoms, List.mem_append, List.mem_cons, List.not_mem_nil, or_false, or_assoc] at hw
  rcases hw with hw | rfl | rfl | rfl | rfl | rfl | rfl | rfl | rfl | rfl | rfl | rfl | rfl | rfl | rfl | rfl | rfl | rfl | rfl | rfl | rfl | rfl | rfl | rfl | rfl | rfl | rfl | rfl | rfl | rfl | rfl | rfl | rfl | rfl | rfl | rfl | rfl | rfl | rfl | rfl | rfl
  · exact xThrowAtoms hts hA _ hw
  · exact hts _ q757
  · exact hts _ q758
  · exact hts _ q467
  · exact hts _ q411
  · exact hts _ q876
  · exact hts _ q877
  · exact hts _ q878
  · exact hts _ q751
  · exact va_Nw.use rfl (hC.2.2.2.2.2.2.2.2.1 _ nw_q768)
  · exact hts _ q751
  · exact hts _ q752
  · exact hts _ q753
  · exact hts _ q754
  · exact va_Nw.use rfl (hC.2.2.2.2.2.2.2.2.1 _ nw_q399)
  · exact hts _ q754
  · exact hts _ q755
  · exact hts _ q756
  · exact hts _ q757
  · exact va_Nw.use rfl (hC.2.2.2.2.2.2.2.2.1 _ nw_q401)
  · exact hts _ q99
  · exact hts _ q770
  · exact hts _ q771
  · exact hts _ q772
  · exact hts _ q774
  · exact hts _ q773
  · exact hts _ q775
  · exact hts _ q105
  · exact hts _ q875
  · exact va_Nw.use rfl (hC.2.2.2.2.2.2.2.2.1 _ nw_q886)
  · exact hts _ q887
  · exact hts _ q429
  · exact hts _ q881
  · exact hts _ q882
  · exact hts _ q884
  · exact hts _ q880
  · exact absurd hno (by decide)
  · exact absurd hno (by decide)
  · exact hts _ q414
  · exact hts _ q413
  · exact hts _ q879
theorem jgo_ASE : ∀ w ∈ vx_atM "java/lang/ArrayStoreException" ["java/lang/RuntimeException", "java/lang/Exception"], vx_ot w = true := List.all_eq_true.mp (by decide +kernel)
theorem jn_ASE {text : String} {nb : Nat} (hC : wCx own cc nL ret D dT p s m args meth c) (hfl : l.stackTraces = false) (hA : wAz A s) (hS : StX D dT a A s vs0 X vs H locs) (hsize : ls.size = nL) (ht1 : (text == notModelled) = false) (ht2 : (stringBytes (stringToUtf16 text)).size ≤ nb) (hnb : nb ≤ 1000) (hR : 8 ≤ R.frames ∧ 10300 ≤ R.locals) (hrest : (rest.map fun v => v.category).sum ≤ 16) (hf : cells + 3 ≤ R.cells ∧ slots + (nb + 10) ≤ R.slots)
    (kx : ∀ (q9 : Addr) (ce : Cell) (H1 : Heap), StX D dT a A s vs0 X vs H1 locs → H1[q9]? = some ce → ce.vm = .none → s.vm.findClass "java/lang/ArrayStoreException" = some ce.cls → vx_W p l e R s m args below meth c H1 locs (cells + 3) (slots + (nb + 10)) Q (F0 m pc ls rest) q9) : vx_Note p l e R s m args below meth c H locs cells slots Q (F0 m pc ls rest) "java/lang/ArrayStoreException" text :=
  vx_vm (nb := nb) (names := ["java/lang/RuntimeException", "java/lang/Exception"]) hC.1 hfl (by decide +kernel) (by decide +kernel) (by decide +kernel) (by decide +kernel) (jat_ASE hC hA) jgo_ASE hA.2.1 hA.2.2 hS.2.2.1 (hsize.trans hC.2.2.1.symm) ht1 ht2 hnb (by show _ + 4 < _; simp only [List.length_cons, List.length_nil]; omega) (by omega) (by decide) hf.1 hf.2 hC.2.2.2.2.2.2.1
    (fun H1 q9 ce h1 h2 h3 h4 h5 h6 => kx q9 ce H1 (hS.exc h2 h3) h4 h5 h6)
theorem jl_SRI {i : Int32} {r : SRow} {n : Nat} {f : Nat → Int32} (hC : wCx own cc nL ret D dT p s m args meth c) (hA : wAz A s) (hS : StX D dT a A s vs0 X vs H locs) (hj : j < 4) (hr : X_sr X j = some r) (hk : r.2 = .inl (n, f)) (hn : n ≤ 40) (hfl : l.stackTraces = false) (hsize : ls.size = nL) (hR : 8 ≤ R.frames ∧ 10300 ≤ R.locals) (hrest : (rest.map fun v => v.category).sum ≤ 8) (hf : cells + 3 ≤ R.cells ∧ slots + 222 ≤ R.slots) (hdg : decode cc pc = .ok (.iaload, 1)) (kn : vp_in i n → W p l e R s m args below meth c H locs cells slots Q (F0 m (pc + 1) ls (.int (f i.toNatClampNeg) :: rest))) (kx : ¬ vp_in i n → ∀ (q9 : Addr) (ce9 : Cell) (H1 : Heap), StX D dT a A s vs0 X vs H1 locs → H1[q9]? = some ce9 → ce9.vm = .none → s.vm.findClass "java/lang/ArrayIndexOutOfBoundsException" = some ce9.cls → vx_W p l e R s m args below meth c H1 locs (cells + 3) (slots + (212 + 10)) Q (F0 m pc ls (rest)) q9) : W p l e R s m args below meth c H locs cells slots Q (F0 m pc ls (.int i :: .ref r.1 :: rest)) := by
  obtain ⟨k9, h9, hs9⟩ := XW_sr (dT := dT) (a := a) (vs := vs) hj hr
  rw [hk] at h9
  by_cases hi : vp_in i n
  · exact va_iald hC.1 hC.2.1 hC.2.2.2.2.2.2.2.1 hS.1 k9 0 h9 rfl hi hdg (kn hi)
  · exact vx_ialdZ hC.1 hC.2.1 hC.2.2.2.2.2.2.2.1 hS.1 k9 0 h9 rfl hi hdg (fun tx htx => jn_AIX (nb := 212) hC hfl hA hS hsize (by rw [htx]; exact index_text_modelled i n) (by rw [htx]; exact index_text_bytes i (by omega)) (by decide) hR (by omega) hf (kx hi))
theorem js_SRI {v : Int32} {i : Int32} {r : SRow} {n : Nat} {f : Nat → Int32} (hC : wCx own cc nL ret D dT p s m args meth c) (hA : wAz A s) (hS : StX D dT a A s vs0 X vs H locs) (hj : j < 4) (hr : X_sr X j = some r) (hk : r.2 = .inl (n, f)) (hn : n ≤ 40) (hfl : l.stackTraces = false) (hsize : ls.size = nL) (hR : 8 ≤ R.frames ∧ 10300 ≤ R.locals) (hrest : (rest.map fun v => v.category).sum ≤ 8) (hf : cells + 3 ≤ R.cells ∧ slots + 222 ≤ R.slots) (hdg : decode cc pc = .ok (.iastore, 1)) (kn : vp_in i n → ∀ (H1 : Heap) (locs1 : List Loc), StX D dT a A s vs0 (sX_sr X (upO (X_sr X) j (some (r.1, .inl (n, upd f i.toNatClampNeg v))))) vs H1 locs1 → W p l e R s m args below meth c H1 locs1 cells slots Q (F0 m (pc + 1) ls (rest))) (kx : ¬ vp_in i n → ∀ (q9 : Addr) (ce9 : Cell) (H1 : Heap), StX D dT a A s vs0 X vs H1 locs → H1[q9]? = some ce9 → ce9.vm = .none → s.vm.findClass "java/lang/ArrayIndexOutOfBoundsException" = some ce9.cls → vx_W p l e R s m args below meth c H1 locs (cells + 3) (slots + (212 + 10)) Q (F0 m pc ls (rest)) q9) : W p l e R s m args below meth c H locs cells slots Q (F0 m pc ls (.int v :: .int i :: .ref r.1 :: rest)) := by
  obtain ⟨k9, h9, hs9⟩ := XW_sr (dT := dT) (a := a) (vs := vs) hj hr
  rw [hk] at h9
  by_cases hi : vp_in i n
  · exact as_SRI hC hS hj hr hk hi hdg (kn hi)
  · exact vx_iastZ hC.1 hC.2.1 hC.2.2.2.2.2.2.2.1 hS.1 k9 0 h9 rfl hi hdg (fun tx htx => jn_AIX (nb := 212) hC hfl hA hS hsize (by rw [htx]; exact index_text_modelled i n) (by rw [htx]; exact index_text_bytes i (by omega)) (by decide) hR (by omega) hf (kx hi))
theorem jc_SRI {index : Nat} {r : SRow} {n : Nat} {f : Nat → Int64} (hC : wCx own cc nL ret D dT p s m args meth c) (hA : wAz A s) (hS : StX D dT a A s vs0 X vs H locs) (hj : j < 4) (hr : X_sr X j = some r) (hk : r.2 = .inr (n, f)) (hfl : l.stackTraces = false) (hsize : ls.size = nL) (hR : 8 ≤ R.frames ∧ 10300 ≤ R.locals) (hrest : (rest.map fun v => v.category).sum ≤ 8) (hf : cells + 3 ≤ R.cells ∧ slots + 410 ≤ R.slots) (hq : Cond.classLink own index "[I" ∈ lw_all) (hdg : decode cc pc = .ok (.checkcast index, 3)) (kx : ∀ (q9 : Addr) (ce9 : Cell) (H1 : Heap), StX D dT a A s vs0 X vs H1 locs → H1[q9]? = some ce9 → ce9.vm = .none → s.vm.findClass "java/lang/ClassCastException" = some ce9.cls → vx_W p l e R s m args below meth c H1 locs (cells + 3) (slots + (400 + 10)) Q (F0 m pc ls (.ref r.1 :: rest)) q9) : W p l e R s m args below meth c H locs cells slots Q (F0 m pc ls (.ref r.1 :: rest)) := by
  obtain ⟨k9, h9, hs9⟩ := XW_sr (dT := dT) (a := a) (vs := vs) hj hr
  rw [hk] at h9
  have hcell := hS.1 k9 _ h9
  obtain ⟨c1, c2, f1, f2, f3⟩ := hC.2.2.2.2.2.2.2.2.2.2.2 _ nc_0
  have n1 := nm_SRJ hC
  have n2 := nm_SRI hC
  cases f1.symm.trans n1
  cases f2.symm.trans n2
  obtain ⟨k1, hk1, hk1n⟩ := Vm.findClass_spec n1
  obtain ⟨k2, hk2, hk2n⟩ := Vm.findClass_spec n2
  have a1 : ∃ a b, k1.kind = .array a b := by
    obtain ⟨_, k', hk', comp, hkind⟩ := ((hC.2.2.2.2.2.2.2.1.2 1 _ rfl).1 0 (fun _ => .null))
    cases Option.some.inj (hk1.symm.trans hk')
    exact ⟨_, _, hkind⟩
  have a2 : ∃ a b, k2.kind = .array a b := by
    obtain ⟨_, k', hk', comp, hkind⟩ := ((hC.2.2.2.2.2.2.2.1.2 0 _ rfl).1 0 (fun _ => .null))
    cases Option.some.inj (hk2.symm.trans hk')
    exact ⟨_, _, hkind⟩
  exact jCastNo hC hq hcell rfl hk1 hk2 n2 f3 (ccK_of (by first | exact Or.inl rfl | exact Or.inr rfl) n1 hk1 a1) (ccK_of (by first | exact Or.inl rfl | exact Or.inr rfl) n2 hk2 a2) hdg (fun tx htx => jn_CCE (nb := 400) hC hfl hA hS hsize htx.1 htx.2 (by decide) hR (by have h7 : ((Value.ref r.1 :: rest).map fun v => v.category).sum = 1 + (rest.map fun v => v.category).sum := List.sum_cons; omega) hf kx)
theorem jl_SRJ {i : Int32} {r : SRow} {n : Nat} {f : Nat → Int64} (hC : wCx own cc nL ret D dT p s m args meth c) (hA : wAz A s) (hS : StX D dT a A s vs0 X vs H locs) (hj : j < 4) (hr : X_sr X j = some r) (hk : r.2 = .inr (n, f)) (hn : n ≤ 40) (hfl : l.stackTraces = false) (hsize : ls.size = nL) (hR : 8 ≤ R.frames ∧ 10300 ≤ R.locals) (hrest : (rest.map fun v => v.category).sum ≤ 8) (hf : cells + 3 ≤ R.cells ∧ slots + 222 ≤ R.slots) (hdg : decode cc pc = .ok (.laload, 1)) (kn : vp_in i n → W p l e R s m args below meth c H locs cells slots Q (F0 m (pc + 1) ls (.long (f i.toNatClampNeg) :: rest))) (kx : ¬ vp_in i n → ∀ (q9 : Addr) (ce9 : Cell) (H1 : Heap), StX D dT a A s vs0 X vs H1 locs → H1[q9]? = some ce9 → ce9.vm = .none → s.vm.findClass "java/lang/ArrayIndexOutOfBoundsException" = some ce9.cls → vx_W p l e R s m args below meth c H1 locs (cells + 3) (slots + (212 + 10)) Q (F0 m pc ls (rest)) q9) : W p l e R s m args below meth c H locs cells slots Q (F0 m pc ls (.int i :: .ref r.1 :: rest)) := by
  obtain ⟨k9, h9, hs9⟩ := XW_sr (dT := dT) (a := a) (vs := vs) hj hr
  rw [hk] at h9
  by_cases hi : vp_in i n
  · exact va_lald hC.1 hC.2.1 hC.2.2.2.2.2.2.2.1 hS.1 k9 1 h9 rfl hi hdg (kn hi)
  · exact vx_laldZ hC.1 hC.2.1 hC.2.2.2.2.2.2.2.1 hS.1 k9 1 h9 rfl hi hdg (fun tx htx => jn_AIX (nb := 212) hC hfl hA hS hsize (by rw [htx]; exact index_text_modelled i n) (by rw [htx]; exact index_text_bytes i (by omega)) (by decide) hR (by omega) hf (kx hi))
theorem js_SRJ {v : Int64} {i : Int32} {r : SRow} {n : Nat} {f : Nat → Int64} (hC : wCx own cc nL ret D dT p s m args meth c) (hA : wAz A s) (hS : StX D dT a A s vs0 X vs H locs) (hj : j < 4) (hr : X_sr X j = some r) (hk : r.2 = .inr (n, f)) (hn : n ≤ 40) (hfl : l.stackTraces = false) (hsize : ls.size = nL) (hR : 8 ≤ R.frames ∧ 10300 ≤ R.locals) (hrest : (rest.map fun v => v.category).sum ≤ 8) (hf : cells + 3 ≤ R.cells ∧ slots + 222 ≤ R.slots) (hdg : decode cc pc = .ok (.lastore, 1)) (kn : vp_in i n → ∀ (H1 : Heap) (locs1 : List Loc), StX D dT a A s vs0 (sX_sr X (upO (X_sr X) j (some (r.1, .inr (n, vp_updL f i.toNatClampNeg v))))) vs H1 locs1 → W p l e R s m args below meth c H1 locs1 cells slots Q (F0 m (pc + 1) ls (rest))) (kx : ¬ vp_in i n → ∀ (q9 : Addr) (ce9 : Cell) (H1 : Heap), StX D dT a A s vs0 X vs H1 locs → H1[q9]? = some ce9 → ce9.vm = .none → s.vm.findClass "java/lang/ArrayIndexOutOfBoundsException" = some ce9.cls → vx_W p l e R s m args below meth c H1 locs (cells + 3) (slots + (212 + 10)) Q (F0 m pc ls (rest)) q9) : W p l e R s m args below meth c H locs cells slots Q (F0 m pc ls (.long v :: .int i :: .ref r.1 :: rest)) := by
  obtain ⟨k9, h9, hs9⟩ := XW_sr (dT := dT) (a := a) (vs := vs) hj hr
  rw [hk] at h9
  by_cases hi : vp_in i n
  · exact as_SRJ hC hS hj hr hk hi hdg (kn hi)
  · exact vx_lastZ hC.1 hC.2.1 hC.2.2.2.2.2.2.2.1 hS.1 k9 1 h9 rfl hi hdg (fun tx htx => jn_AIX (nb := 212) hC hfl hA hS hsize (by rw [htx]; exact index_text_modelled i n) (by rw [htx]; exact index_text_bytes i (by omega)) (by decide) hR (by omega) hf (kx hi))
theorem jc_SRJ {index : Nat} {r : SRow} {n : Nat} {f : Nat → Int32} (hC : wCx own cc nL ret D dT p s m args meth c) (hA : wAz A s) (hS : StX D dT a A s vs0 X vs H locs) (hj : j < 4) (hr : X_sr X j = some r) (hk : r.2 = .inl (n, f)) (hfl : l.stackTraces = false) (hsize : ls.size = nL) (hR : 8 ≤ R.frames ∧ 10300 ≤ R.locals) (hrest : (rest.map fun v => v.category).sum ≤ 8) (hf : cells + 3 ≤ R.cells ∧ slots + 410 ≤ R.slots) (hq : Cond.classLink own index "[J" ∈ lw_all) (hdg : decode cc pc = .ok (.checkcast index, 3)) (kx : ∀ (q9 : Addr) (ce9 : Cell) (H1 : Heap), StX D dT a A s vs0 X vs H1 locs → H1[q9]? = some ce9 → ce9.vm = .none → s.vm.findClass "java/lang/ClassCastException" = some ce9.cls → vx_W p l e R s m args below meth c H1 locs (cells + 3) (slots + (400 + 10)) Q (F0 m pc ls (.ref r.1 :: rest)) q9) : W p l e R s m args below meth c H locs cells slots Q (F0 m pc ls (.ref r.1 :: rest)) := by
  obtain ⟨k9, h9, hs9⟩ := XW_sr (dT := dT) (a := a) (vs := vs) hj hr
  rw [hk] at h9
  have hcell := hS.1 k9 _ h9
  obtain ⟨c1, c2, f1, f2, f3⟩ := hC.2.2.2.2.2.2.2.2.2.2.2 _ nc_1
  have n1 := nm_SRI hC
  have n2 := nm_SRJ hC
  cases f1.symm.trans n1
  cases f2.symm.trans n2
  obtain ⟨k1, hk1, hk1n⟩ := Vm.findClass_spec n1
  obtain ⟨k2, hk2, hk2n⟩ := Vm.findClass_spec n2
  have a1 : ∃ a b, k1.kind = .array a b := by
    obtain ⟨_, k', hk', comp, hkind⟩ := ((hC.2.2.2.2.2.2.2.1.2 0 _ rfl).1 0 (fun _ => .null))
    cases Option.some.inj (hk1.symm.trans hk')
    exact ⟨_, _, hkind⟩
  have a2 : ∃ a b, k2.kind = .array a b := by
    obtain ⟨_, k', hk', comp, hkind⟩ := ((hC.2.2.2.2.2.2.2.1.2 1 _ rfl).1 0 (fun _ => .null))
    cases Option.some.inj (hk2.symm.trans hk')
    exact ⟨_, _, hkind⟩
  exact jCastNo hC hq hcell rfl hk1 hk2 n2 f3 (ccK_of (by first | exact Or.inl rfl | exact Or.inr rfl) n1 hk1 a1) (ccK_of (by first | exact Or.inl rfl | exact Or.inr rfl) n2 hk2 a2) hdg (fun tx htx => jn_CCE (nb := 400) hC hfl hA hS hsize htx.1 htx.2 (by decide) hR (by have h7 : ((Value.ref r.1 :: rest).map fun v => v.category).sum = 1 + (rest.map fun v => v.category).sum := List.sum_cons; omega) hf kx)
theorem jna_I {n : Int32} (hC : wCx own cc nL ret D dT p s m args meth c) (hA : wAz A s) (hS : StX D dT a A s vs0 X vs H locs) (hn : n ≤ 40) (hfl : l.stackTraces = false) (hsize : ls.size = nL) (hR : 8 ≤ R.frames ∧ 10300 ≤ R.locals) (hrest : (rest.map fun v => v.category).sum ≤ 8) (hf : cells + 3 ≤ R.cells ∧ slots + 54 ≤ R.slots) (hdg : decode cc pc = .ok (.newarray .int, 2)) (kn : ¬ n < 0 → ∀ (q : Nat) (H1 : Heap), StX D dT a A s vs0 X (vs ++ [(q, rE dT (.inl (n.toNatClampNeg, fun _ => 0)))]) H1 locs → XI vs0 (X, vs) → W p l e R s m args below meth c H1 locs (cells + 3) (slots + 54) Q (F0 m (pc + 2) ls (.ref q :: rest))) (kx : n < 0 → ∀ (q9 : Addr) (ce9 : Cell) (H1 : Heap), StX D dT a A s vs0 X vs H1 locs → H1[q9]? = some ce9 → ce9.vm = .none → s.vm.findClass "java/lang/NegativeArraySizeException" = some ce9.cls → vx_W p l e R s m args below meth c H1 locs (cells + 3) (slots + (44 + 10)) Q (F0 m pc ls (rest)) q9) : W p l e R s m args below meth c H locs cells slots Q (F0 m pc ls (.int n :: rest)) := by
  by_cases h0 : n < 0
  · exact vx_newarrayZ hC.1 hC.2.1 h0 hdg (fun tx htx => jn_NAS (nb := 44) hC hfl hA hS hsize (by rw [htx]; exact negative_text_modelled h0) (by rw [htx]; exact negative_text_bytes n) (by decide) hR (by omega) hf (kx h0))
  · have hN : n.toNatClampNeg ≤ 40 := by
      have h1 : n.toInt ≤ 40 := Int32.le_iff_toInt_le.mp hn
      have h2 : ¬ n.toInt < 0 := fun h => h0 (Int32.lt_iff_toInt_lt.mpr h)
      have h3 : n.toNatClampNeg = n.toInt.toNat := rfl
      omega
    refine va_newa (atype := .int) (ty := .int) (N' := n.toNatClampNeg) (a0 := (n.toNatClampNeg, .inl (fun _ => 0))) hC.1 hC.2.1 (hC.2.2.2.2.1 _ q144) rfl hC.2.2.2.2.2.2.2.1 hS.1 hS.2.1 hS.2.2.1 hA.1 (fun cA => rfl) h0 rfl (by show n.toNatClampNeg * 4 ≤ 536870912; omega) (by omega) (by omega) hdg (fun q cA H1 hK1 hP hD hS1 => ?_)
    have e1 : cA = dT 0 := by
      have h1 := (hK1.2 6 (cA, .int) rfl).2
      have h2 := (hC.2.2.2.2.2.2.2.1.2 0 _ rfl).2
      exact Option.some.inj (h1.symm.trans h2)
    subst e1
    have e2 : XW dT a (X, vs) ++ [(q, .inl (dT 0, n.toNatClampNeg, .inl (fun _ => 0)))] = XW dT a (X, vs ++ [(q, rE dT (.inl (n.toNatClampNeg, fun _ => 0)))]) := XW_push
    rw [e2] at hP hD
    refine W.widen (k := cells + 3) (n := slots + 54) (by omega) (by omega) ?_
    exact kn h0 q H1 ⟨hP, hD, hS1, fun v hv => List.mem_append_left _ (hS.2.2.2.1 v hv), fun v hv => List.mem_append_left _ (hS.2.2.2.2 v hv)⟩ hS.2.2.2
theorem jna_J {n : Int32} (hC : wCx own cc nL ret D dT p s m args meth c) (hA : wAz A s) (hS : StX D dT a A s vs0 X vs H locs) (hn : n ≤ 40) (hfl : l.stackTraces = false) (hsize : ls.size = nL) (hR : 8 ≤ R.frames ∧ 10300 ≤ R.locals) (hrest : (rest.map fun v => v.category).sum ≤ 8) (hf : cells + 3 ≤ R.cells ∧ slots + 54 ≤ R.slots) (hdg : decode cc pc = .ok (.newarray .long, 2)) (kn : ¬ n < 0 → ∀ (q : Nat) (H1 : Heap), StX D dT a A s vs0 X (vs ++ [(q, rE dT (.inr (n.toNatClampNeg, fun _ => 0)))]) H1 locs → XI vs0 (X, vs) → W p l e R s m args below meth c H1 locs (cells + 3) (slots + 54) Q (F0 m (pc + 2) ls (.ref q :: rest))) (kx : n < 0 → ∀ (q9 : Addr) (ce9 : Cell) (H1 : Heap), StX D dT a A s vs0 X vs H1 locs → H1[q9]? = some ce9 → ce9.vm = .none → s.vm.findClass "java/lang/NegativeArraySizeException" = some ce9.cls → vx_W p l e R s m args below meth c H1 locs (cells + 3) (slots + (44 + 10)) Q (F0 m pc ls (rest)) q9) : W p l e R s m args below meth c H locs cells slots Q (F0 m pc ls (.int n :: rest)) := by
  by_cases h0 : n < 0
  · exact vx_newarrayZ hC.1 hC.2.1 h0 hdg (fun tx htx => jn_NAS (nb := 44) hC hfl hA hS hsize (by rw [htx]; exact negative_text_modelled h0) (by rw [htx]; exact negative_text_bytes n) (by decide) hR (by omega) hf (kx h0))
  · have hN : n.toNatClampNeg ≤ 40 := by
      have h1 : n.toInt ≤ 40 := Int32.le_iff_toInt_le.mp hn
      have h2 : ¬ n.toInt < 0 := fun h => h0 (Int32.lt_iff_toInt_lt.mpr h)
      have h3 : n.toNatClampNeg = n.toInt.toNat := rfl
      omega
    refine va_newa (atype := .long) (ty := .long) (N' := n.toNatClampNeg) (a0 := (n.toNatClampNeg, .inr (.inl (fun _ => 0)))) hC.1 hC.2.1 (hC.2.2.2.2.1 _ q179) rfl hC.2.2.2.2.2.2.2.1 hS.1 hS.2.1 hS.2.2.1 hA.1 (fun cA => rfl) h0 rfl (by show n.toNatClampNeg * 8 ≤ 536870912; omega) (by omega) (by omega) hdg (fun q cA H1 hK1 hP hD hS1 => ?_)
    have e1 : cA = dT 1 := by
      have h1 := (hK1.2 6 (cA, .long) rfl).2
      have h2 := (hC.2.2.2.2.2.2.2.1.2 1 _ rfl).2
      exact Option.some.inj (h1.symm.trans h2)
    subst e1
    have e2 : XW dT a (X, vs) ++ [(q, .inl (dT 1, n.toNatClampNeg, .inr (.inl (fun _ => 0))))] = XW dT a (X, vs ++ [(q, rE dT (.inr (n.toNatClampNeg, fun _ => 0)))]) := XW_push
    rw [e2] at hP hD
    refine W.widen (k := cells + 3) (n := slots + 54) (by omega) (by omega) ?_
    exact kn h0 q H1 ⟨hP, hD, hS1, fun v hv => List.mem_append_left _ (hS.2.2.2.1 v hv), fun v hv => List.mem_append_left _ (hS.2.2.2.2 v hv)⟩ hS.2.2.2
theorem va_D.nodup {ws : va_W} (h : va_D A ws) : (ws.map Prod.fst).Nodup := by
  rw [List.nodup_iff_pairwise_ne, List.pairwise_map, List.pairwise_iff_getElem]
  intro i k hi hk hik e9
  have := h.1 i k _ _ (List.getElem?_eq_getElem hi) (List.getElem?_eq_getElem hk) e9
  omega
theorem va_D.of_nodup {ws : va_W} (h : (ws.map Prod.fst).Nodup) (hA : ∀ z ∈ ws, A z.1) : va_D A ws := by
  refine ⟨fun i k y z hy hz e9 => ?_, fun k z hz => hA z (List.mem_of_getElem? hz)⟩
  rw [List.nodup_iff_pairwise_ne, List.pairwise_map, List.pairwise_iff_getElem] at h
  obtain ⟨hi, e1⟩ := List.getElem?_eq_some_iff.mp hy
  obtain ⟨hk, e2⟩ := List.getElem?_eq_some_iff.mp hz
  rcases Nat.lt_trichotomy i k with h1 | h1 | h1
  · exact absurd (by rw [e1, e2]; exact e9) (h i k hi hk h1)
  · exact h1
  · exact absurd (by rw [e1, e2]; exact e9.symm) (h k i hk hi h1)
/-- the row of a sheet is another: what goes out of the world is forgotten -/
theorem XW_swap {es : XE} {o : Option SRow} {H1 : Heap} {nw : XE} (hj : j < 4) (hnw : rowC dT o = nw) (hP : va_P D clL ((XW dT a (X, es ++ nw)).set (18 + j) (a (18 + j), .inr (3, [va_rf (o.map fun r => r.1)]))) H1) (hD : va_D A ((XW dT a (X, es ++ nw)).set (18 + j) (a (18 + j), .inr (3, [va_rf (o.map fun r => r.1)])))) : va_P D clL (XW dT a (sX_sr X (upO (X_sr X) j o), es)) H1 ∧ va_D A (XW dT a (sX_sr X (upO (X_sr X) j o), es)) := by
  have e : ∀ k : Nat, X_sr (sX_sr X (upO (X_sr X) j o)) k = if k = j then o else X_sr X k := fun k => rfl
  obtain ⟨P, B, old, e1, e2⟩ : ∃ P B old : va_W, XR dT X = P ++ (old ++ B) ∧ XR dT (sX_sr X (upO (X_sr X) j o)) = P ++ (nw ++ B) := by
    unfold XR
    rw [e 0, e 1, e 2, e 3, ← hnw]
    match j, hj with
    | 0, _ => exact ⟨[], rowC dT (X_sr X 1) ++ (rowC dT (X_sr X 2) ++ rowC dT (X_sr X 3)), rowC dT (X_sr X 0), rfl, rfl⟩
    | 1, _ => exact ⟨rowC dT (X_sr X 0), rowC dT (X_sr X 2) ++ rowC dT (X_sr X 3), rowC dT (X_sr X 1), rfl, rfl⟩
    | 2, _ => exact ⟨rowC dT (X_sr X 0) ++ rowC dT (X_sr X 1), rowC dT (X_sr X 3), rowC dT (X_sr X 2), by simp only [List.append_assoc], by simp only [List.append_assoc]; rfl⟩
    | 3, _ => exact ⟨rowC dT (X_sr X 0) ++ (rowC dT (X_sr X 1) ++ rowC dT (X_sr X 2)), [], rowC dT (X_sr X 3), by simp only [List.append_assoc, List.append_nil], by simp only [List.append_assoc, List.append_nil]; rfl⟩
    | q + 4, h => exact absurd h (by omega)
  have e3 : (XW dT a (X, es ++ nw)).set (18 + j) (a (18 + j), .inr (3, [va_rf (o.map fun r => r.1)])) = XSt dT a (sX_sr X (upO (X_sr X) j o)) ++ (XR dT X ++ (es ++ nw)) := by
    show (XSt dT a X ++ (XR dT X ++ (es ++ nw))).set _ _ = _
    rw [List.set_append_left _ _ (by show 18 + j < 38; omega)]
    congr 1
    match j, hj with
    | 0, _ => rfl
    | 1, _ => rfl
    | 2, _ => rfl
    | 3, _ => rfl
    | q + 4, h => exact absurd h (by omega)
  have e4 : XW dT a (sX_sr X (upO (X_sr X) j o), es) = XSt dT a (sX_sr X (upO (X_sr X) j o)) ++ (P ++ (nw ++ B) ++ es) := by
    show XSt dT a _ ++ (XR dT _ ++ es) = _
    rw [e2]
  rw [e3, e1] at hP hD
  have hmem : ∀ z ∈ XW dT a (sX_sr X (upO (X_sr X) j o), es), z ∈ XSt dT a (sX_sr X (upO (X_sr X) j o)) ++ (P ++ (old ++ B) ++ (es ++ nw)) := by
    rw [e4]
    intro z hz
    simp only [List.mem_append] at hz ⊢
    rcases hz with h | (h | h | h) | h
    · exact Or.inl h
    · exact Or.inr (Or.inl (Or.inl h))
    · exact Or.inr (Or.inr (Or.inr h))
    · exact Or.inr (Or.inl (Or.inr (Or.inr h)))
    · exact Or.inr (Or.inr (Or.inl h))
  refine ⟨fun k z hz => ?_, va_D.of_nodup ?_ (fun z hz => ?_)⟩
  · obtain ⟨i, hi⟩ := List.getElem?_of_mem (hmem z (List.mem_of_getElem? hz))
    exact hP i z hi
  · rw [e4]
    have hnd := hD.nodup
    simp only [List.map_append] at hnd ⊢
    have hsub : (XSt dT a (sX_sr X (upO (X_sr X) j o))).map Prod.fst ++ (P.map Prod.fst ++ B.map Prod.fst ++ (es.map Prod.fst ++ nw.map Prod.fst)) |>.Sublist ((XSt dT a (sX_sr X (upO (X_sr X) j o))).map Prod.fst ++ (P.map Prod.fst ++ (old.map Prod.fst ++ B.map Prod.fst) ++ (es.map Prod.fst ++ nw.map Prod.fst))) :=
      List.Sublist.append (List.Sublist.refl _) (List.Sublist.append (List.Sublist.append (List.Sublist.refl _) (List.sublist_append_right _ _)) (List.Sublist.refl _))
    have h1 := hnd.sublist hsub
    refine (List.Perm.nodup_iff ?_).mp h1
    refine List.Perm.append_left _ ?_
    generalize P.map Prod.fst = p1
    generalize B.map Prod.fst = b1
    generalize es.map Prod.fst = q1
    generalize nw.map Prod.fst = n1
    rw [List.append_assoc, List.append_assoc]
    refine List.Perm.append_left _ ?_
    calc b1 ++ (q1 ++ n1) = (b1 ++ q1) ++ n1 := (List.append_assoc _ _ _).symm
      List.Perm _ (n1 ++ (b1 ++ q1)) := List.perm_append_comm
      _ = (n1 ++ b1) ++ q1 := (List.append_assoc _ _ _).symm
  · obtain ⟨i, hi⟩ := List.getElem?_of_mem (hmem z hz)
    exact hD.2 i z hi
theorem st_rowr (hC : wCx RX0 cc nL ret D dT p s m args meth c) {q : Nat} {con : SCon} (hS : StX D dT a A s vs0 X (vs ++ [(q, rE dT con)]) H locs) (hI : XI vs0 (X, vs)) (hj : j < 4) (hdg : decode cc pc = .ok (.putfield 182, 3)) (k : ∀ (H1 : Heap) (locs1 : List Loc), StX D dT a A s vs0 (sX_sr X (upO (X_sr X) j (some (q, con)))) vs H1 locs1 → W p l e R s m args below meth c H1 locs1 cells slots Q (F0 m (pc + 3) ls (rest))) : W p l e R s m args below meth c H locs cells slots Q (F0 m pc ls (.ref q :: .ref (a (18 + j)) :: rest)) := by
  refine va_putN (D := D) (ci := 3) (v := .ref q) (ty := .object "java/lang/Object") (C := RX3) (T := TX3) (N := 1) hC.1 hC.2.1 hC.2.2.2.2.1 in_X3 tyX3 tyX3_ok nmX3 hC.2.2.2.1 hC.2.2.2.2.2.2.2.1 hS.1 hS.2.1 hS.2.2.1 (18 + j) (XW_SH hj) rfl 0 (by decide) (va_Nw.use rfl (hC.2.2.2.2.2.2.2.2.1 _ nw_q188)) (fun _ h9 => h9) rfl (by decide +kernel) rfl rfl Nat.zero_lt_one hdg (fun H1 locs1 hP hD hS1 => k H1 locs1 ?_)
  obtain ⟨hP, hD⟩ := XW_swap (o := (some (q, con))) (nw := [(q, rE dT con)]) (es := vs) hj rfl hP hD
  exact ⟨hP, hD, hS1, hI⟩
theorem st_rown (hC : wCx RX0 cc nL ret D dT p s m args meth c) (hS : StX D dT a A s vs0 X vs H locs) (hj : j < 4) (hdg : decode cc pc = .ok (.putfield 182, 3)) (k : ∀ (H1 : Heap) (locs1 : List Loc), StX D dT a A s vs0 (sX_sr X (upO (X_sr X) j none)) vs H1 locs1 → W p l e R s m args below meth c H1 locs1 cells slots Q (F0 m (pc + 3) ls (rest))) : W p l e R s m args below meth c H locs cells slots Q (F0 m pc ls (.null :: .ref (a (18 + j)) :: rest)) := by
  refine va_putN (D := D) (ci := 3) (v := .null) (ty := .object "java/lang/Object") (C := RX3) (T := TX3) (N := 1) hC.1 hC.2.1 hC.2.2.2.2.1 in_X3 tyX3 tyX3_ok nmX3 hC.2.2.2.1 hC.2.2.2.2.2.2.2.1 hS.1 hS.2.1 hS.2.2.1 (18 + j) (XW_SH hj) rfl 0 (by decide) (va_Nw.use rfl (hC.2.2.2.2.2.2.2.2.1 _ nw_q188)) (fun _ h9 => h9) rfl (by decide +kernel) rfl rfl Nat.zero_lt_one hdg (fun H1 locs1 hP hD hS1 => k H1 locs1 ?_)
  rw [show vs = vs ++ [] from (List.append_nil vs).symm] at hP hD
  obtain ⟨hP, hD⟩ := XW_swap (o := none) (nw := []) (es := vs) hj rfl hP hD
  exact ⟨hP, hD, hS1, hS.2.2.2⟩
theorem jat_AEX (hC : wCx own cc nL ret D dT p s m args meth c) (hA : wAz A s) : ∀ w ∈ vx_atS "java/lang/Math" 113 "java/lang/ArithmeticException" ["java/lang/RuntimeException", "java/lang/Exception"], w.before args s = true := by
  intro w hw
  have hts := hC.2.2.2.2.1
  obtain ⟨hw, hno⟩ := List.mem_filter.mp hw
  simp only [Bundle.ownAtoms, Bundle.throwableSAtoms, Bundle.chainSAtoms, Bundle.passSAtoms, List.mem_append, List.mem_cons, List.not_mem_nil, or_false, or_assoc] at hw
  rcases hw with hw | rfl | rfl | rfl | rfl | rfl | rfl | rfl | rfl | rfl | rfl | rfl | rfl | rfl | rfl | rfl | rfl | rfl | rfl | rfl | rfl | rfl | rfl | rfl | rfl | rfl | rfl | rfl | rfl | rfl | rfl | rfl | rfl | rfl
  · exact xThrowAtoms hts hA _ hw
  · exact hts _ q757
  · exact hts _ q758
  · exact hts _ q467
  · exact hts _ q411
  · exact hts _ q819
  · exact hts _ q820
  · exact hts _ q821
  · exact hts _ q751
  · exact va_Nw.use rfl (hC.2.2.2.2.2.2.2.2.1 _ nw_q768)
  · exact hts _ q751
  · exact hts _ q752
  · exact hts _ q753
  · exact hts _ q754
  · exact va_Nw.use rfl (hC.2.2.2.2.2.2.2.2.1 _ nw_q399)
  · exact hts _ q754
  · exact hts _ q755
  · exact hts _ q756
  · exact hts _ q757
  · exact va_Nw.use rfl (hC.2.2.2.2.2.2.2.2.1 _ nw_q401)
  · exact hts _ q843
  · exact hts _ q818
  · exact va_Nw.use rfl (hC.2.2.2.2.2.2.2.2.1 _ nw_q829)
  · exact hts _ q830
  · exact hts _ q427
  · exact hts _ q824
  · exact hts _ q825
  · exact hts _ q827
  · exact hts _ q823
  · exact absurd hno (by decide)
  · exact absurd hno (by decide)
  · exact hts _ q414
  · exact hts _ q413
  · exact hts _ q822
theorem jgo_AEX : ∀ w ∈ Cond.classLink "java/lang/Math" 109 "java/lang/ArithmeticException" :: Cond.initialized "java/lang/ArithmeticException" :: vx_atS "java/lang/Math" 113 "java/lang/ArithmeticException" ["java/lang/RuntimeException", "java/lang/Exception"], vx_ot w = true := List.all_eq_true.mp (by decide +kernel)
def jxN (k : Nat) : String := match k with
  | 0 => "java/lang/ClassCastException"
  | 1 => "java/lang/ArrayIndexOutOfBoundsException"
  | _ => "java/lang/ArithmeticException"
abbrev XCJ (D : va_G) (dT : Nat → ClassId) (a : Nat → Nat) (S : List Nat) (vs0 : XE) (postX : Nat → XS → Prop) (A : Nat → Prop) : String → Addr → State → State → Prop := vx_X (fun u9 : (XS × XE) × Nat => u9.2 ∈ S ∧ postX u9.2 u9.1.1) (fun E9 q9 u9 t9 => E9 = jxN u9.2 ∧ wB D (XW dT a) (XI vs0) A u9.1 t9) A
theorem xOutJ {Qc : Array Value → State → Outcome → State → Prop} {S : List Nat} {postX : Nat → XS → Prop} {k : Nat} {q : Addr} {ce : Cell} {mc ms : Nat} (hC : wCx own cc nL ret D dT p s m args meth c) (hout : ∀ z ∈ c.exceptionTable.toList, covers z pc = false) (hk : k ∈ S) (hp : postX k X) (hS : StX D dT a A s vs0 X vs H locs) (hcell : H[q]? = some ce) (hv : ce.vm = .none) (hcl : s.vm.findClass (jxN k) = some ce.cls) (h1 : cells ≤ mc) (h2 : slots ≤ ms) :
    vx_W p l e R s m args below meth c H locs cells slots (vx_MQ below Qc (XCJ D dT a S vs0 postX A) args s mc ms A) (F0 m pc ls rest) q :=
  xOut (E := jxN k) (((X, vs), k) : (XS × XE) × Nat) hout hC.2.2.2.2.2.2.1 ⟨hk, hp⟩ (fun t ht => ⟨rfl, by rw [ht]; exact hS.1, hS.2.1, hS.2.2.2⟩) hS.2.2.1 hcell hv hcl h1 h2
theorem XSR_upO {o : Option SRow} : X_sr (sX_sr X (upO (X_sr X) j o)) j = o := if_pos rfl
theorem xJl {S : List Nat} {mc ms : Nat} {av : Array Value} {st0 : List Value} {post : Int64 → XS → Prop} {postX : Nat → XS → Prop} (hA : wAz A s) (hS : StX D dT a A s vs0 X vs H locs) (hr : vx_Run p l e R s m args below meth c H locs cells slots mc ms (F0 m pc ls st0) rest (va_Ql (fun r u9 => post r u9.1) (wB D (XW dT a) (XI vs) (va_A (XW dT a (X, vs)) H.size)) (va_A (XW dT a (X, vs)) H.size) av) (XCJ D dT a S vs postX (va_A (XW dT a (X, vs)) H.size)) (va_A (XW dT a (X, vs)) H.size))
    (kx : ∀ (k : Nat) (X1 : XS) (vs1 : XE) (H1 : Heap) (locs1 : List Loc) (q9 : Addr) (ce9 : Cell), k ∈ S → postX k X1 → (∀ v ∈ vs, v ∈ vs1) → StX D dT a A s vs0 X1 vs1 H1 locs1 → H1[q9]? = some ce9 → ce9.vm = .none → s.vm.findClass (jxN k) = some ce9.cls → vx_W p l e R s m args below meth c H1 locs1 (cells + mc) (slots + ms) Q (F0 m pc ls rest) q9)
    (kk : ∀ (r : Int64) (X1 : XS) (vs1 : XE) (H1 : Heap) (locs1 : List Loc), post r X1 → (∀ v ∈ vs, v ∈ vs1) → StX D dT a A s vs0 X1 vs1 H1 locs1 → W p l e R s m args below meth c H1 locs1 (cells + mc) (slots + ms) Q (F0 m (pc + 3) ls (.long r :: rest))) : W p l e R s m args below meth c H locs cells slots Q (F0 m pc ls st0) :=
  vx_calll hr hS.2.2.1 (fun q _ h => wFree hA hS.self q h) (wFree hA hS.self) (fun q _ h => wFree hA hS.self q h) (fun E9 ce q9 u t H1 locs1 ht _ hp hB _ _ hS1 hc1 hc2 hc3 => by
    obtain ⟨h0, h3⟩ := hB
    have h9 := wBack hA hS.self ht h3 hS1
    rw [h0] at hc3
    exact kx u.2 u.1.1 u.1.2 H1 locs1 q9 ce hp.1 hp.2 h9.2.2.2.2 (hS.back h9) hc1 hc2 hc3) (fun r u t H1 locs1 ht _ hp hB _ _ hS1 => kk r u.1 u.2 H1 locs1 hp (wBack hA hS.self ht hB hS1).2.2.2.2 (hS.back (wBack hA hS.self ht hB hS1)))
theorem xJv {S : List Nat} {mc ms : Nat} {av : Array Value} {st0 : List Value} {post : XS → Prop} {postX : Nat → XS → Prop} (hA : wAz A s) (hS : StX D dT a A s vs0 X vs H locs) (hr : vx_Run p l e R s m args below meth c H locs cells slots mc ms (F0 m pc ls st0) rest (va_Qv (fun u9 => post u9.1) (wB D (XW dT a) (XI vs) (va_A (XW dT a (X, vs)) H.size)) (va_A (XW dT a (X, vs)) H.size) av) (XCJ D dT a S vs postX (va_A (XW dT a (X, vs)) H.size)) (va_A (XW dT a (X, vs)) H.size))
    (kx : ∀ (k : Nat) (X1 : XS) (vs1 : XE) (H1 : Heap) (locs1 : List Loc) (q9 : Addr) (ce9 : Cell), k ∈ S → postX k X1 → (∀ v ∈ vs, v ∈ vs1) → StX D dT a A s vs0 X1 vs1 H1 locs1 → H1[q9]? = some ce9 → ce9.vm = .none → s.vm.findClass (jxN k) = some ce9.cls → vx_W p l e R s m args below meth c H1 locs1 (cells + mc) (slots + ms) Q (F0 m pc ls rest) q9)
    (kk : ∀ (X1 : XS) (vs1 : XE) (H1 : Heap) (locs1 : List Loc), post X1 → (∀ v ∈ vs, v ∈ vs1) → StX D dT a A s vs0 X1 vs1 H1 locs1 → W p l e R s m args below meth c H1 locs1 (cells + mc) (slots + ms) Q (F0 m (pc + 3) ls (rest))) : W p l e R s m args below meth c H locs cells slots Q (F0 m pc ls st0) :=
  vx_callv hr hS.2.2.1 (fun q _ h => wFree hA hS.self q h) (wFree hA hS.self) (fun q _ h => wFree hA hS.self q h) (fun E9 ce q9 u t H1 locs1 ht _ hp hB _ _ hS1 hc1 hc2 hc3 => by
    obtain ⟨h0, h3⟩ := hB
    have h9 := wBack hA hS.self ht h3 hS1
    rw [h0] at hc3
    exact kx u.2 u.1.1 u.1.2 H1 locs1 q9 ce hp.1 hp.2 h9.2.2.2.2 (hS.back h9) hc1 hc2 hc3) (fun u t H1 locs1 ht _ hp hB _ _ hS1 => kk u.1 u.2 H1 locs1 hp (wBack hA hS.self ht hB hS1).2.2.2.2 (hS.back (wBack hA hS.self ht hB hS1)))
end JEXB
theorem vx_ofF {l : Launch} {y : MethodName} {ws ws' : List Cond} {rm : Room} {Pc : Array Value → State → Prop} {Qc : Array Value → State → Outcome → State → Prop} {XC : String → Addr → State → State → Prop} {mc ms : Nat} {free : Addr → Prop} {cc : ByteArray} {maxL : Nat} {ret : Option FieldType}
    (hy : plainFor y = true) (hw : ws = Cond.code y cc maxL ret :: ws')
    (body : ∀ p e s m args below meth c s₁, BodyLoose p l y (headSpec ws rm) cc maxL ret e s m args below meth c s₁ → c.maxLocals = maxL → (∀ x ∈ c.exceptionTable.toList, False) → Pc args s →
      W p l e (headSpec ws rm).room s m args below meth c s.heap [] 0 0 (vx_MQ below Qc XC args s mc ms free) (entryFrame m args maxL)) : vx_Met l y ws rm Pc Qc XC mc ms free := by
  refine MetFree.of_bodySF (code := cc) (maxLocals := maxL) (ret := ret) hy ?_ ?_
  · intro args s m h hn
    obtain ⟨meth, c, h1, h2, h3, h4, h5, h6, -, -⟩ := Cond.code_spec hn (atoms_spec (ws := ws) h _ (by rw [hw]; exact List.mem_cons_self))
    exact ⟨meth, c, h1, h2, h3, h4, h5, h6⟩
  · intro p e s m args below meth c s₁ B hml hP _
    have hh0 : s₁.heap = s.heap := by rw [B.state]; rfl
    have ht : ∀ x ∈ c.exceptionTable.toList, False := by
      obtain ⟨meth9, c9, h1, h2, -, -, -, -, h7, -⟩ := Cond.code_spec B.named (atoms_spec (ws := ws) B.pre _ (by rw [hw]; exact List.mem_cons_self))
      cases Option.some.inj (h1.symm.trans B.method)
      cases Option.some.inj (h2.symm.trans (Stand.of_body B).code)
      intro x hx
      rw [Array.isEmpty_iff.mp h7] at hx
      cases hx
    obtain ⟨t, a1, o, b1, b2, b3⟩ := body p e s m args below meth c s₁ B hml ht hP s₁ hh0 (Stand.of_body B)
    exact ⟨t, o, a1, b1, b2, b3⟩
theorem xEntF {σ : Type} {l : Launch} {y : MethodName} {cc : ByteArray} {maxL : Nat} {ret : Option FieldType} {rm : Room} {D : va_G} {dT : Nat → ClassId} {Wd : σ → va_W} {I : σ → Prop} {x : σ} {av : List Value} {Q : (Nat → Prop) → Array Value → State → Outcome → State → Prop} {XC : (Nat → Prop) → String → Addr → State → State → Prop} {mc ms : Nat} (hy : plainFor y = true) (hlen : (lg_sl av).length ≤ maxL)
    (body : ∀ (p : Program) (e : Env) (s : State) (m : MethodId) (below : List Frame) (meth : Method) (c : Code) (A : Nat → Prop) (ls : Array Slot), wCx y.cls cc maxL ret D dT p s m av.toArray meth c → (∀ z ∈ c.exceptionTable.toList, False) → wAz A s → wSt D Wd I A s x s.heap [] → lv_has ls maxL (lv_args 0 av) → W p l e rm s m av.toArray below meth c s.heap [] 0 0 (vx_MQ below (Q A) (XC A) av.toArray s mc ms A) (F0 m 0 ls [])) (sz : Nat) :
    vx_Met l y (ws_ y cc maxL ret) rm (wPc D dT Wd I sz x av) (Q (va_A (Wd x) sz)) (XC (va_A (Wd x) sz)) mc ms (va_A (Wd x) sz) := by
  refine vx_ofF (cc := cc) (maxL := maxL) (ret := ret) hy rfl ?_
  intro p e s m args below meth c s₁ B hml htb hv
  obtain ⟨rfl, hsz, hP, hK, hD0, hI, hZ⟩ := hv
  have hts := atoms_spec (ws := ws_ y cc maxL ret) B.pre
  have hts : ∀ w ∈ lw_all, w.before _ s = true := fun w h => hts w (List.mem_cons_of_mem _ h)
  have hown : s.vm.findClass y.cls = some m.cls := findClass_of_methodNamed B.named
  subst hsz
  have hD := hD0.self (sz := s.heap.size)
  rw [lg_entry_eq]
  exact body p e s m below meth c _ _ ⟨B.exec, B.bytes, hml, hown, hts, B.returns, B.notSynchronized, hK⟩ htb ⟨fun q h => Or.inr h, hZ⟩ ⟨hP, hD, va_S.rf, hI⟩ (lv_entry av hlen)
theorem xRunS {p : Program} {l : Launch} {e : Env} {R : Room} {s : State} {m : MethodId} {args : Array Value} {below : List Frame} {meth : Method} {c : Code} {H : Heap} {locs : List Loc} {cells slots : Nat} {σ : Type} {D : va_G} {dT : Nat → ClassId} {Wd : σ → va_W} {I : σ → Prop} {A : Nat → Prop} {x : σ} {own : String} {cc bytes : ByteArray} {nL maxL : Nat} {ret ret' : Option FieldType} {pc : Nat} {ls : Array Slot} {y : MethodName} {index mc ms : Nat} {rm : Room} {st0 rest As : List Value}
    {Qc : Array Value → State → Outcome → State → Prop} {XC : String → Addr → State → State → Prop} (hC : wCx own cc nL ret D dT p s m args meth c) (hM : vx_Met l y (ws_ y bytes maxL ret') rm (wPc D dT Wd I H.size x As) Qc XC mc ms (va_A (Wd x) H.size)) (hg : GoodIn lw_all (va_wsS own index y (ws_ y bytes maxL ret')))
    (hc : wCal R own index y bytes maxL ret' rm mc ms As.length cells slots) (hA : wAz A s) (hS : wSt D Wd I A s x H locs) (hl : ls.size = nL) (hst : st0 = As.reverse ++ rest) (hrest : (rest.map fun v => v.category).sum ≤ 8) (hdg : decode cc pc = .ok (.invokestatic index, 3)) :
    vx_Run p l e R s m args below meth c H locs cells slots mc ms (F0 m pc ls st0) rest (Qc As.toArray) XC (va_A (Wd x) H.size) :=
  vx_runS (As := As) (rest := rest) ⟨hC.1, hC.2.1, hC.2.2.1, hC.2.2.2.1, hC.2.2.2.2.1⟩ hM (va_cwS As.length hC.2.2.2.2.1 hg rfl hc.1.1 hc.1.2 hc.2.1 hc.2.2.1) ⟨wBlind, wPreU hC.2.2.2.2.2.2.2 hA hS⟩ rfl rfl hl hst (lv_room hrest) hdg hc.2.2.2
