/-! EXCEPTIONS OF THE MACHINE'S OWN in the component: casts, indices, sizes, overflow, copies -/
def ccT (t : String) : Prop := (t == notModelled) = false ∧ (stringBytes (stringToUtf16 t)).size ≤ 400
def ccK (k : Class) : Prop := (k.name = "[I" ∨ k.name = "[J") ∧ k.hidden = none ∧ k.loader = none ∧ ∃ a b, k.kind = .array a b
theorem ccK.prim {k : Class} (h : ccK k) : k.ofPrimitives = true := by
  obtain ⟨h1, -, -, a, b, h4⟩ := h
  unfold Class.ofPrimitives
  rw [h4]
  rcases h1 with h1 | h1 <;> rw [h1]
  · exact (by decide +kernel : ((withoutBrackets "[I").length == 1) = true)
  · exact (by decide +kernel : ((withoutBrackets "[J").length == 1) = true)
theorem ccText {vm : Vm} {k1 k2 : Class} (h1 : ccK k1) (h2 : ccK k2) : ccT (Op.checkcast.message vm k1 k2) := by
  have p1 := h1.prim
  have p2 := h2.prim
  obtain ⟨n1, d1, l1, -⟩ := h1
  obtain ⟨n2, d2, l2, -⟩ := h2
  have m1 : vm.moduleOf k1 = vm.modules.find? (·.name == "java.base") := by unfold Vm.moduleOf; rw [if_pos p1]
  have m2 : vm.moduleOf k2 = vm.modules.find? (·.name == "java.base") := by unfold Vm.moduleOf; rw [if_pos p2]
  have hs : vm.sameModule k1 k2 = true := by
    unfold Vm.sameModule
    rw [m1, m2]
    cases vm.modules.find? (·.name == "java.base") with
    | none => simp [l1, l2]
    | some x => simp
  have hh : vm.home k1 = "module java.base of loader 'bootstrap'" ∨ vm.home k1 = "unnamed module of loader 'bootstrap'" := by
    unfold Vm.home
    rw [m1, l1]
    cases hf : vm.modules.find? (·.name == "java.base") with
    | none => right; rfl
    | some x =>
      left
      have : x.name = "java.base" := by
        have := List.find?_some hf
        simpa using this
      simp only [this]
      rfl
  have s1 : k1.shown = dotted k1.name := by unfold Class.shown; rw [d1]
  have s2 : k2.shown = dotted k2.name := by unfold Class.shown; rw [d2]
  unfold ccT Op.checkcast.message Vm.homes
  rw [if_pos hs, s1, s2]
  rcases n1 with n1 | n1 <;> rcases n2 with n2 | n2 <;> rcases hh with hh | hh <;> rw [n1, n2, hh] <;> decide +kernel
section JEXA
variable {p : Program} {l : Launch} {e : Env} {R : Room} {s : State} {m : MethodId} {args : Array Value} {below : List Frame} {meth : Method} {c : Code} {H : Heap} {locs : List Loc} {cells slots : Nat} {Q : State → Prop}
variable {D : va_G} {dT : Nat → ClassId} {a : Nat → Nat} {A : Nat → Prop} {X : XS} {vs0 vs : XE} {own : String} {cc : ByteArray} {nL : Nat} {ret : Option FieldType} {pc : Nat} {ls : Array Slot} {rest : List Value} {j : Nat}
theorem ccK_of {k : Class} {nm : String} {c0 : ClassId} (hnm : nm = "[I" ∨ nm = "[J") (hf : s.vm.findClass nm = some c0) (hk : s.vm.classes[c0]? = some k) (ha : ∃ a b, k.kind = .array a b) : ccK k := by
  have hl := Vm.findClass_boot hf hk
  obtain ⟨hlt, hp, -⟩ := Array.findIdx?_eq_some_iff_getElem.mp hf
  have hk2 : s.vm.classes[c0] = k := by simpa [hlt] using hk
  rw [hk2] at hp
  simp only [Bool.and_eq_true, Option.isNone_iff_eq_none, beq_iff_eq] at hp
  exact ⟨by rw [hp.1.1.1]; exact hnm, hp.1.1.2, hl, ha⟩
theorem jCastNo {nm : String} {index : Nat} {b : Addr} {cell : Cell} {cT : ClassId} {k1 k2 : Class} (hC : wCx own cc nL ret D dT p s m args meth c) (hlink : Cond.classLink own index nm ∈ lw_all) (hcell : H[b]? = some cell) (hobj : cell.vm.isStatics = false) (hks : s.vm.classes[cell.cls]? = some k1) (hkt : s.vm.classes[cT]? = some k2) (hcT : s.vm.findClass nm = some cT) (hasg : s.vm.assignable cell.cls cT = false) (h1 : ccK k1) (h2 : ccK k2)
    (hdg : decode cc pc = .ok (.checkcast index, 3)) (k : ∀ tx : String, ccT tx → vx_Note p l e R s m args below meth c H locs cells slots Q (F0 m pc ls (.ref b :: rest)) "java/lang/ClassCastException" tx) : W p l e R s m args below meth c H locs cells slots Q (F0 m pc ls (.ref b :: rest)) := by
  intro T hT X
  have hpl : e.platform.magicAccessors = ({} : Platform).magicAccessors := by rw [X.admits.platform]
  obtain ⟨c', hc', hcl⟩ := Cond.classLink_spec hC.2.2.2.1 (hC.2.2.2.2.1 _ hlink) e.platform hpl
  cases hcT.symm.trans hc'
  obtain ⟨dk, _, _, kt, hd, _, _, _, _, hkt9, _, hopen⟩ := hcl.here
  have hcl₀ := X.warmed.classLinks hcl
  have hW' : s.WarmedH (T.vm.noted m.cls index (.cls cT)) := X.warmed.noted hd hopen (State.rightAt_cls hcl)
  obtain ⟨ks', hks', es⟩ := hW'.alike.2.2 _ _ hks
  obtain ⟨kt', hkt', et⟩ := hW'.alike.2.2 _ _ hkt
  have g1 : ccK ks' := by rw [es]; exact h1
  have g2 : ccK kt' := by rw [et]; exact h2
  obtain ⟨t, st, q⟩ := k _ (ccText (vm := T.vm.noted m.cls index (.cls cT)) g1 g2) (T.setVm (T.vm.noted m.cls index (.cls cT))) hT (X.noted hW')
  refine ⟨t, ?_, q⟩
  have hdg' : decode c.code pc = .ok (.checkcast index, 3) := by rw [hC.2.1]; exact hdg
  jvm_step X.here [hC.1, hdg', Op.checkcast.wp_cold (e := e) (s := T) (f := F0 m pc ls (.ref b :: rest)) X.here.top rfl (resolveClass_links e.toSetting hcl₀) hcl₀.ready,
    Op.checkcast.wp_ready (e := e) (s := T.setVm (T.vm.noted m.cls index (.cls cT))) (f := F0 m pc ls (.ref b :: rest)) X.here.top hcl₀.ready rfl]
  refine ⟨cell, by rw [hT]; exact hcell, VmData.noStatics_of hobj, ks', hks', kt', hkt', ?_⟩
  have h1 : (T.vm.noted m.cls index (Resolved.cls cT)).assignable cell.cls cT = false := by rw [hW'.alike.assignable]; exact hasg
  simp only [h1]
  exact st
end JEXA
section JEXB
variable {p : Program} {l : Launch} {e : Env} {R : Room} {s : State} {m : MethodId} {args : Array Value} {below : List Frame} {meth : Method} {c : Code} {H : Heap} {locs : List Loc} {cells slots : Nat} {Q : State → Prop}
variable {D : va_G} {dT : Nat → ClassId} {a : Nat → Nat} {A : Nat → Prop} {X : XS} {vs0 vs : XE} {own : String} {cc : ByteArray} {nL : Nat} {ret : Option FieldType} {pc : Nat} {ls : Array Slot} {rest : List Value} {j : Nat}
theorem StX.exc {H1 : Heap} (hS : StX D dT a A s vs0 X vs H locs) (h2 : ∀ q : Nat, q < H.size → H1[q]? = H[q]?) (hS1 : va_S A s.heap H1 locs) : StX D dT a A s vs0 X vs H1 locs := ⟨hS.1.kept (fun k z hz => h2 _ (hS.1 k z hz).lt), hS.2.1, hS1, hS.2.2.2⟩
theorem jat_CCE (hC : wCx own cc nL ret D dT p s m args meth c) (hA : wAz A s) : ∀ w ∈ vx_atM "java/lang/ClassCastException" ["java/lang/RuntimeException", "java/lang/Exception"], w.before args s = true := by
  intro w hw
  have hts := hC.2.2.2.2.1
  obtain ⟨hw, hno⟩ := List.mem_filter.mp hw
  simp only [Bundle.messageArmAtoms, Bundle.throwableSAtoms, Bundle.chainSAtoms, Bundle.passSAtoms, Bundle.stringAtoms, List.mem_append, List.mem_cons, List.not_mem_nil, or_false, or_assoc] at hw
  rcases hw with hw | rfl | rfl | rfl | rfl | rfl | rfl | rfl | rfl | rfl | rfl | rfl | rfl | rfl | rfl | rfl | rfl | rfl | rfl | rfl | rfl | rfl | rfl | rfl | rfl | rfl | rfl | rfl | rfl | rfl | rfl | rfl | rfl | rfl | rfl | rfl | rfl | rfl | rfl | rfl | rfl
  · exact xThrowAtoms hts hA _ hw
  · exact hts _ q757
  · exact hts _ q758
  · exact hts _ q467
  · exact hts _ q411
  · exact hts _ q786
  · exact hts _ q787
  · exact hts _ q788
  · exact hts _ q751
  · exact va_Nw.use rfl (hC.2.2.2.2.2.2.2.2.1 _ nw_q768)
  · exact hts _ q751
  · exact hts _ q752
  · exact hts _ q753
  · exact hts _ q754
  · exact va_Nw.use rfl (hC.2.2.2.2.2.2.2.2.1 _ nw_q399)
  · exact hts _ q754
  · exact hts _ q755
  · exact hts _ q756
  · exact hts _ q757
  · exact va_Nw.use rfl (hC.2.2.2.2.2.2.2.2.1 _ nw_q401)
  · exact hts _ q99
  · exact hts _ q770
  · exact hts _ q771
  · exact hts _ q772
  · exact hts _ q774
  · exact hts _ q773
  · exact hts _ q775
  · exact hts _ q100
  · exact hts _ q785
  · exact va_Nw.use rfl (hC.2.2.2.2.2.2.2.2.1 _ nw_q796)
  · exact hts _ q797
  · exact hts _ q430
  · exact hts _ q791
  · exact hts _ q792
  · exact hts _ q794
  · exact hts _ q790
  · exact absurd hno (by decide)
  · exact absurd hno (by decide)
  · exact hts _ q414
  · exact hts _ q413
  · exact hts _ q789
theorem jgo_CCE : ∀ w ∈ vx_atM "java/lang/ClassCastException" ["java/lang/RuntimeException", "java/lang/Exception"], vx_ot w = true := List.all_eq_true.mp (by decide +kernel)
theorem jn_CCE {text : String} {nb : Nat} (hC : wCx own cc nL ret D dT p s m args meth c) (hfl : l.stackTraces = false) (hA : wAz A s) (hS : StX D dT a A s vs0 X vs H locs) (hsize : ls.size = nL) (ht1 : (text == notModelled) = false) (ht2 : (stringBytes (stringToUtf16 text)).size ≤ nb) (hnb : nb ≤ 1000) (hR : 8 ≤ R.frames ∧ 10300 ≤ R.locals) (hrest : (rest.map fun v => v.category).sum ≤ 16) (hf : cells + 3 ≤ R.cells ∧ slots + (nb + 10) ≤ R.slots)
    (kx : ∀ (q9 : Addr) (ce : Cell) (H1 : Heap), StX D dT a A s vs0 X vs H1 locs → H1[q9]? = some ce → ce.vm = .none → s.vm.findClass "java/lang/ClassCastException" = some ce.cls → vx_W p l e R s m args below meth c H1 locs (cells + 3) (slots + (nb + 10)) Q (F0 m pc ls rest) q9) : vx_Note p l e R s m args below meth c H locs cells slots Q (F0 m pc ls rest) "java/lang/ClassCastException" text :=
  vx_vm (nb := nb) (names := ["java/lang/RuntimeException", "java/lang/Exception"]) hC.1 hfl (by decide +kernel) (by decide +kernel) (by decide +kernel) (by decide +kernel) (jat_CCE hC hA) jgo_CCE hA.2.1 hA.2.2 hS.2.2.1 (hsize.trans hC.2.2.1.symm) ht1 ht2 hnb (by show _ + 4 < _; simp only [List.length_cons, List.length_nil]; omega) (by omega) (by decide) hf.1 hf.2 hC.2.2.2.2.2.2.1
    (fun H1 q9 ce h1 h2 h3 h4 h5 h6 => kx q9 ce H1 (hS.exc h2 h3) h4 h5 h6)
theorem jat_AIX (hC : wCx own cc nL ret D dT p s m args meth c) (hA : wAz A s) : ∀ w ∈ vx_atM "java/lang/ArrayIndexOutOfBoundsException" ["java/lang/IndexOutOfBoundsException", "java/lang/RuntimeException", "java/lang/Exception"], w.before args s = true := by
  intro w hw
  have hts := hC.2.2.2.2.1
  obtain ⟨hw, hno⟩ := List.mem_filter.mp hw
  simp only [Bundle.messageArmAtoms, Bundle.throwableSAtoms, Bundle.chainSAtoms, Bundle.passSAtoms, Bundle.stringAtoms, List.mem_append, List.mem_cons, List.not_mem_nil, or_false, or_assoc] at hw
  rcases hw with hw | rfl | rfl | rfl | rfl | rfl | rfl | rfl | rfl | rfl | rfl | rfl | rfl | rfl | rfl | rfl | rfl | rfl | rfl | rfl | rfl | rfl | rfl | rfl | rfl | rfl | rfl | rfl | rfl | rfl | rfl | rfl | rfl | rfl | rfl | rfl | rfl | rfl | rfl | rfl | rfl | rfl | rfl | rfl | rfl | rfl
  · exact xThrowAtoms hts hA _ hw
  · exact hts _ q757
  · exact hts _ q758
  · exact hts _ q467
  · exact hts _ q411
  · exact hts _ q800
  · exact hts _ q801
  · exact hts _ q802
  · exact hts _ q803
  · exact va_Nw.use rfl (hC.2.2.2.2.2.2.2.2.1 _ nw_q815)
  · exact hts _ q803
  · exact hts _ q804
  · exact hts _ q805
  · exact hts _ q751
  · exact va_Nw.use rfl (hC.2.2.2.2.2.2.2.2.1 _ nw_q768)
  · exact hts _ q751
  · exact hts _ q752
  · exact hts _ q753
  · exact hts _ q754
  · exact va_Nw.use rfl (hC.2.2.2.2.2.2.2.2.1 _ nw_q399)
  · exact hts _ q754
  · exact hts _ q755
  · exact hts _ q756
  · exact hts _ q757
  · exact va_Nw.use rfl (hC.2.2.2.2.2.2.2.2.1 _ nw_q401)
  · exact hts _ q99
  · exact hts _ q770
  · exact hts _ q771
  · exact hts _ q772
  · exact hts _ q774
  · exact hts _ q773
  · exact hts _ q775
  · exact hts _ q102
  · exact hts _ q799
  · exact va_Nw.use rfl (hC.2.2.2.2.2.2.2.2.1 _ nw_q813)
  · exact hts _ q816
  · exact hts _ q428
  · exact hts _ q808
  · exact hts _ q809
  · exact hts _ q811
  · exact hts _ q807
  · exact absurd hno (by decide)
  · exact absurd hno (by decide)
  · exact hts _ q414
  · exact hts _ q413
  · exact hts _ q806
theorem jgo_AIX : ∀ w ∈ vx_atM "java/lang/ArrayIndexOutOfBoundsException" ["java/lang/IndexOutOfBoundsException", "java/lang/RuntimeException", "java/lang/Exception"], vx_ot w = true := List.all_eq_true.mp (by decide +kernel)
theorem jn_AIX {text : String} {nb : Nat} (hC : wCx own cc nL ret D dT p s m args meth c) (hfl : l.stackTraces = false) (hA : wAz A s) (hS : StX D dT a A s vs0 X vs H locs) (hsize : ls.size = nL) (ht1 : (text == notModelled) = false) (ht2 : (stringBytes (stringToUtf16 text)).size ≤ nb) (hnb : nb ≤ 1000) (hR : 8 ≤ R.frames ∧ 10300 ≤ R.locals) (hrest : (rest.map fun v => v.category).sum ≤ 16) (hf : cells + 3 ≤ R.cells ∧ slots + (nb + 10) ≤ R.slots)
    (kx : ∀ (q9 : Addr) (ce : Cell) (H1 : Heap), StX D dT a A s vs0 X vs H1 locs → H1[q9]? = some ce → ce.vm = .none → s.vm.findClass "java/lang/ArrayIndexOutOfBoundsException" = some ce.cls → vx_W p l e R s m args below meth c H1 locs (cells + 3) (slots + (nb + 10)) Q (F0 m pc ls rest) q9) : vx_Note p l e R s m args below meth c H locs cells slots Q (F0 m pc ls rest) "java/lang/ArrayIndexOutOfBoundsException" text :=
  vx_vm (nb := nb) (names := ["java/lang/IndexOutOfBoundsException", "java/lang/RuntimeException", "java/lang/Exception"]) hC.1 hfl (by decide +kernel) (by decide +kernel) (by decide +kernel) (by decide +kernel) (jat_AIX hC hA) jgo_AIX hA.2.1 hA.2.2 hS.2.2.1 (hsize.trans hC.2.2.1.symm) ht1 ht2 hnb (by show _ + 4 < _; simp only [List.length_cons, List.length_nil]; omega) (by omega) (by decide) hf.1 hf.2 hC.2.2.2.2.2.2.1
    (fun H1 q9 ce h1 h2 h3 h4 h5 h6 => kx q9 ce H1 (hS.exc h2 h3) h4 h5 h6)
theorem jat_NAS (hC : wCx own cc nL ret D dT p s m args meth c) (hA : wAz A s) : ∀ w ∈ vx_atM "java/lang/NegativeArraySizeException" ["java/lang/RuntimeException", "java/lang/Exception"], w.before args s = true := by
  intro w hw
  have hts := hC.2.2.2.2.1
  obtain ⟨hw, hno⟩ := List.mem_filter.mp hw
  simp only [Bundle.messageArmAtoms, Bundle.throwableSAtoms, Bundle.chainSAtoms, Bundle.passSAtoms, Bundle.stringAtoms, List.mem_append, List.mem_cons, List.not_mem_nil, or_false, or_assoc] at hw
  rcases hw with hw | rfl | rfl | rfl | rfl | rfl | rfl | rfl | rfl | rfl | rfl | rfl | rfl | rfl | rfl | rfl | rfl | rfl | rfl | rfl | rfl | rfl | rfl | rfl | rfl | rfl | rfl | rfl | rfl | rfl | rfl | rfl | rfl | rfl | rfl | rfl | rfl | rfl | rfl | rfl | rfl
  · exact xThrowAtoms hts hA _ hw
  · exact hts _ q757
  · exact hts _ q758
  · exact hts _ q467
  · exact hts _ q411
  · exact hts _ q748
  · exact hts _ q749
  · exact hts _ q750
  · exact hts _ q751
  · exact va_Nw.use rfl (hC.2.2.2.2.2.2.2.2.1 _ nw_q768)
  · exact hts _ q751
  · exact hts _ q752
  · exact hts _ q753
  · exact hts _ q754
  · exact va_Nw.use rfl (hC.2.2.2.2.2.2.2.2.1 _ nw_q399)
  · exact hts _ q754
  · exact hts _ q755
  · exact hts _ q756
  · exact hts _ q757
  · exact va_Nw.use rfl (hC.2.2.2.2.2.2.2.2.1 _ nw_q401)
  · exact hts _ q99
  · exact hts _ q770
  · exact hts _ q771
  · exact hts _ q772
  · exact hts _ q774
  · exact hts _ q773
  · exact hts _ q775
  · exact hts _ q98
  · exact hts _ q747
  · exact va_Nw.use rfl (hC.2.2.2.2.2.2.2.2.1 _ nw_q766)
  · exact hts _ q769
  · exact hts _ q431
  · exact hts _ q761
  · exact hts _ q762
  · exact hts _ q764
  · exact hts _ q760
  · exact absurd hno (by decide)
  · exact absurd hno (by decide)
  · exact hts _ q414
  · exact hts _ q413
  · exact hts _ q759
theorem jgo_NAS : ∀ w ∈ vx_atM "java/lang/NegativeArraySizeException" ["java/lang/RuntimeException", "java/lang/Exception"], vx_ot w = true := List.all_eq_true.mp (by decide +kernel)
theorem jn_NAS {text : String} {nb : Nat} (hC : wCx own cc nL ret D dT p s m args meth c) (hfl : l.stackTraces = false) (hA : wAz A s) (hS : StX D dT a A s vs0 X vs H locs) (hsize : ls.size = nL) (ht1 : (text == notModelled) = false) (ht2 : (stringBytes (stringToUtf16 text)).size ≤ nb) (hnb : nb ≤ 1000) (hR : 8 ≤ R.frames ∧ 10300 ≤ R.locals) (hrest : (rest.map fun v => v.category).sum ≤ 16) (hf : cells + 3 ≤ R.cells ∧ slots + (nb + 10) ≤ R.slots)
    (kx : ∀ (q9 : Addr) (ce : Cell) (H1 : Heap), StX D dT a A s vs0 X vs H1 locs → H1[q9]? = some ce → ce.vm = .none → s.vm.findClass "java/lang/NegativeArraySizeException" = some ce.cls → vx_W p l e R s m args below meth c H1 locs (cells + 3) (slots + (nb + 10)) Q (F0 m pc ls rest) q9) : vx_Note p l e R s m args below meth c H locs cells slots Q (F0 m pc ls rest) "java/lang/NegativeArraySizeException" text :=
  vx_vm (nb := nb) (names := ["java/lang/RuntimeException", "java/lang/Exception"]) hC.1 hfl (by decide +kernel) (by decide +kernel) (by decide +kernel) (by decide +kernel) (jat_NAS hC hA) jgo_NAS hA.2.1 hA.2.2 hS.2.2.1 (hsize.trans hC.2.2.1.symm) ht1 ht2 hnb (by show _ + 4 < _; simp only [List.length_cons, List.length_nil]; omega) (by omega) (by decide) hf.1 hf.2 hC.2.2.2.2.2.2.1
    (fun H1 q9 ce h1 h2 h3 h4 h5 h6 => kx q9 ce H1 (hS.exc h2 h3) h4 h5 h6)
theorem jat_ASE (hC : wCx own cc nL ret D dT p s m args meth c) (hA : wAz A s) : ∀ w ∈ vx_atM "java/lang/ArrayStoreException" ["java/lang/RuntimeException", "java/lang/Exception"], w.before args s = true := by
  intro w hw
  have hts := hC.2.2.2.2.1
  obtain ⟨hw, hno⟩ := List.mem_filter.mp hw
  simp only [Bundle.messageArmAtoms, Bundle.throwableSAtoms, Bundle.chainSAtoms, Bundle.passSAtoms, Bundle.stringAtoms, List.mem_append, List.mem_cons, List.not_mem_nil, or_false, or_assoc] at hw
  rcases hw with hw | rfl | rfl | rfl | rfl | rfl | rfl | rfl | rfl | rfl | rfl | rfl | rfl | rfl | rfl | rfl | rfl | rfl | rfl | rfl | rfl | rfl | rfl | rfl | rfl | rfl | rfl | rfl | rfl | rfl | rfl | rfl | rfl | rfl | rfl | rfl | rfl | rfl | rfl | rfl | rfl
  · exact xThrowAtoms hts hA _ hw
  · exact hts _ q757
  · exact hts _ q758
  · exact hts _ q467
  · exact hts _ q411
  · exact hts _ q876
  · exact hts _ q877
  · exact hts _ q878
  · exact hts _ q751
  · exact va_Nw.use rfl (hC.2.2.2.2.2.2.2.2.1 _ nw_q768)
  · exact hts _ q751
  · exact hts _ q752
  · exact hts _ q753
  · exact hts _ q754
  · exact va_Nw.use rfl (hC.2.2.2.2.2.2.2.2.1 _ nw_q399)
  · exact hts _ q754
  · exact hts _ q755
  · exact hts _ q756
  · exact hts _ q757
  · exact va_Nw.use rfl (hC.2.2.2.2.2.2.2.2.1 _ nw_q401)
  · exact hts _ q99
  · exact hts _ q770
  · exact hts _ q771
  · exact hts _ q772
  · exact hts _ q774
  · exact hts _ q773
  · exact hts _ q775
  · exact hts _ q105
  · exact hts _ q875
  · exact va_Nw.use rfl (hC.2.2.2.2.2.2.2.2.1 _ nw_q886)
  · exact hts _ q887
  · exact hts _ q429
  · exact hts _ q881
  · exact hts _ q882
  · exact hts _ q884
  · exact hts _ q880
  · exact absurd hno (by decide)
  · exact absurd hno (by decide)
  · exact hts _ q414
  · exact hts _ q413
  · exact hts _ q879
theorem jgo_ASE : ∀ w ∈ vx_atM "java/lang/ArrayStoreException" ["java/lang/RuntimeException", "java/lang/Exception"], vx_ot w = true := List.all_eq_true.mp (by decide +kernel)
theorem jn_ASE {text : String} {nb : Nat} (hC : wCx own cc nL ret D dT p s m args meth c) (hfl : l.stackTraces = false) (hA : wAz A s) (hS : StX D dT a A s vs0 X vs H locs) (hsize : ls.size = nL) (ht1 : (text == notModelled) = false) (ht2 : (stringBytes (stringToUtf16 text)).size ≤ nb) (hnb : nb ≤ 1000) (hR : 8 ≤ R.frames ∧ 10300 ≤ R.locals) (hrest : (rest.map fun v => v.category).sum ≤ 16) (hf : cells + 3 ≤ R.cells ∧ slots + (nb + 10) ≤ R.slots)
    (kx : ∀ (q9 : Addr) (ce : Cell) (H1 : Heap), StX D dT a A s vs0 X vs H1 locs → H1[q9]? = some ce → ce.vm = .none → s.vm.findClass "java/lang/ArrayStoreException" = some ce.cls → vx_W p l e R s m args below meth c H1 locs (cells + 3) (slots + (nb + 10)) Q (F0 m pc ls rest) q9) : vx_Note p l e R s m args below meth c H locs cells slots Q (F0 m pc ls rest) "java/lang/ArrayStoreException" text :=
  vx_vm (nb := nb) (names := ["java/lang/RuntimeException", "java/lang/Exception"]) hC.1 hfl (by decide +kernel) (by decide +kernel) (by decide +kernel) (by decide +kernel) (jat_ASE hC hA) jgo_ASE hA.2.1 hA.2.2 hS.2.2.1 (hsize.trans hC.2.2.1.symm) ht1 ht2 hnb (by show _ + 4 < _; simp only [List.length_cons, List.length_nil]; omega) (by omega) (by decide) hf.1 hf.2 hC.2.2.2.2.2.2.1
    (fun H1 q9 ce h1 h2 h3 h4 h5 h6 => kx q9 ce H1 (hS.exc h2 h3) h4 h5 h6)
end JEXB
