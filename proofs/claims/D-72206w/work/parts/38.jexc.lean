/-! EXCEPTIONS OF THE MACHINE'S OWN in the component: casts, indices, sizes, overflow, copies -/
def ccT (t : String) : Prop := (t == notModelled) = false ∧ (stringBytes (stringToUtf16 t)).size ≤ 400
def ccK (k : Class) : Prop := (k.name = "[I" ∨ k.name = "[J") ∧ k.hidden = none ∧ k.loader = none ∧ ∃ a b, k.kind = .array a b
theorem ccK.prim {k : Class} (h : ccK k) : k.ofPrimitives = true := by
  obtain ⟨h1, -, -, a, b, h4⟩ := h
  unfold Class.ofPrimitives
  rw [h4]
  rcases h1 with h1 | h1 <;> rw [h1]
  · exact (by decide +kernel : ((withoutBrackets "[I").length == 1) = true)
  · exact (by decide +kernel : ((withoutBrackets "[J").length == 1) = true)
theorem ccText {vm : Vm} {k1 k2 : Class} (h1 : ccK k1) (h2 : ccK k2) : ccT (Op.checkcast.message vm k1 k2) := by
  have p1 := h1.prim
  have p2 := h2.prim
  obtain ⟨n1, d1, l1, -⟩ := h1
  obtain ⟨n2, d2, l2, -⟩ := h2
  have m1 : vm.moduleOf k1 = vm.modules.find? (·.name == "java.base") := by unfold Vm.moduleOf; rw [if_pos p1]
  have m2 : vm.moduleOf k2 = vm.modules.find? (·.name == "java.base") := by unfold Vm.moduleOf; rw [if_pos p2]
  have hs : vm.sameModule k1 k2 = true := by
    unfold Vm.sameModule
    rw [m1, m2]
    cases vm.modules.find? (·.name == "java.base") with
    | none => simp [l1, l2]
    | some x => simp
  have hh : vm.home k1 = "module java.base of loader 'bootstrap'" ∨ vm.home k1 = "unnamed module of loader 'bootstrap'" := by
    unfold Vm.home
    rw [m1, l1]
    cases hf : vm.modules.find? (·.name == "java.base") with
    | none => right; rfl
    | some x =>
      left
      have : x.name = "java.base" := by
        have := List.find?_some hf
        simpa using this
      simp only [this]
      rfl
  have s1 : k1.shown = dotted k1.name := by unfold Class.shown; rw [d1]
  have s2 : k2.shown = dotted k2.name := by unfold Class.shown; rw [d2]
  unfold ccT Op.checkcast.message Vm.homes
  rw [if_pos hs, s1, s2]
  rcases n1 with n1 | n1 <;> rcases n2 with n2 | n2 <;> rcases hh with hh | hh <;> rw [n1, n2, hh] <;> decide +kernel
section JEXA
variable {p : Program} {l : Launch} {e : Env} {R : Room} {s : State} {m : MethodId} {args : Array Value} {below : List Frame} {meth : Method} {c : Code} {H : Heap} {locs : List Loc} {cells slots : Nat} {Q : State → Prop}
variable {D : va_G} {dT : Nat → ClassId} {a : Nat → Nat} {A : Nat → Prop} {X : XS} {vs0 vs : XE} {own : String} {cc : ByteArray} {nL : Nat} {ret : Option FieldType} {pc : Nat} {ls : Array Slot} {rest : List Value} {j : Nat}
theorem ccK_of {k : Class} {nm : String} {c0 : ClassId} (hnm : nm = "[I" ∨ nm = "[J") (hf : s.vm.findClass nm = some c0) (hk : s.vm.classes[c0]? = some k) (ha : ∃ a b, k.kind = .array a b) : ccK k := by
  have hl := Vm.findClass_boot hf hk
  obtain ⟨hlt, hp, -⟩ := Array.findIdx?_eq_some_iff_getElem.mp hf
  have hk2 : s.vm.classes[c0] = k := by simpa [hlt] using hk
  rw [hk2] at hp
  simp only [Bool.and_eq_true, Option.isNone_iff_eq_none, beq_iff_eq] at hp
  exact ⟨by rw [hp.1.1.1]; exact hnm, hp.1.1.2, hl, ha⟩
theorem jCastNo {nm : String} {index : Nat} {b : Addr} {cell : Cell} {cT : ClassId} {k1 k2 : Class} (hC : wCx own cc nL ret D dT p s m args meth c) (hlink : Cond.classLink own index nm ∈ lw_all) (hcell : H[b]? = some cell) (hobj : cell.vm.isStatics = false) (hks : s.vm.classes[cell.cls]? = some k1) (hkt : s.vm.classes[cT]? = some k2) (hcT : s.vm.findClass nm = some cT) (hasg : s.vm.assignable cell.cls cT = false) (h1 : ccK k1) (h2 : ccK k2)
    (hdg : decode cc pc = .ok (.checkcast index, 3)) (k : ∀ tx : String, ccT tx → vx_Note p l e R s m args below meth c H locs cells slots Q (F0 m pc ls (.ref b :: rest)) "java/lang/ClassCastException" tx) : W p l e R s m args below meth c H locs cells slots Q (F0 m pc ls (.ref b :: rest)) := by
  intro T hT X
  have hpl : e.platform.magicAccessors = ({} : Platform).magicAccessors := by rw [X.admits.platform]
  obtain ⟨c', hc', hcl⟩ := Cond.classLink_spec hC.2.2.2.1 (hC.2.2.2.2.1 _ hlink) e.platform hpl
  cases hcT.symm.trans hc'
  obtain ⟨dk, _, _, kt, hd, _, _, _, _, hkt9, _, hopen⟩ := hcl.here
  have hcl₀ := X.warmed.classLinks hcl
  have hW' : s.WarmedH (T.vm.noted m.cls index (.cls cT)) := X.warmed.noted hd hopen (State.rightAt_cls hcl)
  obtain ⟨ks', hks', es⟩ := hW'.alike.2.2 _ _ hks
  obtain ⟨kt', hkt', et⟩ := hW'.alike.2.2 _ _ hkt
  have g1 : ccK ks' := by rw [es]; exact h1
  have g2 : ccK kt' := by rw [et]; exact h2
  obtain ⟨t, st, q⟩ := k _ (ccText (vm := T.vm.noted m.cls index (.cls cT)) g1 g2) (T.setVm (T.vm.noted m.cls index (.cls cT))) hT (X.noted hW')
  refine ⟨t, ?_, q⟩
  have hdg' : decode c.code pc = .ok (.checkcast index, 3) := by rw [hC.2.1]; exact hdg
  jvm_step X.here [hC.1, hdg', Op.checkcast.wp_cold (e := e) (s := T) (f := F0 m pc ls (.ref b :: rest)) X.here.top rfl (resolveClass_links e.toSetting hcl₀) hcl₀.ready,
    Op.checkcast.wp_ready (e := e) (s := T.setVm (T.vm.noted m.cls index (.cls cT))) (f := F0 m pc ls (.ref b :: rest)) X.here.top hcl₀.ready rfl]
  refine ⟨cell, by rw [hT]; exact hcell, VmData.noStatics_of hobj, ks', hks', kt', hkt', ?_⟩
  have h1 : (T.vm.noted m.cls index (Resolved.cls cT)).assignable cell.cls cT = false := by rw [hW'.alike.assignable]; exact hasg
  simp only [h1]
  exact st
end JEXA
