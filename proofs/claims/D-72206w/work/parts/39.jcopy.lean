/-! System.arraycopy between two sheets' rows -/
def cpOK (sp dp n : Int32) (n0 n1 : Nat) : Prop := ¬ sp < 0 ∧ ¬ dp < 0 ∧ ¬ n < 0 ∧ sp.toNatClampNeg + n.toNatClampNeg ≤ n0 ∧ dp.toNatClampNeg + n.toNatClampNeg ≤ n1
def cpyC (X : XS) (t : Nat) (sp dp n : Int32) (pn : XS → Prop) (pT pB : Prop) (q : Nat) : SCon → SCon → Prop
  | .inl x, .inl y => (x.1 ≤ 40 ∧ y.1 ≤ 40) ∧ (cpOK sp dp n x.1 y.1 → pn (sX_sr X (upO (X_sr X) t (some (q, .inl (y.1, va_cpy x.2 y.2 sp.toNatClampNeg dp.toNatClampNeg n.toNatClampNeg)))))) ∧ (¬ cpOK sp dp n x.1 y.1 → pB)
  | .inr x, .inr y => (x.1 ≤ 40 ∧ y.1 ≤ 40) ∧ (cpOK sp dp n x.1 y.1 → pn (sX_sr X (upO (X_sr X) t (some (q, .inr (y.1, va_cpy x.2 y.2 sp.toNatClampNeg dp.toNatClampNeg n.toNatClampNeg)))))) ∧ (¬ cpOK sp dp n x.1 y.1 → pB)
  | .inl _, .inr _ => pT
  | .inr _, .inl _ => pT
def cpyW (X : XS) (s t : Nat) (sp dp n : Int32) (pn : XS → Prop) (pN pT pB : Prop) : Prop := match X_sr X s, X_sr X t with
  | some r, some q => cpyC X t sp dp n pn pT pB q.1 r.2 q.2
  | _, _ => pN
section JCP
variable {p : Program} {l : Launch} {e : Env} {R : Room} {s : State} {m : MethodId} {args : Array Value} {below : List Frame} {meth : Method} {c : Code} {H : Heap} {locs : List Loc} {cells slots : Nat} {Q : State → Prop}
variable {D : va_G} {dT : Nat → ClassId} {a : Nat → Nat} {A : Nat → Prop} {X : XS} {vs0 vs : XE} {cc : ByteArray} {nL : Nat} {ret : Option FieldType} {pc : Nat} {ls : Array Slot} {rest : List Value}
abbrev rfO (o : Option SRow) : Value := va_rf (o.map fun r => r.1)
theorem jcpN {j1 j2 : Nat} {sp dp n : Int32} (hC : wCx RX0 cc nL ret D dT p s m args meth c) (hA : wAz A s) (hS : StX D dT a A s vs0 X vs H locs) (h1 : j1 < 4) (h2 : j2 < 4) (h0 : X_sr X j1 = none ∨ X_sr X j2 = none) (hfl : l.stackTraces = false) (hsize : ls.size = nL) (hR : 9 ≤ R.frames ∧ 10300 ≤ R.locals) (hrest : (rest.map fun v => v.category).sum ≤ 8) (hf : cells + 3 ≤ R.cells ∧ slots + 1010 ≤ R.slots) (hdg : decode cc pc = .ok (.invokestatic 340, 3)) (kx : ∀ (q9 : Addr) (ce9 : Cell) (H1 : Heap), StX D dT a A s vs0 X vs H1 locs → H1[q9]? = some ce9 → ce9.vm = .none → s.vm.findClass "java/lang/NullPointerException" = some ce9.cls → vx_W p l e R s m args below meth c H1 locs (cells + 3) (slots + 1010) Q (F0 m pc ls rest) q9) : W p l e R s m args below meth c H locs cells slots Q (F0 m pc ls (.int n :: .int dp :: rfO (X_sr X j2) :: .int sp :: rfO (X_sr X j1) :: rest)) := sorry
theorem jcpT {j1 j2 : Nat} {sp dp n : Int32} {r q : SRow} (hC : wCx RX0 cc nL ret D dT p s m args meth c) (hA : wAz A s) (hS : StX D dT a A s vs0 X vs H locs) (h1 : j1 < 4) (h2 : j2 < 4) (hr : X_sr X j1 = some r) (hq : X_sr X j2 = some q) (h0 : (∃ x y, r.2 = .inl x ∧ q.2 = .inr y) ∨ ∃ x y, r.2 = .inr x ∧ q.2 = .inl y) (hfl : l.stackTraces = false) (hsize : ls.size = nL) (hR : 9 ≤ R.frames ∧ 10300 ≤ R.locals) (hrest : (rest.map fun v => v.category).sum ≤ 8) (hf : cells + 3 ≤ R.cells ∧ slots + 1010 ≤ R.slots) (hdg : decode cc pc = .ok (.invokestatic 340, 3)) (kx : ∀ (q9 : Addr) (ce9 : Cell) (H1 : Heap), StX D dT a A s vs0 X vs H1 locs → H1[q9]? = some ce9 → ce9.vm = .none → s.vm.findClass "java/lang/ArrayStoreException" = some ce9.cls → vx_W p l e R s m args below meth c H1 locs (cells + 3) (slots + 1010) Q (F0 m pc ls rest) q9) : W p l e R s m args below meth c H locs cells slots Q (F0 m pc ls (.int n :: .int dp :: .ref q.1 :: .int sp :: .ref r.1 :: rest)) := sorry
theorem jcpB {j1 j2 : Nat} {sp dp n : Int32} {r q : SRow} (hC : wCx RX0 cc nL ret D dT p s m args meth c) (hA : wAz A s) (hS : StX D dT a A s vs0 X vs H locs) (h1 : j1 < 4) (h2 : j2 < 4) (hr : X_sr X j1 = some r) (hq : X_sr X j2 = some q) (h0 : (∃ x y, r.2 = .inl x ∧ q.2 = .inl y ∧ (x.1 ≤ 40 ∧ y.1 ≤ 40) ∧ ¬ cpOK sp dp n x.1 y.1) ∨ ∃ x y, r.2 = .inr x ∧ q.2 = .inr y ∧ (x.1 ≤ 40 ∧ y.1 ≤ 40) ∧ ¬ cpOK sp dp n x.1 y.1) (hfl : l.stackTraces = false) (hsize : ls.size = nL) (hR : 9 ≤ R.frames ∧ 10300 ≤ R.locals) (hrest : (rest.map fun v => v.category).sum ≤ 8) (hf : cells + 3 ≤ R.cells ∧ slots + 1010 ≤ R.slots) (hdg : decode cc pc = .ok (.invokestatic 340, 3)) (kx : ∀ (q9 : Addr) (ce9 : Cell) (H1 : Heap), StX D dT a A s vs0 X vs H1 locs → H1[q9]? = some ce9 → ce9.vm = .none → s.vm.findClass "java/lang/ArrayIndexOutOfBoundsException" = some ce9.cls → vx_W p l e R s m args below meth c H1 locs (cells + 3) (slots + 1010) Q (F0 m pc ls rest) q9) : W p l e R s m args below meth c H locs cells slots Q (F0 m pc ls (.int n :: .int dp :: .ref q.1 :: .int sp :: .ref r.1 :: rest)) := sorry
theorem jcp {j1 j2 : Nat} {sp dp n : Int32} {pn : XS → Prop} {pN pT pB : Prop} (hC : wCx RX0 cc nL ret D dT p s m args meth c) (hA : wAz A s) (hS : StX D dT a A s vs0 X vs H locs) (h1 : j1 < 4) (h2 : j2 < 4) (hw : cpyW X j1 j2 sp dp n pn pN pT pB) (hfl : l.stackTraces = false) (hsize : ls.size = nL) (hR : 9 ≤ R.frames ∧ 10300 ≤ R.locals) (hrest : (rest.map fun v => v.category).sum ≤ 8) (hf : cells + 3 ≤ R.cells ∧ slots + 1010 ≤ R.slots) (hdg : decode cc pc = .ok (.invokestatic 340, 3))
    (kn : ∀ (X1 : XS) (H1 : Heap) (locs1 : List Loc), pn X1 → StX D dT a A s vs0 X1 vs H1 locs1 → W p l e R s m args below meth c H1 locs1 cells slots Q (F0 m (pc + 3) ls rest))
    (kN : ∀ (q9 : Addr) (ce9 : Cell) (H1 : Heap), pN → StX D dT a A s vs0 X vs H1 locs → H1[q9]? = some ce9 → ce9.vm = .none → s.vm.findClass "java/lang/NullPointerException" = some ce9.cls → vx_W p l e R s m args below meth c H1 locs (cells + 3) (slots + 1010) Q (F0 m pc ls rest) q9)
    (kT : ∀ (q9 : Addr) (ce9 : Cell) (H1 : Heap), pT → StX D dT a A s vs0 X vs H1 locs → H1[q9]? = some ce9 → ce9.vm = .none → s.vm.findClass "java/lang/ArrayStoreException" = some ce9.cls → vx_W p l e R s m args below meth c H1 locs (cells + 3) (slots + 1010) Q (F0 m pc ls rest) q9)
    (kB : ∀ (q9 : Addr) (ce9 : Cell) (H1 : Heap), pB → StX D dT a A s vs0 X vs H1 locs → H1[q9]? = some ce9 → ce9.vm = .none → s.vm.findClass "java/lang/ArrayIndexOutOfBoundsException" = some ce9.cls → vx_W p l e R s m args below meth c H1 locs (cells + 3) (slots + 1010) Q (F0 m pc ls rest) q9) :
    W p l e R s m args below meth c H locs cells slots Q (F0 m pc ls (.int n :: .int dp :: rfO (X_sr X j2) :: .int sp :: rfO (X_sr X j1) :: rest)) := by
  have good : ∀ {r q : SRow}, X_sr X j1 = some r → X_sr X j2 = some q → (∀ x y, r.2 = .inl x → q.2 = .inl y → cpOK sp dp n x.1 y.1 → pn (sX_sr X (upO (X_sr X) j2 (some (q.1, .inl (y.1, va_cpy x.2 y.2 sp.toNatClampNeg dp.toNatClampNeg n.toNatClampNeg))))) → W p l e R s m args below meth c H locs cells slots Q (F0 m pc ls (.int n :: .int dp :: .ref q.1 :: .int sp :: .ref r.1 :: rest))) ∧
      (∀ x y, r.2 = .inr x → q.2 = .inr y → cpOK sp dp n x.1 y.1 → pn (sX_sr X (upO (X_sr X) j2 (some (q.1, .inr (y.1, va_cpy x.2 y.2 sp.toNatClampNeg dp.toNatClampNeg n.toNatClampNeg))))) → W p l e R s m args below meth c H locs cells slots Q (F0 m pc ls (.int n :: .int dp :: .ref q.1 :: .int sp :: .ref r.1 :: rest))) := by
    intro r q hr hq
    obtain ⟨k9, a9, -⟩ := XW_sr (dT := dT) (a := a) (vs := vs) h1 hr
    obtain ⟨k8, a8, b8⟩ := XW_sr (dT := dT) (a := a) (vs := vs) h2 hq
    refine ⟨fun x y ex ey ok hp => ?_, fun x y ex ey ok hp => ?_⟩
    · rw [ex] at a9
      rw [ey] at a8
      obtain ⟨o1, o2, o3, o4, o5⟩ := ok
      refine va_copyi hC.1 hC.2.1 (hC.2.2.1.trans hsize.symm) hC.2.2.2.1 (hC.2.2.2.2.1 _ q889) (hC.2.2.2.2.1 _ q891) (hC.2.2.2.2.1 _ q890) (hC.2.2.2.2.1 _ q106) hC.2.2.2.2.2.2.2.1 hS.1 hS.2.1 hS.2.2.1 k9 k8 0 0 a9 a8 rfl rfl rfl o1 o2 o3 o4 o5 (fun i _ => rfl) (by omega) (by have : nativeFrameWords "java/lang/System" "arraycopy" 5 + 11 ≤ 100 := (by decide +kernel); omega) hdg (fun H1 locs1 hP hD hS1 => kn _ H1 locs1 hp ?_)
      have e9 := b8 (.inl (y.1, va_cpy x.2 y.2 sp.toNatClampNeg dp.toNatClampNeg n.toNatClampNeg))
      have hP : va_P D clL ((XW dT a (X, vs)).set k8 (q.1, rE dT (.inl (y.1, va_cpy x.2 y.2 sp.toNatClampNeg dp.toNatClampNeg n.toNatClampNeg)))) H1 := hP
      have hD : va_D A ((XW dT a (X, vs)).set k8 (q.1, rE dT (.inl (y.1, va_cpy x.2 y.2 sp.toNatClampNeg dp.toNatClampNeg n.toNatClampNeg)))) := hD
      rw [e9] at hP hD
      exact ⟨hP, hD, hS1, hS.2.2.2⟩
    · rw [ex] at a9
      rw [ey] at a8
      obtain ⟨o1, o2, o3, o4, o5⟩ := ok
      refine va_copyl hC.1 hC.2.1 (hC.2.2.1.trans hsize.symm) hC.2.2.2.1 (hC.2.2.2.2.1 _ q889) (hC.2.2.2.2.1 _ q891) (hC.2.2.2.2.1 _ q890) (hC.2.2.2.2.1 _ q106) hC.2.2.2.2.2.2.2.1 hS.1 hS.2.1 hS.2.2.1 k9 k8 1 1 a9 a8 rfl rfl rfl o1 o2 o3 o4 o5 (fun i _ => rfl) (by omega) (by have : nativeFrameWords "java/lang/System" "arraycopy" 5 + 11 ≤ 100 := (by decide +kernel); omega) hdg (fun H1 locs1 hP hD hS1 => kn _ H1 locs1 hp ?_)
      have e9 := b8 (.inr (y.1, va_cpy x.2 y.2 sp.toNatClampNeg dp.toNatClampNeg n.toNatClampNeg))
      have hP : va_P D clL ((XW dT a (X, vs)).set k8 (q.1, rE dT (.inr (y.1, va_cpy x.2 y.2 sp.toNatClampNeg dp.toNatClampNeg n.toNatClampNeg)))) H1 := hP
      have hD : va_D A ((XW dT a (X, vs)).set k8 (q.1, rE dT (.inr (y.1, va_cpy x.2 y.2 sp.toNatClampNeg dp.toNatClampNeg n.toNatClampNeg)))) := hD
      rw [e9] at hP hD
      exact ⟨hP, hD, hS1, hS.2.2.2⟩
  unfold cpyW at hw
  cases hr : X_sr X j1 with
  | none =>
    rw [hr] at hw
    have h9 := jcpN (n := n) (dp := dp) (sp := sp) hC hA hS h1 h2 (Or.inl hr) hfl hsize hR hrest hf hdg (fun q9 ce9 H1 => kN q9 ce9 H1 hw)
    rw [hr] at h9
    exact h9
  | some r =>
    cases hq : X_sr X j2 with
    | none =>
      rw [hr, hq] at hw
      have h9 := jcpN (n := n) (dp := dp) (sp := sp) hC hA hS h1 h2 (Or.inr hq) hfl hsize hR hrest hf hdg (fun q9 ce9 H1 => kN q9 ce9 H1 hw)
      rw [hr, hq] at h9
      exact h9
    | some q =>
      rw [hr, hq] at hw
      obtain ⟨rq, rc⟩ := r
      obtain ⟨qq, qc⟩ := q
      cases rc with
      | inl x =>
        cases qc with
        | inl y =>
          obtain ⟨hb, hw1, hw2⟩ := hw
          by_cases ok : cpOK sp dp n x.1 y.1
          · exact (good hr hq).1 x y rfl rfl ok (hw1 ok)
          · exact jcpB hC hA hS h1 h2 hr hq (Or.inl ⟨x, y, rfl, rfl, hb, ok⟩) hfl hsize hR hrest hf hdg (fun q9 ce9 H1 => kB q9 ce9 H1 (hw2 ok))
        | inr y => exact jcpT hC hA hS h1 h2 hr hq (Or.inl ⟨x, y, rfl, rfl⟩) hfl hsize hR hrest hf hdg (fun q9 ce9 H1 => kT q9 ce9 H1 hw)
      | inr x =>
        cases qc with
        | inl y => exact jcpT hC hA hS h1 h2 hr hq (Or.inr ⟨x, y, rfl, rfl⟩) hfl hsize hR hrest hf hdg (fun q9 ce9 H1 => kT q9 ce9 H1 hw)
        | inr y =>
          obtain ⟨hb, hw1, hw2⟩ := hw
          by_cases ok : cpOK sp dp n x.1 y.1
          · exact (good hr hq).2 x y rfl rfl ok (hw1 ok)
          · exact jcpB hC hA hS h1 h2 hr hq (Or.inr ⟨x, y, rfl, rfl, hb, ok⟩) hfl hsize hR hrest hf hdg (fun q9 ce9 H1 => kB q9 ce9 H1 (hw2 ok))
end JCP
