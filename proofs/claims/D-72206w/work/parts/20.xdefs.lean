/-! THE COMPONENT's STATE and its cells -/
abbrev Vol : Type := Nat × Int64 × Int64
abbrev XE : Type := List (Nat × va_E)
abbrev SCon : Type := (Nat × (Nat → Int32)) ⊕ (Nat × (Nat → Int64))
abbrev SRow : Type := Nat × SCon
abbrev XS : Type := Int32 × Int32 × Int32 × Int32 × Int32 × Int32 × Int32 × Int64 × (Option Vol) × (Nat → Int32) × (Nat → Int32) × (Nat → Int32) × (Nat → Nat → Int32) × (Nat → Nat → Int32) × Int32 × Int64 × (Nat → Nat → Int64) × (Nat → Int32) × (Nat → Int32) × (Nat → Int32) × (Nat → Int64) × (Nat → Option SRow)
def X_latest (X : XS) : Int32 := X.1
def sX_latest (X : XS) (v : Int32) : XS := (v, X.2)
def X_many (X : XS) : Int32 := X.2.1
def sX_many (X : XS) (v : Int32) : XS := (X.1, v, X.2.2)
def X_bars (X : XS) : Int32 := X.2.2.1
def sX_bars (X : XS) (v : Int32) : XS := (X.1, X.2.1, v, X.2.2.2)
def X_fault (X : XS) : Int32 := X.2.2.2.1
def sX_fault (X : XS) (v : Int32) : XS := (X.1, X.2.1, X.2.2.1, v, X.2.2.2.2)
def X_frame (X : XS) : Int32 := X.2.2.2.2.1
def sX_frame (X : XS) (v : Int32) : XS := (X.1, X.2.1, X.2.2.1, X.2.2.2.1, v, X.2.2.2.2.2)
def X_first (X : XS) : Int32 := X.2.2.2.2.2.1
def sX_first (X : XS) (v : Int32) : XS := (X.1, X.2.1, X.2.2.1, X.2.2.2.1, X.2.2.2.2.1, v, X.2.2.2.2.2.2)
def X_second (X : XS) : Int32 := X.2.2.2.2.2.2.1
def sX_second (X : XS) (v : Int32) : XS := (X.1, X.2.1, X.2.2.1, X.2.2.2.1, X.2.2.2.2.1, X.2.2.2.2.2.1, v, X.2.2.2.2.2.2.2)
def X_pullsBelow (X : XS) : Int64 := X.2.2.2.2.2.2.2.1
def sX_pullsBelow (X : XS) (v : Int64) : XS := (X.1, X.2.1, X.2.2.1, X.2.2.2.1, X.2.2.2.2.1, X.2.2.2.2.2.1, X.2.2.2.2.2.2.1, v, X.2.2.2.2.2.2.2.2)
def X_least (X : XS) : Option Vol := X.2.2.2.2.2.2.2.2.1
def sX_least (X : XS) (v : Option Vol) : XS := (X.1, X.2.1, X.2.2.1, X.2.2.2.1, X.2.2.2.2.1, X.2.2.2.2.2.1, X.2.2.2.2.2.2.1, X.2.2.2.2.2.2.2.1, v, X.2.2.2.2.2.2.2.2.2)
def X_px (X : XS) : Nat → Int32 := X.2.2.2.2.2.2.2.2.2.1
def sX_px (X : XS) (v : Nat → Int32) : XS := (X.1, X.2.1, X.2.2.1, X.2.2.2.1, X.2.2.2.2.1, X.2.2.2.2.2.1, X.2.2.2.2.2.2.1, X.2.2.2.2.2.2.2.1, X.2.2.2.2.2.2.2.2.1, v, X.2.2.2.2.2.2.2.2.2.2)
def X_py (X : XS) : Nat → Int32 := X.2.2.2.2.2.2.2.2.2.2.1
def sX_py (X : XS) (v : Nat → Int32) : XS := (X.1, X.2.1, X.2.2.1, X.2.2.2.1, X.2.2.2.2.1, X.2.2.2.2.2.1, X.2.2.2.2.2.2.1, X.2.2.2.2.2.2.2.1, X.2.2.2.2.2.2.2.2.1, X.2.2.2.2.2.2.2.2.2.1, v, X.2.2.2.2.2.2.2.2.2.2.2)
def X_ph (X : XS) : Nat → Int32 := X.2.2.2.2.2.2.2.2.2.2.2.1
def sX_ph (X : XS) (v : Nat → Int32) : XS := (X.1, X.2.1, X.2.2.1, X.2.2.2.1, X.2.2.2.2.1, X.2.2.2.2.2.1, X.2.2.2.2.2.2.1, X.2.2.2.2.2.2.2.1, X.2.2.2.2.2.2.2.2.1, X.2.2.2.2.2.2.2.2.2.1, X.2.2.2.2.2.2.2.2.2.2.1, v, X.2.2.2.2.2.2.2.2.2.2.2.2)
def X_pl (X : XS) : Nat → Nat → Int32 := X.2.2.2.2.2.2.2.2.2.2.2.2.1
def sX_pl (X : XS) (v : Nat → Nat → Int32) : XS := (X.1, X.2.1, X.2.2.1, X.2.2.2.1, X.2.2.2.2.1, X.2.2.2.2.2.1, X.2.2.2.2.2.2.1, X.2.2.2.2.2.2.2.1, X.2.2.2.2.2.2.2.2.1, X.2.2.2.2.2.2.2.2.2.1, X.2.2.2.2.2.2.2.2.2.2.1, X.2.2.2.2.2.2.2.2.2.2.2.1, v, X.2.2.2.2.2.2.2.2.2.2.2.2.2)
def X_ps (X : XS) : Nat → Nat → Int32 := X.2.2.2.2.2.2.2.2.2.2.2.2.2.1
def sX_ps (X : XS) (v : Nat → Nat → Int32) : XS := (X.1, X.2.1, X.2.2.1, X.2.2.2.1, X.2.2.2.2.1, X.2.2.2.2.2.1, X.2.2.2.2.2.2.1, X.2.2.2.2.2.2.2.1, X.2.2.2.2.2.2.2.2.1, X.2.2.2.2.2.2.2.2.2.1, X.2.2.2.2.2.2.2.2.2.2.1, X.2.2.2.2.2.2.2.2.2.2.2.1, X.2.2.2.2.2.2.2.2.2.2.2.2.1, v, X.2.2.2.2.2.2.2.2.2.2.2.2.2.2)
def X_high (X : XS) : Int32 := X.2.2.2.2.2.2.2.2.2.2.2.2.2.2.1
def sX_high (X : XS) (v : Int32) : XS := (X.1, X.2.1, X.2.2.1, X.2.2.2.1, X.2.2.2.2.1, X.2.2.2.2.2.1, X.2.2.2.2.2.2.1, X.2.2.2.2.2.2.2.1, X.2.2.2.2.2.2.2.2.1, X.2.2.2.2.2.2.2.2.2.1, X.2.2.2.2.2.2.2.2.2.2.1, X.2.2.2.2.2.2.2.2.2.2.2.1, X.2.2.2.2.2.2.2.2.2.2.2.2.1, X.2.2.2.2.2.2.2.2.2.2.2.2.2.1, v, X.2.2.2.2.2.2.2.2.2.2.2.2.2.2.2)
def X_below (X : XS) : Int64 := X.2.2.2.2.2.2.2.2.2.2.2.2.2.2.2.1
def sX_below (X : XS) (v : Int64) : XS := (X.1, X.2.1, X.2.2.1, X.2.2.2.1, X.2.2.2.2.1, X.2.2.2.2.2.1, X.2.2.2.2.2.2.1, X.2.2.2.2.2.2.2.1, X.2.2.2.2.2.2.2.2.1, X.2.2.2.2.2.2.2.2.2.1, X.2.2.2.2.2.2.2.2.2.2.1, X.2.2.2.2.2.2.2.2.2.2.2.1, X.2.2.2.2.2.2.2.2.2.2.2.2.1, X.2.2.2.2.2.2.2.2.2.2.2.2.2.1, X.2.2.2.2.2.2.2.2.2.2.2.2.2.2.1, v, X.2.2.2.2.2.2.2.2.2.2.2.2.2.2.2.2)
def X_rows (X : XS) : Nat → Nat → Int64 := X.2.2.2.2.2.2.2.2.2.2.2.2.2.2.2.2.1
def sX_rows (X : XS) (v : Nat → Nat → Int64) : XS := (X.1, X.2.1, X.2.2.1, X.2.2.2.1, X.2.2.2.2.1, X.2.2.2.2.2.1, X.2.2.2.2.2.2.1, X.2.2.2.2.2.2.2.1, X.2.2.2.2.2.2.2.2.1, X.2.2.2.2.2.2.2.2.2.1, X.2.2.2.2.2.2.2.2.2.2.1, X.2.2.2.2.2.2.2.2.2.2.2.1, X.2.2.2.2.2.2.2.2.2.2.2.2.1, X.2.2.2.2.2.2.2.2.2.2.2.2.2.1, X.2.2.2.2.2.2.2.2.2.2.2.2.2.2.1, X.2.2.2.2.2.2.2.2.2.2.2.2.2.2.2.1, v, X.2.2.2.2.2.2.2.2.2.2.2.2.2.2.2.2.2)
def X_ways (X : XS) : Nat → Int32 := X.2.2.2.2.2.2.2.2.2.2.2.2.2.2.2.2.2.1
def sX_ways (X : XS) (v : Nat → Int32) : XS := (X.1, X.2.1, X.2.2.1, X.2.2.2.1, X.2.2.2.2.1, X.2.2.2.2.2.1, X.2.2.2.2.2.2.1, X.2.2.2.2.2.2.2.1, X.2.2.2.2.2.2.2.2.1, X.2.2.2.2.2.2.2.2.2.1, X.2.2.2.2.2.2.2.2.2.2.1, X.2.2.2.2.2.2.2.2.2.2.2.1, X.2.2.2.2.2.2.2.2.2.2.2.2.1, X.2.2.2.2.2.2.2.2.2.2.2.2.2.1, X.2.2.2.2.2.2.2.2.2.2.2.2.2.2.1, X.2.2.2.2.2.2.2.2.2.2.2.2.2.2.2.1, X.2.2.2.2.2.2.2.2.2.2.2.2.2.2.2.2.1, v, X.2.2.2.2.2.2.2.2.2.2.2.2.2.2.2.2.2.2)
def X_basis (X : XS) : Nat → Int32 := X.2.2.2.2.2.2.2.2.2.2.2.2.2.2.2.2.2.2.1
def sX_basis (X : XS) (v : Nat → Int32) : XS := (X.1, X.2.1, X.2.2.1, X.2.2.2.1, X.2.2.2.2.1, X.2.2.2.2.2.1, X.2.2.2.2.2.2.1, X.2.2.2.2.2.2.2.1, X.2.2.2.2.2.2.2.2.1, X.2.2.2.2.2.2.2.2.2.1, X.2.2.2.2.2.2.2.2.2.2.1, X.2.2.2.2.2.2.2.2.2.2.2.1, X.2.2.2.2.2.2.2.2.2.2.2.2.1, X.2.2.2.2.2.2.2.2.2.2.2.2.2.1, X.2.2.2.2.2.2.2.2.2.2.2.2.2.2.1, X.2.2.2.2.2.2.2.2.2.2.2.2.2.2.2.1, X.2.2.2.2.2.2.2.2.2.2.2.2.2.2.2.2.1, X.2.2.2.2.2.2.2.2.2.2.2.2.2.2.2.2.2.1, v, X.2.2.2.2.2.2.2.2.2.2.2.2.2.2.2.2.2.2.2)
def X_signs (X : XS) : Nat → Int32 := X.2.2.2.2.2.2.2.2.2.2.2.2.2.2.2.2.2.2.2.1
def sX_signs (X : XS) (v : Nat → Int32) : XS := (X.1, X.2.1, X.2.2.1, X.2.2.2.1, X.2.2.2.2.1, X.2.2.2.2.2.1, X.2.2.2.2.2.2.1, X.2.2.2.2.2.2.2.1, X.2.2.2.2.2.2.2.2.1, X.2.2.2.2.2.2.2.2.2.1, X.2.2.2.2.2.2.2.2.2.2.1, X.2.2.2.2.2.2.2.2.2.2.2.1, X.2.2.2.2.2.2.2.2.2.2.2.2.1, X.2.2.2.2.2.2.2.2.2.2.2.2.2.1, X.2.2.2.2.2.2.2.2.2.2.2.2.2.2.1, X.2.2.2.2.2.2.2.2.2.2.2.2.2.2.2.1, X.2.2.2.2.2.2.2.2.2.2.2.2.2.2.2.2.1, X.2.2.2.2.2.2.2.2.2.2.2.2.2.2.2.2.2.1, X.2.2.2.2.2.2.2.2.2.2.2.2.2.2.2.2.2.2.1, v, X.2.2.2.2.2.2.2.2.2.2.2.2.2.2.2.2.2.2.2.2)
def X_pulls (X : XS) : Nat → Int64 := X.2.2.2.2.2.2.2.2.2.2.2.2.2.2.2.2.2.2.2.2.1
def sX_pulls (X : XS) (v : Nat → Int64) : XS := (X.1, X.2.1, X.2.2.1, X.2.2.2.1, X.2.2.2.2.1, X.2.2.2.2.2.1, X.2.2.2.2.2.2.1, X.2.2.2.2.2.2.2.1, X.2.2.2.2.2.2.2.2.1, X.2.2.2.2.2.2.2.2.2.1, X.2.2.2.2.2.2.2.2.2.2.1, X.2.2.2.2.2.2.2.2.2.2.2.1, X.2.2.2.2.2.2.2.2.2.2.2.2.1, X.2.2.2.2.2.2.2.2.2.2.2.2.2.1, X.2.2.2.2.2.2.2.2.2.2.2.2.2.2.1, X.2.2.2.2.2.2.2.2.2.2.2.2.2.2.2.1, X.2.2.2.2.2.2.2.2.2.2.2.2.2.2.2.2.1, X.2.2.2.2.2.2.2.2.2.2.2.2.2.2.2.2.2.1, X.2.2.2.2.2.2.2.2.2.2.2.2.2.2.2.2.2.2.1, X.2.2.2.2.2.2.2.2.2.2.2.2.2.2.2.2.2.2.2.1, v, X.2.2.2.2.2.2.2.2.2.2.2.2.2.2.2.2.2.2.2.2.2)
def X_sr (X : XS) : Nat → Option SRow := X.2.2.2.2.2.2.2.2.2.2.2.2.2.2.2.2.2.2.2.2.2
def sX_sr (X : XS) (v : Nat → Option SRow) : XS := (X.1, X.2.1, X.2.2.1, X.2.2.2.1, X.2.2.2.2.1, X.2.2.2.2.2.1, X.2.2.2.2.2.2.1, X.2.2.2.2.2.2.2.1, X.2.2.2.2.2.2.2.2.1, X.2.2.2.2.2.2.2.2.2.1, X.2.2.2.2.2.2.2.2.2.2.1, X.2.2.2.2.2.2.2.2.2.2.2.1, X.2.2.2.2.2.2.2.2.2.2.2.2.1, X.2.2.2.2.2.2.2.2.2.2.2.2.2.1, X.2.2.2.2.2.2.2.2.2.2.2.2.2.2.1, X.2.2.2.2.2.2.2.2.2.2.2.2.2.2.2.1, X.2.2.2.2.2.2.2.2.2.2.2.2.2.2.2.2.1, X.2.2.2.2.2.2.2.2.2.2.2.2.2.2.2.2.2.1, X.2.2.2.2.2.2.2.2.2.2.2.2.2.2.2.2.2.2.1, X.2.2.2.2.2.2.2.2.2.2.2.2.2.2.2.2.2.2.2.1, X.2.2.2.2.2.2.2.2.2.2.2.2.2.2.2.2.2.2.2.2.1, v)
def upd2 (f : Nat → Nat → Int32) (j i : Nat) (v : Int32) : Nat → Nat → Int32 := fun k => if k = j then upd (f j) i v else f k
def updL2 (f : Nat → Nat → Int64) (j i : Nat) (v : Int64) : Nat → Nat → Int64 := fun k => if k = j then vp_updL (f j) i v else f k
def upO (f : Nat → Option SRow) (j : Nat) (v : Option SRow) : Nat → Option SRow := fun k => if k = j then v else f k
def XF (a : Nat → Nat) (X : XS) : List Value := [.int (X_latest X), .ref (a 1), .int (X_many X), .int (X_bars X), .ref (a 22), .int (X_fault X), va_rf ((X_least X).map fun v => v.1), .int (X_frame X), .ref (a 37), .long (X_pullsBelow X), .int (X_first X), .int (X_second X), .ref (a 17)]
def XPF (a : Nat → Nat) (X : XS) (j : Nat) : List Value := [.int (X_px X j), .int (X_py X j), .int (X_ph X j), .ref (a (7 + j)), .ref (a (12 + j))]
def XGF (a : Nat → Nat) (X : XS) : List Value := [.ref (a 23), .ref (a 34), .ref (a 35), .ref (a 36), .int (X_high X), .long (X_below X), .ref (a 0)]
def XSF (X : XS) (j : Nat) : List Value := [va_rf ((X_sr X j).map fun r => r.1)]
def rE (dT : Nat → ClassId) (c : SCon) : va_E := match c with
  | .inl x => .inl (dT 0, x.1, .inl x.2)
  | .inr x => .inl (dT 1, x.1, .inr (.inl x.2))
def rowC (dT : Nat → ClassId) (o : Option SRow) : va_W := match o with
  | none => []
  | some r => [(r.1, rE dT r.2)]
def volC (v : Vol) : Nat × va_E := (v.1, .inr (6, [.long v.2.1, .long v.2.2]))
def XSt (dT : Nat → ClassId) (a : Nat → Nat) (X : XS) : va_W := [(a 0, .inr (0, XF a X)), (a 1, .inl (dT 3, 5, .inr (.inr (.inr (.inr (fun j => some (a (2 + j)))))))), (a 2, .inr (1, XPF a X 0)), (a 3, .inr (1, XPF a X 1)), (a 4, .inr (1, XPF a X 2)), (a 5, .inr (1, XPF a X 3)), (a 6, .inr (1, XPF a X 4)), (a 7, .inl (dT 0, 2, .inl (X_pl X 0))), (a 8, .inl (dT 0, 2, .inl (X_pl X 1))), (a 9, .inl (dT 0, 2, .inl (X_pl X 2))), (a 10, .inl (dT 0, 2, .inl (X_pl X 3))), (a 11, .inl (dT 0, 2, .inl (X_pl X 4))), (a 12, .inl (dT 0, 2, .inl (X_ps X 0))), (a 13, .inl (dT 0, 2, .inl (X_ps X 1))), (a 14, .inl (dT 0, 2, .inl (X_ps X 2))), (a 15, .inl (dT 0, 2, .inl (X_ps X 3))), (a 16, .inl (dT 0, 2, .inl (X_ps X 4))), (a 17, .inl (dT 4, 4, .inr (.inr (.inr (.inr (fun j => some (a (18 + j)))))))), (a 18, .inr (3, XSF X 0)), (a 19, .inr (3, XSF X 1)), (a 20, .inr (3, XSF X 2)), (a 21, .inr (3, XSF X 3)), (a 22, .inr (2, XGF a X)), (a 23, .inl (dT 5, 10, .inr (.inr (.inr (.inr (fun j => some (a (24 + j)))))))), (a 24, .inl (dT 1, 11, .inr (.inl (X_rows X 0)))), (a 25, .inl (dT 1, 11, .inr (.inl (X_rows X 1)))), (a 26, .inl (dT 1, 11, .inr (.inl (X_rows X 2)))), (a 27, .inl (dT 1, 11, .inr (.inl (X_rows X 3)))), (a 28, .inl (dT 1, 11, .inr (.inl (X_rows X 4)))), (a 29, .inl (dT 1, 11, .inr (.inl (X_rows X 5)))), (a 30, .inl (dT 1, 11, .inr (.inl (X_rows X 6)))), (a 31, .inl (dT 1, 11, .inr (.inl (X_rows X 7)))), (a 32, .inl (dT 1, 11, .inr (.inl (X_rows X 8)))), (a 33, .inl (dT 1, 11, .inr (.inl (X_rows X 9)))), (a 34, .inl (dT 0, 10, .inl (X_ways X))), (a 35, .inl (dT 0, 10, .inl (X_basis X))), (a 36, .inl (dT 0, 10, .inl (X_signs X))), (a 37, .inl (dT 1, 10, .inr (.inl (X_pulls X))))]
def XR (dT : Nat → ClassId) (X : XS) : va_W := rowC dT (X_sr X 0) ++ (rowC dT (X_sr X 1) ++ (rowC dT (X_sr X 2) ++ rowC dT (X_sr X 3)))
def XW (dT : Nat → ClassId) (a : Nat → Nat) (u : XS × XE) : va_W := XSt dT a u.1 ++ (XR dT u.1 ++ u.2)
def XI (vs0 : XE) (u : XS × XE) : Prop := (∀ v, X_least u.1 = some v → volC v ∈ u.2) ∧ ∀ v ∈ vs0, v ∈ u.2
abbrev StX (D : va_G) (dT : Nat → ClassId) (a : Nat → Nat) (A : Nat → Prop) (s : State) (vs0 : XE) (X : XS) (vs : XE) (H : Heap) (locs : List Loc) : Prop := wSt D (XW dT a) (XI vs0) A s (X, vs) H locs
theorem StX.self {D : va_G} {dT : Nat → ClassId} {a : Nat → Nat} {A : Nat → Prop} {s : State} {vs0 vs : XE} {X : XS} {H : Heap} {locs : List Loc} (h : StX D dT a A s vs0 X vs H locs) : StX D dT a A s vs X vs H locs := ⟨h.1, h.2.1, h.2.2.1, h.2.2.2.1, fun _ q => q⟩
theorem StX.back {D : va_G} {dT : Nat → ClassId} {a : Nat → Nat} {A : Nat → Prop} {s : State} {vs0 vs : XE} {X : XS} {H H1 : Heap} {locs locs1 : List Loc} {u : XS × XE} (h : StX D dT a A s vs0 X vs H locs) (h1 : wSt D (XW dT a) (XI vs) A s u H1 locs1) : StX D dT a A s vs0 u.1 u.2 H1 locs1 := ⟨h1.1, h1.2.1, h1.2.2.1, h1.2.2.2.1, fun v q => h1.2.2.2.2 v (h.2.2.2.2 v q)⟩
theorem XW_0 {dT : Nat → ClassId} {a : Nat → Nat} {u : XS × XE} : (XW dT a u)[0]? = some (a 0, .inr (0, XF a u.1)) := rfl
theorem XW_1 {dT : Nat → ClassId} {a : Nat → Nat} {u : XS × XE} : (XW dT a u)[1]? = some (a 1, .inl (dT 3, 5, .inr (.inr (.inr (.inr (fun j => some (a (2 + j)))))))) := rfl
theorem XW_17 {dT : Nat → ClassId} {a : Nat → Nat} {u : XS × XE} : (XW dT a u)[17]? = some (a 17, .inl (dT 4, 4, .inr (.inr (.inr (.inr (fun j => some (a (18 + j)))))))) := rfl
theorem XW_22 {dT : Nat → ClassId} {a : Nat → Nat} {u : XS × XE} : (XW dT a u)[22]? = some (a 22, .inr (2, XGF a u.1)) := rfl
theorem XW_23 {dT : Nat → ClassId} {a : Nat → Nat} {u : XS × XE} : (XW dT a u)[23]? = some (a 23, .inl (dT 5, 10, .inr (.inr (.inr (.inr (fun j => some (a (24 + j)))))))) := rfl
theorem XW_34 {dT : Nat → ClassId} {a : Nat → Nat} {u : XS × XE} : (XW dT a u)[34]? = some (a 34, .inl (dT 0, 10, .inl (X_ways u.1))) := rfl
theorem XW_35 {dT : Nat → ClassId} {a : Nat → Nat} {u : XS × XE} : (XW dT a u)[35]? = some (a 35, .inl (dT 0, 10, .inl (X_basis u.1))) := rfl
theorem XW_36 {dT : Nat → ClassId} {a : Nat → Nat} {u : XS × XE} : (XW dT a u)[36]? = some (a 36, .inl (dT 0, 10, .inl (X_signs u.1))) := rfl
theorem XW_37 {dT : Nat → ClassId} {a : Nat → Nat} {u : XS × XE} : (XW dT a u)[37]? = some (a 37, .inl (dT 1, 10, .inr (.inl (X_pulls u.1)))) := rfl
theorem XW_P {dT : Nat → ClassId} {a : Nat → Nat} {u : XS × XE} : ∀ {j : Nat} (_ : j < 5), (XW dT a u)[2 + j]? = some (a (2 + j), .inr (1, XPF a u.1 j))
  | 0, _ => rfl
  | 1, _ => rfl
  | 2, _ => rfl
  | 3, _ => rfl
  | 4, _ => rfl
  | q + 5, h => absurd h (by omega)
theorem XW_PL {dT : Nat → ClassId} {a : Nat → Nat} {u : XS × XE} : ∀ {j : Nat} (_ : j < 5), (XW dT a u)[7 + j]? = some (a (7 + j), .inl (dT 0, 2, .inl (X_pl u.1 j)))
  | 0, _ => rfl
  | 1, _ => rfl
  | 2, _ => rfl
  | 3, _ => rfl
  | 4, _ => rfl
  | q + 5, h => absurd h (by omega)
theorem XW_PS {dT : Nat → ClassId} {a : Nat → Nat} {u : XS × XE} : ∀ {j : Nat} (_ : j < 5), (XW dT a u)[12 + j]? = some (a (12 + j), .inl (dT 0, 2, .inl (X_ps u.1 j)))
  | 0, _ => rfl
  | 1, _ => rfl
  | 2, _ => rfl
  | 3, _ => rfl
  | 4, _ => rfl
  | q + 5, h => absurd h (by omega)
theorem XW_SH {dT : Nat → ClassId} {a : Nat → Nat} {u : XS × XE} : ∀ {j : Nat} (_ : j < 4), (XW dT a u)[18 + j]? = some (a (18 + j), .inr (3, XSF u.1 j))
  | 0, _ => rfl
  | 1, _ => rfl
  | 2, _ => rfl
  | 3, _ => rfl
  | q + 4, h => absurd h (by omega)
theorem XW_ROW {dT : Nat → ClassId} {a : Nat → Nat} {u : XS × XE} : ∀ {j : Nat} (_ : j < 10), (XW dT a u)[24 + j]? = some (a (24 + j), .inl (dT 1, 11, .inr (.inl (X_rows u.1 j))))
  | 0, _ => rfl
  | 1, _ => rfl
  | 2, _ => rfl
  | 3, _ => rfl
  | 4, _ => rfl
  | 5, _ => rfl
  | 6, _ => rfl
  | 7, _ => rfl
  | 8, _ => rfl
  | 9, _ => rfl
  | q + 10, h => absurd h (by omega)
theorem XWs_px {dT : Nat → ClassId} {a : Nat → Nat} {X : XS} {vs : XE} {v : Int32} : ∀ {j : Nat} (_ : j < 5), (XW dT a (X, vs)).set (2 + j) (a (2 + j), .inr (1, (XPF a X j).set 0 (.int v))) = XW dT a (sX_px X (upd (X_px X) j v), vs)
  | 0, _ => rfl
  | 1, _ => rfl
  | 2, _ => rfl
  | 3, _ => rfl
  | 4, _ => rfl
  | q + 5, h => absurd h (by omega)
theorem XWs_py {dT : Nat → ClassId} {a : Nat → Nat} {X : XS} {vs : XE} {v : Int32} : ∀ {j : Nat} (_ : j < 5), (XW dT a (X, vs)).set (2 + j) (a (2 + j), .inr (1, (XPF a X j).set 1 (.int v))) = XW dT a (sX_py X (upd (X_py X) j v), vs)
  | 0, _ => rfl
  | 1, _ => rfl
  | 2, _ => rfl
  | 3, _ => rfl
  | 4, _ => rfl
  | q + 5, h => absurd h (by omega)
theorem XWs_ph {dT : Nat → ClassId} {a : Nat → Nat} {X : XS} {vs : XE} {v : Int32} : ∀ {j : Nat} (_ : j < 5), (XW dT a (X, vs)).set (2 + j) (a (2 + j), .inr (1, (XPF a X j).set 2 (.int v))) = XW dT a (sX_ph X (upd (X_ph X) j v), vs)
  | 0, _ => rfl
  | 1, _ => rfl
  | 2, _ => rfl
  | 3, _ => rfl
  | 4, _ => rfl
  | q + 5, h => absurd h (by omega)
theorem XWs_pl {dT : Nat → ClassId} {a : Nat → Nat} {X : XS} {vs : XE} {i : Nat} {v : Int32} : ∀ {j : Nat} (_ : j < 5), (XW dT a (X, vs)).set (7 + j) (a (7 + j), .inl (dT 0, 2, .inl (upd (X_pl X j) i v))) = XW dT a (sX_pl X (upd2 (X_pl X) j i v), vs)
  | 0, _ => rfl
  | 1, _ => rfl
  | 2, _ => rfl
  | 3, _ => rfl
  | 4, _ => rfl
  | q + 5, h => absurd h (by omega)
theorem XWs_ps {dT : Nat → ClassId} {a : Nat → Nat} {X : XS} {vs : XE} {i : Nat} {v : Int32} : ∀ {j : Nat} (_ : j < 5), (XW dT a (X, vs)).set (12 + j) (a (12 + j), .inl (dT 0, 2, .inl (upd (X_ps X j) i v))) = XW dT a (sX_ps X (upd2 (X_ps X) j i v), vs)
  | 0, _ => rfl
  | 1, _ => rfl
  | 2, _ => rfl
  | 3, _ => rfl
  | 4, _ => rfl
  | q + 5, h => absurd h (by omega)
theorem XWs_rows {dT : Nat → ClassId} {a : Nat → Nat} {X : XS} {vs : XE} {i : Nat} {v : Int64} : ∀ {j : Nat} (_ : j < 10), (XW dT a (X, vs)).set (24 + j) (a (24 + j), .inl (dT 1, 11, .inr (.inl (vp_updL (X_rows X j) i v)))) = XW dT a (sX_rows X (updL2 (X_rows X) j i v), vs)
  | 0, _ => rfl
  | 1, _ => rfl
  | 2, _ => rfl
  | 3, _ => rfl
  | 4, _ => rfl
  | 5, _ => rfl
  | 6, _ => rfl
  | 7, _ => rfl
  | 8, _ => rfl
  | 9, _ => rfl
  | q + 10, h => absurd h (by omega)
theorem XW_vol {dT : Nat → ClassId} {a : Nat → Nat} {u : XS × XE} {v : Vol} (hv : volC v ∈ u.2) : ∃ k : Nat, (XW dT a u)[k]? = some (v.1, .inr (6, [.long v.2.1, .long v.2.2])) :=
  List.getElem?_of_mem (List.mem_append_right _ (List.mem_append_right _ hv))
theorem XR_at {dT : Nat → ClassId} {X : XS} {j : Nat} {r : SRow} (hj : j < 4) (hr : X_sr X j = some r) : ∃ k : Nat, (XR dT X)[k]? = some (r.1, rE dT r.2) ∧ ∀ c : SCon, (XR dT X).set k (r.1, rE dT c) = XR dT (sX_sr X (upO (X_sr X) j (some (r.1, c)))) := by
  have e : ∀ (c : SCon) (k : Nat), X_sr (sX_sr X (upO (X_sr X) j (some (r.1, c)))) k = if k = j then some (r.1, c) else X_sr X k := fun c k => rfl
  unfold XR
  match j, hj with
  | 0, _ =>
    refine ⟨0, by rw [hr]; rfl, fun c => ?_⟩
    rw [e c 0, e c 1, e c 2, e c 3, hr]; rfl
  | 1, _ =>
    rcases h0 : X_sr X 0 with _ | r0
    · refine ⟨0, by rw [hr]; rfl, fun c => ?_⟩
      rw [e c 0, e c 1, e c 2, e c 3, hr, h0]; rfl
    · refine ⟨1, by rw [hr]; rfl, fun c => ?_⟩
      rw [e c 0, e c 1, e c 2, e c 3, hr, h0]; rfl
  | 2, _ =>
    rcases h0 : X_sr X 0 with _ | r0 <;> rcases h1 : X_sr X 1 with _ | r1
    · refine ⟨0, by rw [hr]; rfl, fun c => ?_⟩
      rw [e c 0, e c 1, e c 2, e c 3, hr, h0, h1]; rfl
    · refine ⟨1, by rw [hr]; rfl, fun c => ?_⟩
      rw [e c 0, e c 1, e c 2, e c 3, hr, h0, h1]; rfl
    · refine ⟨1, by rw [hr]; rfl, fun c => ?_⟩
      rw [e c 0, e c 1, e c 2, e c 3, hr, h0, h1]; rfl
    · refine ⟨2, by rw [hr]; rfl, fun c => ?_⟩
      rw [e c 0, e c 1, e c 2, e c 3, hr, h0, h1]; rfl
  | 3, _ =>
    rcases h0 : X_sr X 0 with _ | r0 <;> rcases h1 : X_sr X 1 with _ | r1 <;> rcases h2 : X_sr X 2 with _ | r2
    · refine ⟨0, by rw [hr]; rfl, fun c => ?_⟩
      rw [e c 0, e c 1, e c 2, e c 3, hr, h0, h1, h2]; rfl
    · refine ⟨1, by rw [hr]; rfl, fun c => ?_⟩
      rw [e c 0, e c 1, e c 2, e c 3, hr, h0, h1, h2]; rfl
    · refine ⟨1, by rw [hr]; rfl, fun c => ?_⟩
      rw [e c 0, e c 1, e c 2, e c 3, hr, h0, h1, h2]; rfl
    · refine ⟨2, by rw [hr]; rfl, fun c => ?_⟩
      rw [e c 0, e c 1, e c 2, e c 3, hr, h0, h1, h2]; rfl
    · refine ⟨1, by rw [hr]; rfl, fun c => ?_⟩
      rw [e c 0, e c 1, e c 2, e c 3, hr, h0, h1, h2]; rfl
    · refine ⟨2, by rw [hr]; rfl, fun c => ?_⟩
      rw [e c 0, e c 1, e c 2, e c 3, hr, h0, h1, h2]; rfl
    · refine ⟨2, by rw [hr]; rfl, fun c => ?_⟩
      rw [e c 0, e c 1, e c 2, e c 3, hr, h0, h1, h2]; rfl
    · refine ⟨3, by rw [hr]; rfl, fun c => ?_⟩
      rw [e c 0, e c 1, e c 2, e c 3, hr, h0, h1, h2]; rfl
  | q + 4, h => exact absurd h (by omega)
theorem XW_sr {dT : Nat → ClassId} {a : Nat → Nat} {X : XS} {vs : XE} {j : Nat} {r : SRow} (hj : j < 4) (hr : X_sr X j = some r) : ∃ k : Nat, (XW dT a (X, vs))[k]? = some (r.1, rE dT r.2) ∧ ∀ c : SCon, (XW dT a (X, vs)).set k (r.1, rE dT c) = XW dT a (sX_sr X (upO (X_sr X) j (some (r.1, c))), vs) := by
  obtain ⟨k, h1, h2⟩ := XR_at (dT := dT) hj hr
  have hk : k < (XR dT X).length := (List.getElem?_eq_some_iff.mp h1).1
  have hl : (XSt dT a X).length = 38 := rfl
  refine ⟨38 + k, ?_, fun c => ?_⟩
  · show (XSt dT a X ++ (XR dT X ++ vs))[38 + k]? = _
    rw [List.getElem?_append_right (by rw [hl]; omega), hl, Nat.add_sub_cancel_left, List.getElem?_append_left hk, h1]
  · show (XSt dT a X ++ (XR dT X ++ vs)).set (38 + k) _ = XSt dT a (sX_sr X (upO (X_sr X) j (some (r.1, c)))) ++ (XR dT (sX_sr X (upO (X_sr X) j (some (r.1, c)))) ++ vs)
    rw [List.set_append_right _ _ (by rw [hl]; omega), hl, Nat.add_sub_cancel_left, List.set_append_left _ _ hk, h2 c]
    congr 1
    unfold XSt
    have e : ∀ k : Nat, k < 4 → XSF (sX_sr X (upO (X_sr X) j (some (r.1, c)))) k = XSF X k := by
      intro k _
      show [va_rf ((if k = j then some (r.1, c) else X_sr X k).map fun r => r.1)] = [va_rf ((X_sr X k).map fun r => r.1)]
      by_cases hkj : k = j
      · subst hkj; rw [if_pos rfl, hr]; rfl
      · rw [if_neg hkj]
    rw [e 0 (by omega), e 1 (by omega), e 2 (by omega), e 3 (by omega)]
    rfl
