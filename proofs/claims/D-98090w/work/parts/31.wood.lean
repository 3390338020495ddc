set_option maxRecDepth 100000
/-! THE WOOD: 126 cells from b on. S o k: the int at place k of the cell b + o (of the object itself: field k). -/
def up2 (S : Nat → Nat → Int32) (o j : Nat) (x : Int32) : Nat → Nat → Int32 := fun o' => if o' = o then upd (S o) j x else S o'
def wF (b : Nat) (S : Nat → Nat → Int32) (law : Nat) : List Value := [.ref (b + 1), .ref (b + 2), .ref (b + 3), .ref (b + 4), .ref (b + 5), .ref (b + 6), .ref (b + 7), .ref (b + 8), .ref (b + 9), .ref (b + 10), .ref (b + 111), .ref law, .int (S 0 12), .int (S 0 13), .int (S 0 14), .int (S 0 15), .int (S 0 16), .int (S 0 17), .int (S 0 18), .int (S 0 19), .int (S 0 20), .int (S 0 21), .int (S 0 22), .int (S 0 23), .int (S 0 24)]
def pF (b : Nat) (S : Nat → Nat → Int32) (o : Nat) : List Value := [.ref (b + (o + 1)), .int (S o 1), .int (S o 2), .int (S o 3)]
def aI (G : GG) (n : Nat) (f : Nat → Int32) : va_E := .inl (G.2.1 0, n, .inl f)
def aR (G : GG) (t n : Nat) (f : Nat → Option Nat) : va_E := .inl (G.2.1 t, n, .inr (.inr (.inr (.inr f))))
/-- what the cell at o of a wood is: 0 the object, 1 an array of 64, 2 of 12, 3 of 4, 4 the rows of the book, 5 the people, 6 a person, 7 nothing that matters -/
def wK (o : Nat) : Nat := if o = 0 then 0 else if o ≤ 6 then 1 else if o ≤ 9 then 2 else if o = 10 then 4 else if o ≤ 110 then 3 else if o = 111 then 5 else if o = 112 then 7 else if o ≤ 124 then (if o % 2 = 1 then 6 else 2) else 7
def wC (G : GG) (b : Nat) (S : Nat → Nat → Int32) (law o : Nat) : Option va_E := match wK o with
  | 0 => some (.inr (1, wF b S law))
  | 1 => some (aI G 64 (S o))
  | 2 => some (aI G 12 (S o))
  | 3 => some (aI G 4 (S o))
  | 4 => some (aR G 2 100 (fun i => some (b + (11 + i))))
  | 5 => some (aR G 3 6 (fun p => some (b + (113 + 2 * p))))
  | 6 => some (.inr (2, pF b S o))
  | _ => none
def IsWood (G : GG) (b : Nat) (S : Nat → Nat → Int32) (law : Nat) (h : AH) : Prop := G.2.2.1.size ≤ b ∧ ∀ o e, wC G b S law o = some e → h (b + o) = some e
section WD
variable {G : GG} {b law : Nat} {S : Nat → Nat → Int32} {h : AH}
theorem IsWood.obj (w : IsWood G b S law h) : h b = some (.inr (1, wF b S law)) := w.2 0 _ rfl
theorem IsWood.N (w : IsWood G b S law h) : G.2.2.1.size ≤ b := w.1
theorem IsWood.No (w : IsWood G b S law h) (o : Nat) : G.2.2.1.size ≤ b + o := Nat.le_trans w.1 (Nat.le_add_right _ _)
theorem IsWood.arr (w : IsWood G b S law h) (o : Nat) {e : va_E} (he : wC G b S law o = some e) : h (b + o) = some e := w.2 o e he
end WD
def drawS (s : Int32) : Int32 := 1664525 * s + 1013904223
def drawR (s m : Int32) : Int32 := ((drawS s).toUInt32 >>> ((8 : Int32).toUInt32 &&& Int32.toUInt32 31)).toInt32 - ((drawS s).toUInt32 >>> ((8 : Int32).toUInt32 &&& Int32.toUInt32 31)).toInt32 / m * m
