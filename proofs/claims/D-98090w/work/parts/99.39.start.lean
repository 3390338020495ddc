set_option maxRecDepth 100000
/-! THE LAW'S START: the layer's context out of what the claim gives -/
theorem room_less {s : State} {pl : Platform} {r r' : Room} (h : s.hasRoom pl r = true) (h1 : r'.frames ≤ r.frames) (h2 : r'.cells ≤ r.cells) (h3 : r'.slots ≤ r.slots) (h4 : r'.locals ≤ r.locals) : s.hasRoom pl r' = true := by
  simp only [State.hasRoom, Bool.and_eq_true, decide_eq_true_eq] at h ⊢
  obtain ⟨⟨⟨⟨a1, a2, a3, a4, a5, a6⟩, a7⟩, a8⟩, a9⟩ := h
  exact ⟨⟨⟨⟨by omega, by omega, by omega, by omega, by omega, a6⟩, by omega⟩, by omega⟩, a9⟩
theorem W.less {p : Program} {l : Launch} {e : Env} {R R' : Room} {s : State} {m : MethodId} {args : Array Value} {below : List Frame} {meth : Method} {c : Code} {H : Heap} {locs : List Loc} {cells slots : Nat} {Q : State → Prop} {g : JFrame} (h1 : R'.frames ≤ R.frames) (h2 : R'.cells ≤ R.cells) (h3 : R'.slots ≤ R.slots) (h4 : R'.locals ≤ R.locals) (k : W p l e R' s m args below meth c H locs cells slots Q g) : W p l e R s m args below meth c H locs cells slots Q g :=
  fun T hT X => k T hT ⟨X.admits, X.cas, X.clock, X.frames, room_less X.room h1 h2 h3 h4, X.hears, X.method, X.code, X.here, X.tail, X.warmed, X.limits, X.bytes, X.same⟩
theorem vkS_cg {N : Nat} {len : List Nat} {byt : List (List Int32)} {adK adV adK' adV' : Nat → Nat} {A : Nat → Prop} {U : State} {H : Heap} (h : vk_S N len byt adK adV A U H) (hK : ∀ i, i < N → adK' i = adK i) (hV : ∀ i, i < N → adV' i = adV i) : vk_S N len byt adK' adV' A U H := by
  refine ⟨fun i hi => ?_, fun i j hi hj e => ?_⟩
  · rw [hK i hi, hV i hi]; exact h.1 i hi
  · rw [hK i hi, hK j hj] at e; exact h.2 i j hi hj e
section ST
variable {s : State} {b : Nat}
theorem kinds_at (hts : ∀ w ∈ lw_all, w.before #[Value.ref b] s = true) : ∀ c : Nat, ∃ D : ClassId × (Nat → Nat), ∀ q : vw_C, CL[c]? = some q → u_Kn s q.1 q.2.1 q.2.2 D.1 D.2 := by
  intro c
  match c with
  | 0 =>
    obtain ⟨cC, iS, h⟩ := u_known hts in_X0 (hts _ q119)
    exact ⟨(cC, iS), fun q hq => by cases hq; exact h⟩
  | 1 =>
    obtain ⟨cC, iS, h⟩ := u_known hts in_X1 (hts _ q127)
    exact ⟨(cC, iS), fun q hq => by cases hq; exact h⟩
  | 2 =>
    obtain ⟨cC, iS, h⟩ := u_known hts in_X2 (hts _ q164)
    exact ⟨(cC, iS), fun q hq => by cases hq; exact h⟩
  | 3 =>
    obtain ⟨cC, iS, h⟩ := u_known hts in_X3 (hts _ q987)
    exact ⟨(cC, iS), fun q hq => by cases hq; exact h⟩
  | 4 =>
    obtain ⟨cC, iS, h⟩ := u_known hts in_X4 (hts _ q352)
    exact ⟨(cC, iS), fun q hq => by cases hq; exact h⟩
  | 5 =>
    obtain ⟨cC, iS, h⟩ := u_known hts in_X5 (hts _ q478)
    exact ⟨(cC, iS), fun q hq => by cases hq; exact h⟩
  | 6 =>
    obtain ⟨cC, iS, h⟩ := u_known hts in_X7 (hts _ q558)
    exact ⟨(cC, iS), fun q hq => by cases hq; exact h⟩
  | 7 =>
    obtain ⟨cC, iS, h⟩ := u_known hts in_X8 (hts _ q575)
    exact ⟨(cC, iS), fun q hq => by cases hq; exact h⟩
  | 8 =>
    obtain ⟨cC, iS, h⟩ := u_known hts in_X9 (hts _ q585)
    exact ⟨(cC, iS), fun q hq => by cases hq; exact h⟩
  | 9 =>
    obtain ⟨cC, iS, h⟩ := u_known hts in_X10 (hts _ q617)
    exact ⟨(cC, iS), fun q hq => by cases hq; exact h⟩
  | 10 =>
    obtain ⟨cC, iS, h⟩ := u_known hts in_X11 (hts _ q631)
    exact ⟨(cC, iS), fun q hq => by cases hq; exact h⟩
  | 11 =>
    obtain ⟨cC, iS, h⟩ := u_known hts in_J2 (hts _ q137)
    exact ⟨(cC, iS), fun q hq => by cases hq; exact h⟩
  | c + 12 => exact ⟨(0, fun _ => 0), fun q hq => by
      rw [List.getElem?_eq_none (by show 12 ≤ c + 12; omega)] at hq
      cases hq⟩
theorem arr_prim {ty : FieldType} (h : (Cond.arrayClass ty).before #[Value.ref b] s = true) : ∃ cA, ArrOfT s cA ty ∧ s.vm.findClass ("[" ++ ty.toString) = some cA := by
  obtain ⟨c, k, comp, h1, h2, h3⟩ := Cond.arrayClass_spec h
  exact ⟨c, fun n z => ⟨fun k h => (by cases h), k, h2, comp, h3⟩, h1⟩
theorem arr_obj {C : String} (h : (Cond.arrayOver (.object C)).before #[Value.ref b] s = true) : ∃ cA, ArrOfT s cA (.object C) ∧ va_RA s cA (.object C) := by
  obtain ⟨comp, c, k, h1, h2, h3, h4, h5⟩ := Cond.arrayOver_spec h
  exact ⟨c, fun n z => ⟨fun k h => (by cases h), k, h3, comp, h4⟩, k, comp, h3, h4, h1, h5⟩
theorem arr_arr (h : (Cond.arrayOver (.array .int)).before #[Value.ref b] s = true) : ∃ cA, ArrOfT s cA (.array .int) ∧ s.vm.findClass ("[" ++ (FieldType.array .int).toString) = some cA := by
  obtain ⟨comp, c, k, h1, h2, h3, h4, h5⟩ := aoA_spec h
  exact ⟨c, fun n z => ⟨fun k h => (by cases h), k, h3, comp, h4⟩, h5⟩
def nLit (i : Nat) : Term := .string "LastWordWood$Reader" (litT i).1
abbrev nFl : List Cond := flatC (Jvm.Cond.and given_1 narrow_1)
theorem n_ex : ∀ i, i < 14 → Cond.exactly (nLit i) "java/lang/String" ∈ nFl := by decide +kernel
theorem n_co : ∀ i, i < 14 → Cond.eq (.field (nLit i) "java/lang/String" "coder" "B") (.int 0) ∈ nFl := by decide +kernel
theorem n_ar : ∀ i, i < 14 → Cond.arrayOf (.field (nLit i) "java/lang/String" "value" "[B") .byte ∈ nFl := by decide +kernel
theorem n_le : ∀ i, i < 14 → Cond.eq (.length (.field (nLit i) "java/lang/String" "value" "[B")) (.int (Int32.ofNat (litL.getD i 0))) ∈ nFl := by decide +kernel
theorem n_el : ∀ i, i < 14 → ∀ j, j < litL.getD i 0 → Cond.eq (.elem (.field (nLit i) "java/lang/String" "value" "[B") (.int (Int32.ofNat j))) (.int ((litB.getD i []).getD j 0)) ∈ nFl := by decide +kernel
theorem n_ne_1_2 : Cond.not (Cond.eq (nLit 1) (nLit 2)) ∈ nFl := List.mem_of_getElem? (i := 67) (by decide +kernel)
theorem n_ne_1_3 : Cond.not (Cond.eq (nLit 1) (nLit 3)) ∈ nFl := List.mem_of_getElem? (i := 75) (by decide +kernel)
theorem n_ne_2_3 : Cond.not (Cond.eq (nLit 2) (nLit 3)) ∈ nFl := List.mem_of_getElem? (i := 76) (by decide +kernel)
theorem n_ne_1_4 : Cond.not (Cond.eq (nLit 1) (nLit 4)) ∈ nFl := List.mem_of_getElem? (i := 84) (by decide +kernel)
theorem n_ne_2_4 : Cond.not (Cond.eq (nLit 2) (nLit 4)) ∈ nFl := List.mem_of_getElem? (i := 85) (by decide +kernel)
theorem n_ne_3_4 : Cond.not (Cond.eq (nLit 3) (nLit 4)) ∈ nFl := List.mem_of_getElem? (i := 86) (by decide +kernel)
theorem n_ne_1_0 : Cond.not (Cond.eq (nLit 1) (nLit 0)) ∈ nFl := List.mem_of_getElem? (i := 95) (by decide +kernel)
theorem n_ne_2_0 : Cond.not (Cond.eq (nLit 2) (nLit 0)) ∈ nFl := List.mem_of_getElem? (i := 96) (by decide +kernel)
theorem n_ne_3_0 : Cond.not (Cond.eq (nLit 3) (nLit 0)) ∈ nFl := List.mem_of_getElem? (i := 97) (by decide +kernel)
theorem n_ne_4_0 : Cond.not (Cond.eq (nLit 4) (nLit 0)) ∈ nFl := List.mem_of_getElem? (i := 98) (by decide +kernel)
theorem n_ne_1_5 : Cond.not (Cond.eq (nLit 1) (nLit 5)) ∈ nFl := List.mem_of_getElem? (i := 107) (by decide +kernel)
theorem n_ne_2_5 : Cond.not (Cond.eq (nLit 2) (nLit 5)) ∈ nFl := List.mem_of_getElem? (i := 108) (by decide +kernel)
theorem n_ne_3_5 : Cond.not (Cond.eq (nLit 3) (nLit 5)) ∈ nFl := List.mem_of_getElem? (i := 109) (by decide +kernel)
theorem n_ne_4_5 : Cond.not (Cond.eq (nLit 4) (nLit 5)) ∈ nFl := List.mem_of_getElem? (i := 110) (by decide +kernel)
theorem n_ne_0_5 : Cond.not (Cond.eq (nLit 0) (nLit 5)) ∈ nFl := List.mem_of_getElem? (i := 111) (by decide +kernel)
theorem n_ne_1_6 : Cond.not (Cond.eq (nLit 1) (nLit 6)) ∈ nFl := List.mem_of_getElem? (i := 120) (by decide +kernel)
theorem n_ne_2_6 : Cond.not (Cond.eq (nLit 2) (nLit 6)) ∈ nFl := List.mem_of_getElem? (i := 121) (by decide +kernel)
theorem n_ne_3_6 : Cond.not (Cond.eq (nLit 3) (nLit 6)) ∈ nFl := List.mem_of_getElem? (i := 122) (by decide +kernel)
theorem n_ne_4_6 : Cond.not (Cond.eq (nLit 4) (nLit 6)) ∈ nFl := List.mem_of_getElem? (i := 123) (by decide +kernel)
theorem n_ne_0_6 : Cond.not (Cond.eq (nLit 0) (nLit 6)) ∈ nFl := List.mem_of_getElem? (i := 124) (by decide +kernel)
theorem n_ne_5_6 : Cond.not (Cond.eq (nLit 5) (nLit 6)) ∈ nFl := List.mem_of_getElem? (i := 125) (by decide +kernel)
theorem n_ne_1_7 : Cond.not (Cond.eq (nLit 1) (nLit 7)) ∈ nFl := List.mem_of_getElem? (i := 133) (by decide +kernel)
theorem n_ne_2_7 : Cond.not (Cond.eq (nLit 2) (nLit 7)) ∈ nFl := List.mem_of_getElem? (i := 134) (by decide +kernel)
theorem n_ne_3_7 : Cond.not (Cond.eq (nLit 3) (nLit 7)) ∈ nFl := List.mem_of_getElem? (i := 135) (by decide +kernel)
theorem n_ne_4_7 : Cond.not (Cond.eq (nLit 4) (nLit 7)) ∈ nFl := List.mem_of_getElem? (i := 136) (by decide +kernel)
theorem n_ne_0_7 : Cond.not (Cond.eq (nLit 0) (nLit 7)) ∈ nFl := List.mem_of_getElem? (i := 137) (by decide +kernel)
theorem n_ne_5_7 : Cond.not (Cond.eq (nLit 5) (nLit 7)) ∈ nFl := List.mem_of_getElem? (i := 138) (by decide +kernel)
theorem n_ne_6_7 : Cond.not (Cond.eq (nLit 6) (nLit 7)) ∈ nFl := List.mem_of_getElem? (i := 139) (by decide +kernel)
theorem n_ne_1_8 : Cond.not (Cond.eq (nLit 1) (nLit 8)) ∈ nFl := List.mem_of_getElem? (i := 148) (by decide +kernel)
theorem n_ne_2_8 : Cond.not (Cond.eq (nLit 2) (nLit 8)) ∈ nFl := List.mem_of_getElem? (i := 149) (by decide +kernel)
theorem n_ne_3_8 : Cond.not (Cond.eq (nLit 3) (nLit 8)) ∈ nFl := List.mem_of_getElem? (i := 150) (by decide +kernel)
theorem n_ne_4_8 : Cond.not (Cond.eq (nLit 4) (nLit 8)) ∈ nFl := List.mem_of_getElem? (i := 151) (by decide +kernel)
theorem n_ne_0_8 : Cond.not (Cond.eq (nLit 0) (nLit 8)) ∈ nFl := List.mem_of_getElem? (i := 152) (by decide +kernel)
theorem n_ne_5_8 : Cond.not (Cond.eq (nLit 5) (nLit 8)) ∈ nFl := List.mem_of_getElem? (i := 153) (by decide +kernel)
theorem n_ne_6_8 : Cond.not (Cond.eq (nLit 6) (nLit 8)) ∈ nFl := List.mem_of_getElem? (i := 154) (by decide +kernel)
theorem n_ne_7_8 : Cond.not (Cond.eq (nLit 7) (nLit 8)) ∈ nFl := List.mem_of_getElem? (i := 155) (by decide +kernel)
theorem n_ne_1_9 : Cond.not (Cond.eq (nLit 1) (nLit 9)) ∈ nFl := List.mem_of_getElem? (i := 164) (by decide +kernel)
theorem n_ne_2_9 : Cond.not (Cond.eq (nLit 2) (nLit 9)) ∈ nFl := List.mem_of_getElem? (i := 165) (by decide +kernel)
theorem n_ne_3_9 : Cond.not (Cond.eq (nLit 3) (nLit 9)) ∈ nFl := List.mem_of_getElem? (i := 166) (by decide +kernel)
theorem n_ne_4_9 : Cond.not (Cond.eq (nLit 4) (nLit 9)) ∈ nFl := List.mem_of_getElem? (i := 167) (by decide +kernel)
theorem n_ne_0_9 : Cond.not (Cond.eq (nLit 0) (nLit 9)) ∈ nFl := List.mem_of_getElem? (i := 168) (by decide +kernel)
theorem n_ne_5_9 : Cond.not (Cond.eq (nLit 5) (nLit 9)) ∈ nFl := List.mem_of_getElem? (i := 169) (by decide +kernel)
theorem n_ne_6_9 : Cond.not (Cond.eq (nLit 6) (nLit 9)) ∈ nFl := List.mem_of_getElem? (i := 170) (by decide +kernel)
theorem n_ne_7_9 : Cond.not (Cond.eq (nLit 7) (nLit 9)) ∈ nFl := List.mem_of_getElem? (i := 171) (by decide +kernel)
theorem n_ne_8_9 : Cond.not (Cond.eq (nLit 8) (nLit 9)) ∈ nFl := List.mem_of_getElem? (i := 172) (by decide +kernel)
theorem n_ne_1_10 : Cond.not (Cond.eq (nLit 1) (nLit 10)) ∈ nFl := List.mem_of_getElem? (i := 181) (by decide +kernel)
theorem n_ne_2_10 : Cond.not (Cond.eq (nLit 2) (nLit 10)) ∈ nFl := List.mem_of_getElem? (i := 182) (by decide +kernel)
theorem n_ne_3_10 : Cond.not (Cond.eq (nLit 3) (nLit 10)) ∈ nFl := List.mem_of_getElem? (i := 183) (by decide +kernel)
theorem n_ne_4_10 : Cond.not (Cond.eq (nLit 4) (nLit 10)) ∈ nFl := List.mem_of_getElem? (i := 184) (by decide +kernel)
theorem n_ne_0_10 : Cond.not (Cond.eq (nLit 0) (nLit 10)) ∈ nFl := List.mem_of_getElem? (i := 185) (by decide +kernel)
theorem n_ne_5_10 : Cond.not (Cond.eq (nLit 5) (nLit 10)) ∈ nFl := List.mem_of_getElem? (i := 186) (by decide +kernel)
theorem n_ne_6_10 : Cond.not (Cond.eq (nLit 6) (nLit 10)) ∈ nFl := List.mem_of_getElem? (i := 187) (by decide +kernel)
theorem n_ne_7_10 : Cond.not (Cond.eq (nLit 7) (nLit 10)) ∈ nFl := List.mem_of_getElem? (i := 188) (by decide +kernel)
theorem n_ne_8_10 : Cond.not (Cond.eq (nLit 8) (nLit 10)) ∈ nFl := List.mem_of_getElem? (i := 189) (by decide +kernel)
theorem n_ne_9_10 : Cond.not (Cond.eq (nLit 9) (nLit 10)) ∈ nFl := List.mem_of_getElem? (i := 190) (by decide +kernel)
theorem n_ne_1_11 : Cond.not (Cond.eq (nLit 1) (nLit 11)) ∈ nFl := List.mem_of_getElem? (i := 196) (by decide +kernel)
theorem n_ne_2_11 : Cond.not (Cond.eq (nLit 2) (nLit 11)) ∈ nFl := List.mem_of_getElem? (i := 197) (by decide +kernel)
theorem n_ne_3_11 : Cond.not (Cond.eq (nLit 3) (nLit 11)) ∈ nFl := List.mem_of_getElem? (i := 198) (by decide +kernel)
theorem n_ne_4_11 : Cond.not (Cond.eq (nLit 4) (nLit 11)) ∈ nFl := List.mem_of_getElem? (i := 199) (by decide +kernel)
theorem n_ne_0_11 : Cond.not (Cond.eq (nLit 0) (nLit 11)) ∈ nFl := List.mem_of_getElem? (i := 200) (by decide +kernel)
theorem n_ne_5_11 : Cond.not (Cond.eq (nLit 5) (nLit 11)) ∈ nFl := List.mem_of_getElem? (i := 201) (by decide +kernel)
theorem n_ne_6_11 : Cond.not (Cond.eq (nLit 6) (nLit 11)) ∈ nFl := List.mem_of_getElem? (i := 202) (by decide +kernel)
theorem n_ne_7_11 : Cond.not (Cond.eq (nLit 7) (nLit 11)) ∈ nFl := List.mem_of_getElem? (i := 203) (by decide +kernel)
theorem n_ne_8_11 : Cond.not (Cond.eq (nLit 8) (nLit 11)) ∈ nFl := List.mem_of_getElem? (i := 204) (by decide +kernel)
theorem n_ne_9_11 : Cond.not (Cond.eq (nLit 9) (nLit 11)) ∈ nFl := List.mem_of_getElem? (i := 205) (by decide +kernel)
theorem n_ne_10_11 : Cond.not (Cond.eq (nLit 10) (nLit 11)) ∈ nFl := List.mem_of_getElem? (i := 206) (by decide +kernel)
theorem n_ne_1_12 : Cond.not (Cond.eq (nLit 1) (nLit 12)) ∈ nFl := List.mem_of_getElem? (i := 212) (by decide +kernel)
theorem n_ne_2_12 : Cond.not (Cond.eq (nLit 2) (nLit 12)) ∈ nFl := List.mem_of_getElem? (i := 213) (by decide +kernel)
theorem n_ne_3_12 : Cond.not (Cond.eq (nLit 3) (nLit 12)) ∈ nFl := List.mem_of_getElem? (i := 214) (by decide +kernel)
theorem n_ne_4_12 : Cond.not (Cond.eq (nLit 4) (nLit 12)) ∈ nFl := List.mem_of_getElem? (i := 215) (by decide +kernel)
theorem n_ne_0_12 : Cond.not (Cond.eq (nLit 0) (nLit 12)) ∈ nFl := List.mem_of_getElem? (i := 216) (by decide +kernel)
theorem n_ne_5_12 : Cond.not (Cond.eq (nLit 5) (nLit 12)) ∈ nFl := List.mem_of_getElem? (i := 217) (by decide +kernel)
theorem n_ne_6_12 : Cond.not (Cond.eq (nLit 6) (nLit 12)) ∈ nFl := List.mem_of_getElem? (i := 218) (by decide +kernel)
theorem n_ne_7_12 : Cond.not (Cond.eq (nLit 7) (nLit 12)) ∈ nFl := List.mem_of_getElem? (i := 219) (by decide +kernel)
theorem n_ne_8_12 : Cond.not (Cond.eq (nLit 8) (nLit 12)) ∈ nFl := List.mem_of_getElem? (i := 220) (by decide +kernel)
theorem n_ne_9_12 : Cond.not (Cond.eq (nLit 9) (nLit 12)) ∈ nFl := List.mem_of_getElem? (i := 221) (by decide +kernel)
theorem n_ne_10_12 : Cond.not (Cond.eq (nLit 10) (nLit 12)) ∈ nFl := List.mem_of_getElem? (i := 222) (by decide +kernel)
theorem n_ne_11_12 : Cond.not (Cond.eq (nLit 11) (nLit 12)) ∈ nFl := List.mem_of_getElem? (i := 223) (by decide +kernel)
theorem n_ne_1_13 : Cond.not (Cond.eq (nLit 1) (nLit 13)) ∈ nFl := List.mem_of_getElem? (i := 234) (by decide +kernel)
theorem n_ne_2_13 : Cond.not (Cond.eq (nLit 2) (nLit 13)) ∈ nFl := List.mem_of_getElem? (i := 235) (by decide +kernel)
theorem n_ne_3_13 : Cond.not (Cond.eq (nLit 3) (nLit 13)) ∈ nFl := List.mem_of_getElem? (i := 236) (by decide +kernel)
theorem n_ne_4_13 : Cond.not (Cond.eq (nLit 4) (nLit 13)) ∈ nFl := List.mem_of_getElem? (i := 237) (by decide +kernel)
theorem n_ne_0_13 : Cond.not (Cond.eq (nLit 0) (nLit 13)) ∈ nFl := List.mem_of_getElem? (i := 238) (by decide +kernel)
theorem n_ne_5_13 : Cond.not (Cond.eq (nLit 5) (nLit 13)) ∈ nFl := List.mem_of_getElem? (i := 239) (by decide +kernel)
theorem n_ne_6_13 : Cond.not (Cond.eq (nLit 6) (nLit 13)) ∈ nFl := List.mem_of_getElem? (i := 240) (by decide +kernel)
theorem n_ne_7_13 : Cond.not (Cond.eq (nLit 7) (nLit 13)) ∈ nFl := List.mem_of_getElem? (i := 241) (by decide +kernel)
theorem n_ne_8_13 : Cond.not (Cond.eq (nLit 8) (nLit 13)) ∈ nFl := List.mem_of_getElem? (i := 242) (by decide +kernel)
theorem n_ne_9_13 : Cond.not (Cond.eq (nLit 9) (nLit 13)) ∈ nFl := List.mem_of_getElem? (i := 243) (by decide +kernel)
theorem n_ne_10_13 : Cond.not (Cond.eq (nLit 10) (nLit 13)) ∈ nFl := List.mem_of_getElem? (i := 244) (by decide +kernel)
theorem n_ne_11_13 : Cond.not (Cond.eq (nLit 11) (nLit 13)) ∈ nFl := List.mem_of_getElem? (i := 245) (by decide +kernel)
theorem n_ne_12_13 : Cond.not (Cond.eq (nLit 12) (nLit 13)) ∈ nFl := List.mem_of_getElem? (i := 246) (by decide +kernel)
theorem n_ne : ∀ i, i < 14 → ∀ j, j < 14 → i ≠ j → Cond.not (Cond.eq (nLit i) (nLit j)) ∈ nFl ∨ Cond.not (Cond.eq (nLit j) (nLit i)) ∈ nFl := fun i hi j hj hij => by
  match i, hi, j, hj, hij with
  | 0, _, 0, _, h => exact absurd rfl h
  | 0, _, 1, _, _ => exact Or.inr n_ne_1_0
  | 0, _, 2, _, _ => exact Or.inr n_ne_2_0
  | 0, _, 3, _, _ => exact Or.inr n_ne_3_0
  | 0, _, 4, _, _ => exact Or.inr n_ne_4_0
  | 0, _, 5, _, _ => exact Or.inl n_ne_0_5
  | 0, _, 6, _, _ => exact Or.inl n_ne_0_6
  | 0, _, 7, _, _ => exact Or.inl n_ne_0_7
  | 0, _, 8, _, _ => exact Or.inl n_ne_0_8
  | 0, _, 9, _, _ => exact Or.inl n_ne_0_9
  | 0, _, 10, _, _ => exact Or.inl n_ne_0_10
  | 0, _, 11, _, _ => exact Or.inl n_ne_0_11
  | 0, _, 12, _, _ => exact Or.inl n_ne_0_12
  | 0, _, 13, _, _ => exact Or.inl n_ne_0_13
  | 1, _, 0, _, _ => exact Or.inl n_ne_1_0
  | 1, _, 1, _, h => exact absurd rfl h
  | 1, _, 2, _, _ => exact Or.inl n_ne_1_2
  | 1, _, 3, _, _ => exact Or.inl n_ne_1_3
  | 1, _, 4, _, _ => exact Or.inl n_ne_1_4
  | 1, _, 5, _, _ => exact Or.inl n_ne_1_5
  | 1, _, 6, _, _ => exact Or.inl n_ne_1_6
  | 1, _, 7, _, _ => exact Or.inl n_ne_1_7
  | 1, _, 8, _, _ => exact Or.inl n_ne_1_8
  | 1, _, 9, _, _ => exact Or.inl n_ne_1_9
  | 1, _, 10, _, _ => exact Or.inl n_ne_1_10
  | 1, _, 11, _, _ => exact Or.inl n_ne_1_11
  | 1, _, 12, _, _ => exact Or.inl n_ne_1_12
  | 1, _, 13, _, _ => exact Or.inl n_ne_1_13
  | 2, _, 0, _, _ => exact Or.inl n_ne_2_0
  | 2, _, 1, _, _ => exact Or.inr n_ne_1_2
  | 2, _, 2, _, h => exact absurd rfl h
  | 2, _, 3, _, _ => exact Or.inl n_ne_2_3
  | 2, _, 4, _, _ => exact Or.inl n_ne_2_4
  | 2, _, 5, _, _ => exact Or.inl n_ne_2_5
  | 2, _, 6, _, _ => exact Or.inl n_ne_2_6
  | 2, _, 7, _, _ => exact Or.inl n_ne_2_7
  | 2, _, 8, _, _ => exact Or.inl n_ne_2_8
  | 2, _, 9, _, _ => exact Or.inl n_ne_2_9
  | 2, _, 10, _, _ => exact Or.inl n_ne_2_10
  | 2, _, 11, _, _ => exact Or.inl n_ne_2_11
  | 2, _, 12, _, _ => exact Or.inl n_ne_2_12
  | 2, _, 13, _, _ => exact Or.inl n_ne_2_13
  | 3, _, 0, _, _ => exact Or.inl n_ne_3_0
  | 3, _, 1, _, _ => exact Or.inr n_ne_1_3
  | 3, _, 2, _, _ => exact Or.inr n_ne_2_3
  | 3, _, 3, _, h => exact absurd rfl h
  | 3, _, 4, _, _ => exact Or.inl n_ne_3_4
  | 3, _, 5, _, _ => exact Or.inl n_ne_3_5
  | 3, _, 6, _, _ => exact Or.inl n_ne_3_6
  | 3, _, 7, _, _ => exact Or.inl n_ne_3_7
  | 3, _, 8, _, _ => exact Or.inl n_ne_3_8
  | 3, _, 9, _, _ => exact Or.inl n_ne_3_9
  | 3, _, 10, _, _ => exact Or.inl n_ne_3_10
  | 3, _, 11, _, _ => exact Or.inl n_ne_3_11
  | 3, _, 12, _, _ => exact Or.inl n_ne_3_12
  | 3, _, 13, _, _ => exact Or.inl n_ne_3_13
  | 4, _, 0, _, _ => exact Or.inl n_ne_4_0
  | 4, _, 1, _, _ => exact Or.inr n_ne_1_4
  | 4, _, 2, _, _ => exact Or.inr n_ne_2_4
  | 4, _, 3, _, _ => exact Or.inr n_ne_3_4
  | 4, _, 4, _, h => exact absurd rfl h
  | 4, _, 5, _, _ => exact Or.inl n_ne_4_5
  | 4, _, 6, _, _ => exact Or.inl n_ne_4_6
  | 4, _, 7, _, _ => exact Or.inl n_ne_4_7
  | 4, _, 8, _, _ => exact Or.inl n_ne_4_8
  | 4, _, 9, _, _ => exact Or.inl n_ne_4_9
  | 4, _, 10, _, _ => exact Or.inl n_ne_4_10
  | 4, _, 11, _, _ => exact Or.inl n_ne_4_11
  | 4, _, 12, _, _ => exact Or.inl n_ne_4_12
  | 4, _, 13, _, _ => exact Or.inl n_ne_4_13
  | 5, _, 0, _, _ => exact Or.inr n_ne_0_5
  | 5, _, 1, _, _ => exact Or.inr n_ne_1_5
  | 5, _, 2, _, _ => exact Or.inr n_ne_2_5
  | 5, _, 3, _, _ => exact Or.inr n_ne_3_5
  | 5, _, 4, _, _ => exact Or.inr n_ne_4_5
  | 5, _, 5, _, h => exact absurd rfl h
  | 5, _, 6, _, _ => exact Or.inl n_ne_5_6
  | 5, _, 7, _, _ => exact Or.inl n_ne_5_7
  | 5, _, 8, _, _ => exact Or.inl n_ne_5_8
  | 5, _, 9, _, _ => exact Or.inl n_ne_5_9
  | 5, _, 10, _, _ => exact Or.inl n_ne_5_10
  | 5, _, 11, _, _ => exact Or.inl n_ne_5_11
  | 5, _, 12, _, _ => exact Or.inl n_ne_5_12
  | 5, _, 13, _, _ => exact Or.inl n_ne_5_13
  | 6, _, 0, _, _ => exact Or.inr n_ne_0_6
  | 6, _, 1, _, _ => exact Or.inr n_ne_1_6
  | 6, _, 2, _, _ => exact Or.inr n_ne_2_6
  | 6, _, 3, _, _ => exact Or.inr n_ne_3_6
  | 6, _, 4, _, _ => exact Or.inr n_ne_4_6
  | 6, _, 5, _, _ => exact Or.inr n_ne_5_6
  | 6, _, 6, _, h => exact absurd rfl h
  | 6, _, 7, _, _ => exact Or.inl n_ne_6_7
  | 6, _, 8, _, _ => exact Or.inl n_ne_6_8
  | 6, _, 9, _, _ => exact Or.inl n_ne_6_9
  | 6, _, 10, _, _ => exact Or.inl n_ne_6_10
  | 6, _, 11, _, _ => exact Or.inl n_ne_6_11
  | 6, _, 12, _, _ => exact Or.inl n_ne_6_12
  | 6, _, 13, _, _ => exact Or.inl n_ne_6_13
  | 7, _, 0, _, _ => exact Or.inr n_ne_0_7
  | 7, _, 1, _, _ => exact Or.inr n_ne_1_7
  | 7, _, 2, _, _ => exact Or.inr n_ne_2_7
  | 7, _, 3, _, _ => exact Or.inr n_ne_3_7
  | 7, _, 4, _, _ => exact Or.inr n_ne_4_7
  | 7, _, 5, _, _ => exact Or.inr n_ne_5_7
  | 7, _, 6, _, _ => exact Or.inr n_ne_6_7
  | 7, _, 7, _, h => exact absurd rfl h
  | 7, _, 8, _, _ => exact Or.inl n_ne_7_8
  | 7, _, 9, _, _ => exact Or.inl n_ne_7_9
  | 7, _, 10, _, _ => exact Or.inl n_ne_7_10
  | 7, _, 11, _, _ => exact Or.inl n_ne_7_11
  | 7, _, 12, _, _ => exact Or.inl n_ne_7_12
  | 7, _, 13, _, _ => exact Or.inl n_ne_7_13
  | 8, _, 0, _, _ => exact Or.inr n_ne_0_8
  | 8, _, 1, _, _ => exact Or.inr n_ne_1_8
  | 8, _, 2, _, _ => exact Or.inr n_ne_2_8
  | 8, _, 3, _, _ => exact Or.inr n_ne_3_8
  | 8, _, 4, _, _ => exact Or.inr n_ne_4_8
  | 8, _, 5, _, _ => exact Or.inr n_ne_5_8
  | 8, _, 6, _, _ => exact Or.inr n_ne_6_8
  | 8, _, 7, _, _ => exact Or.inr n_ne_7_8
  | 8, _, 8, _, h => exact absurd rfl h
  | 8, _, 9, _, _ => exact Or.inl n_ne_8_9
  | 8, _, 10, _, _ => exact Or.inl n_ne_8_10
  | 8, _, 11, _, _ => exact Or.inl n_ne_8_11
  | 8, _, 12, _, _ => exact Or.inl n_ne_8_12
  | 8, _, 13, _, _ => exact Or.inl n_ne_8_13
  | 9, _, 0, _, _ => exact Or.inr n_ne_0_9
  | 9, _, 1, _, _ => exact Or.inr n_ne_1_9
  | 9, _, 2, _, _ => exact Or.inr n_ne_2_9
  | 9, _, 3, _, _ => exact Or.inr n_ne_3_9
  | 9, _, 4, _, _ => exact Or.inr n_ne_4_9
  | 9, _, 5, _, _ => exact Or.inr n_ne_5_9
  | 9, _, 6, _, _ => exact Or.inr n_ne_6_9
  | 9, _, 7, _, _ => exact Or.inr n_ne_7_9
  | 9, _, 8, _, _ => exact Or.inr n_ne_8_9
  | 9, _, 9, _, h => exact absurd rfl h
  | 9, _, 10, _, _ => exact Or.inl n_ne_9_10
  | 9, _, 11, _, _ => exact Or.inl n_ne_9_11
  | 9, _, 12, _, _ => exact Or.inl n_ne_9_12
  | 9, _, 13, _, _ => exact Or.inl n_ne_9_13
  | 10, _, 0, _, _ => exact Or.inr n_ne_0_10
  | 10, _, 1, _, _ => exact Or.inr n_ne_1_10
  | 10, _, 2, _, _ => exact Or.inr n_ne_2_10
  | 10, _, 3, _, _ => exact Or.inr n_ne_3_10
  | 10, _, 4, _, _ => exact Or.inr n_ne_4_10
  | 10, _, 5, _, _ => exact Or.inr n_ne_5_10
  | 10, _, 6, _, _ => exact Or.inr n_ne_6_10
  | 10, _, 7, _, _ => exact Or.inr n_ne_7_10
  | 10, _, 8, _, _ => exact Or.inr n_ne_8_10
  | 10, _, 9, _, _ => exact Or.inr n_ne_9_10
  | 10, _, 10, _, h => exact absurd rfl h
  | 10, _, 11, _, _ => exact Or.inl n_ne_10_11
  | 10, _, 12, _, _ => exact Or.inl n_ne_10_12
  | 10, _, 13, _, _ => exact Or.inl n_ne_10_13
  | 11, _, 0, _, _ => exact Or.inr n_ne_0_11
  | 11, _, 1, _, _ => exact Or.inr n_ne_1_11
  | 11, _, 2, _, _ => exact Or.inr n_ne_2_11
  | 11, _, 3, _, _ => exact Or.inr n_ne_3_11
  | 11, _, 4, _, _ => exact Or.inr n_ne_4_11
  | 11, _, 5, _, _ => exact Or.inr n_ne_5_11
  | 11, _, 6, _, _ => exact Or.inr n_ne_6_11
  | 11, _, 7, _, _ => exact Or.inr n_ne_7_11
  | 11, _, 8, _, _ => exact Or.inr n_ne_8_11
  | 11, _, 9, _, _ => exact Or.inr n_ne_9_11
  | 11, _, 10, _, _ => exact Or.inr n_ne_10_11
  | 11, _, 11, _, h => exact absurd rfl h
  | 11, _, 12, _, _ => exact Or.inl n_ne_11_12
  | 11, _, 13, _, _ => exact Or.inl n_ne_11_13
  | 12, _, 0, _, _ => exact Or.inr n_ne_0_12
  | 12, _, 1, _, _ => exact Or.inr n_ne_1_12
  | 12, _, 2, _, _ => exact Or.inr n_ne_2_12
  | 12, _, 3, _, _ => exact Or.inr n_ne_3_12
  | 12, _, 4, _, _ => exact Or.inr n_ne_4_12
  | 12, _, 5, _, _ => exact Or.inr n_ne_5_12
  | 12, _, 6, _, _ => exact Or.inr n_ne_6_12
  | 12, _, 7, _, _ => exact Or.inr n_ne_7_12
  | 12, _, 8, _, _ => exact Or.inr n_ne_8_12
  | 12, _, 9, _, _ => exact Or.inr n_ne_9_12
  | 12, _, 10, _, _ => exact Or.inr n_ne_10_12
  | 12, _, 11, _, _ => exact Or.inr n_ne_11_12
  | 12, _, 12, _, h => exact absurd rfl h
  | 12, _, 13, _, _ => exact Or.inl n_ne_12_13
  | 13, _, 0, _, _ => exact Or.inr n_ne_0_13
  | 13, _, 1, _, _ => exact Or.inr n_ne_1_13
  | 13, _, 2, _, _ => exact Or.inr n_ne_2_13
  | 13, _, 3, _, _ => exact Or.inr n_ne_3_13
  | 13, _, 4, _, _ => exact Or.inr n_ne_4_13
  | 13, _, 5, _, _ => exact Or.inr n_ne_5_13
  | 13, _, 6, _, _ => exact Or.inr n_ne_6_13
  | 13, _, 7, _, _ => exact Or.inr n_ne_7_13
  | 13, _, 8, _, _ => exact Or.inr n_ne_8_13
  | 13, _, 9, _, _ => exact Or.inr n_ne_9_13
  | 13, _, 10, _, _ => exact Or.inr n_ne_10_13
  | 13, _, 11, _, _ => exact Or.inr n_ne_11_13
  | 13, _, 12, _, _ => exact Or.inr n_ne_12_13
  | 13, _, 13, _, h => exact absurd rfl h
  | i + 14, h, _, _, _ => exact absurd h (by omega)
  | _, _, j + 14, h, _ => exact absurd h (by omega)
theorem n_e1 : Cond.arrayOf (.static "java/util/ArrayList" "DEFAULTCAPACITY_EMPTY_ELEMENTDATA" "[Ljava/lang/Object;") (.object "java/lang/Object") ∈ nFl := by decide +kernel
theorem n_e2 : Cond.eq (.length (.static "java/util/ArrayList" "DEFAULTCAPACITY_EMPTY_ELEMENTDATA" "[Ljava/lang/Object;")) (.int 0) ∈ nFl := by decide +kernel
theorem n_mi : Cond.isRef (.mirror "[Ljava/lang/Object;") ∈ nFl := by decide +kernel
theorem n_sr : ∀ i, i < 14 → Cond.stringRef "LastWordWood$Reader" (litT i).1 (litT i).2 ∈ lw_tbl := fun i hi => by
  match i, hi with
  | 0, _ => exact q455
  | 1, _ => exact q399
  | 2, _ => exact q452
  | 3, _ => exact q453
  | 4, _ => exact q454
  | 5, _ => exact q460
  | 6, _ => exact q461
  | 7, _ => exact q462
  | 8, _ => exact q463
  | 9, _ => exact q464
  | 10, _ => exact q465
  | 11, _ => exact q466
  | 12, _ => exact q467
  | 13, _ => exact q468
  | i + 14, h => exact absurd h (by omega)
/-- the layer's context at the law's start -/
theorem start_G (htb : ∀ w ∈ lw_tbl, w.before #[Value.ref b] s = true) (hgv : (Jvm.Cond.and given_1 narrow_1).before #[Value.ref b] s = true) : ∃ G : GG, G.2.2.1 = s.heap ∧ Cx G s := by
  have hts : ∀ w ∈ lw_all, w.before #[Value.ref b] s = true := fun w hw => htb w (lw_all_tbl hw)
  have hn := flat_of_before _ hgv
  have hA : ∀ a : Nat, a < s.heap.size → ¬ (fun q => s.heap.size ≤ q) a := fun a ha => by show ¬ s.heap.size ≤ a; omega
  obtain ⟨D, hD⟩ := Classical.axiomOfChoice (kinds_at hts)
  obtain ⟨c0, a0, b0⟩ := arr_prim (hts _ q163)
  obtain ⟨c1, a1, b1⟩ := arr_prim (hts _ q162)
  obtain ⟨c2, a2, b2⟩ := arr_arr (htb _ q133)
  obtain ⟨c3, a3, b3⟩ := arr_obj (htb _ q135)
  obtain ⟨c4, a4, b4⟩ := arr_obj (htb _ q290)
  obtain ⟨c5, a5, b5⟩ := arr_obj (htb _ q694)
  obtain ⟨ea, he, hT⟩ := va_Tof (A := fun q => s.heap.size ≤ q) (N := 0) (f := fun _ => .null) (by decide) (hn _ n_e1) (va_eqt (hn _ n_e2)) (fun j hj => absurd hj (by omega)) hA
  have hZ := va_Zof (A := fun q => s.heap.size ≤ q) (htb _ q149) (hts _ q95) he hA
  obtain ⟨mi, hM⟩ := va_Mi.of (hn _ n_mi)
  obtain ⟨adK, adV, hS, hev⟩ := vk_Sof (args := #[Value.ref b]) (s := s) (N := 14) (tm := nLit) (len := litL) (byt := litB) (A := fun q => s.heap.size ≤ q) (by decide) (fun i hi => hn _ (n_ex i hi)) (fun i hi => hn _ (n_co i hi)) (fun i hi => hn _ (n_ar i hi)) (fun i hi => hn _ (n_le i hi)) (fun i hi j hj => hn _ (n_el i hi j hj)) (fun i j hi hj hij => (n_ne i hi j hj hij).imp (hn _) (hn _)) hA
  let dA : Nat → ClassId := fun t => if t = 0 then c0 else if t = 1 then c1 else if t = 2 then c2 else if t = 3 then c3 else if t = 4 then c4 else c5
  let cst : Nat → Nat := fun k => if k = 0 then ea else if k = 40 then mi else if k < 20 then adK (k - 1) else adV (k - 20)
  have eK : ∀ i, i < 14 → cst (1 + i) = adK i := fun i hi => by
    show (if 1 + i = 0 then ea else if 1 + i = 40 then mi else if 1 + i < 20 then adK (1 + i - 1) else adV (1 + i - 20)) = adK i
    rw [if_neg (by omega), if_neg (by omega), if_pos (by omega), show 1 + i - 1 = i from by omega]
  have eV : ∀ i, i < 14 → cst (20 + i) = adV i := fun i hi => by
    show (if 20 + i = 0 then ea else if 20 + i = 40 then mi else if 20 + i < 20 then adK (20 + i - 1) else adV (20 + i - 20)) = adV i
    rw [if_neg (by omega), if_neg (by omega), if_neg (by omega), show 20 + i - 20 = i from by omega]
  refine ⟨((fun c => (D c).1, fun c => (D c).2), dA, s.heap, cst), rfl, s, b, rfl, State.WarmedH.refl _, htb, hgv, ⟨fun c q hq => hD c q hq, fun k q hk => ?_⟩, ⟨hZ, hT, hM⟩, fun i hi => ?_, ?_⟩
  · match k, hk with
    | 0, hk => cases hk; exact ⟨a0, b0⟩
    | 1, hk => cases hk; exact ⟨a1, b1⟩
    | 2, hk => cases hk; exact ⟨a2, b2⟩
    | 3, hk => cases hk; exact ⟨a3, b3⟩
    | 4, hk => cases hk; exact ⟨a4, b4⟩
    | 5, hk => cases hk; exact ⟨a5, b5⟩
    | k + 6, hk =>
      rw [List.getElem?_eq_none (by show 6 ≤ k + 6; omega)] at hk
      cases hk
  · show vk_R "LastWordWood$Reader" (litT i).1 (litT i).2 (cst (1 + i)) s
    rw [eK i hi]
    exact vk_R.of (htb _ (n_sr i hi)) (hev i hi)
  · exact vkS_cg hS eK eV
end ST
