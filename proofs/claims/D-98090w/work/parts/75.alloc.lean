set_option maxRecDepth 100000
/-! ROWS THAT MAKE CELLS: an object, an array; a reference laid into an array; Object's constructor. -/
section XA
variable {l : Launch} {G : GG} {M : Mth} {rm : Room} {TG : List Frame → Array Value → State → Program → Env → MethodId → Method → Code → State → Prop} {cs ss pc z : Nat} {L : LL} {st : List Value} {h : AH} {pg r0 : List IE} {idx t0 : Nat} {v0 : Int32} {st2 : List Value}
theorem X.newO {C : String} {T : u_T} {N ci : Nat} {fs : List Value} (ty : Nat → FieldType) (hpg : PgOk M pg) (hsk : seek pg pc = (pc, .new idx, 3, v0, t0) :: r0) (hin : ∀ w ∈ u_ws C T N, w ∈ lw_all) (hty : ∀ k, k < N → parseFieldDescriptor (T k).2.2.1 = some (ty k)) (hcl : Cond.classLink M.1.cls idx C ∈ lw_all) (hinst : Cond.instantiable C N ∈ lw_all) (hini : Cond.initialized C ∈ lw_all) (hc : CL[ci]? = some (C, T, N)) (hfs : ∀ j, j < N → defaultValue (ty j) = vp_V fs j) (hcells : cs + 1 ≤ rm.cells) (hslots : ss + N ≤ rm.slots)
    (kk : ∀ h', h' = ahU h z (.inr (ci, fs)) → X l G M rm TG (cs + 1) (ss + N) (pc + 3) L (.ref z :: st) h' (z + 1)) : X l G M rm TG cs ss pc L st h z := by
  intro p e s m args below meth c H locs ls E C0 R hq hl
  obtain ⟨hx, hb0, hr0, hlk, hml, hown, hts, hnm⟩ := E
  have hKn := C0.K.1 ci _ hc
  have hz : H.size = z := R.1
  refine W.newcK hx hb0 hown (hts _ hcl) (hts _ hinst) (hts _ hini) rfl (pg_at hpg hsk) hcells hslots hKn.2.1 rfl fun H1 kC hkC e1 z1 o1 => ?_
  rw [hz] at e1 z1 o1
  have h9 := kk _ rfl p e s m args below meth c H1 locs ls ⟨hx, hb0, hr0, hlk, hml, hown, hts, hnm⟩ C0 (R.push ⟨_, hc, (u_born ty hts hin hKn hkC e1 hty).to hfs⟩ z1 o1) hq hl
  rw [← hz] at h9
  exact h9
theorem X.newI {N : Nat} {n : Int32} (hpg : PgOk M pg) (hsk : seek pg pc = (pc, .newarray .int, 2, v0, t0) :: r0) (hac : Cond.arrayClass .int ∈ lw_all) (hst : st = .int n :: st2) (hn : n = nI N) (hN : N ≤ 100000000) (hcells : cs + 1 ≤ rm.cells) (hslots : ss + N ≤ rm.slots)
    (kk : ∀ h', h' = ahU h z (aI G N (fun _ => 0)) → X l G M rm TG (cs + 1) (ss + N) (pc + 2) L (.ref z :: st2) h' (z + 1)) : X l G M rm TG cs ss pc L st h z := by
  intro p e s m args below meth c H locs ls E C0 R hq hl
  obtain ⟨hx, hb0, hr0, hlk, hml, hown, hts, hnm⟩ := E
  have hz : H.size = z := R.1
  subst hst
  subst hn
  refine va_newaK (atype := .int) (N := N) hx hb0 (hts _ hac) rfl (pg_at hpg hsk) rfl (nI_pos (by omega)) (nI_clamp (by omega)) (by show N * 4 ≤ _; omega) hcells hslots hz fun H1 cA e1 z1 o1 hAr hNm => ?_
  have hA := (C0.K.2 0 (G.2.1 0, .int) rfl).2
  have e2 : cA = G.2.1 0 := by
    have h8 : s.vm.findClass ("[" ++ FieldType.int.toString) = some (G.2.1 0) := hA
    exact Option.some.inj (hNm.symm.trans h8)
  subst e2
  exact kk _ rfl p e s m args below meth c H1 locs ls ⟨hx, hb0, hr0, hlk, hml, hown, hts, hnm⟩ C0 (R.push e1 z1 o1) hq hl
theorem X.newB {N : Nat} {n : Int32} (hpg : PgOk M pg) (hsk : seek pg pc = (pc, .newarray .byte, 2, v0, t0) :: r0) (hac : Cond.arrayClass .byte ∈ lw_all) (hst : st = .int n :: st2) (hn : n = nI N) (hN : N ≤ 100000000) (hcells : cs + 1 ≤ rm.cells) (hslots : ss + N ≤ rm.slots)
    (kk : ∀ h', h' = ahU h z (.inl (G.2.1 1, N, .inl (fun _ => 0))) → X l G M rm TG (cs + 1) (ss + N) (pc + 2) L (.ref z :: st2) h' (z + 1)) : X l G M rm TG cs ss pc L st h z := by
  intro p e s m args below meth c H locs ls E C0 R hq hl
  obtain ⟨hx, hb0, hr0, hlk, hml, hown, hts, hnm⟩ := E
  have hz : H.size = z := R.1
  subst hst
  subst hn
  refine va_newaK (atype := .byte) (N := N) hx hb0 (hts _ hac) rfl (pg_at hpg hsk) rfl (nI_pos (by omega)) (nI_clamp (by omega)) (by show N * 1 ≤ _; omega) hcells hslots hz fun H1 cA e1 z1 o1 hAr hNm => ?_
  have hA := (C0.K.2 1 (G.2.1 1, .byte) rfl).2
  have e2 : cA = G.2.1 1 := by
    have h8 : s.vm.findClass ("[" ++ FieldType.byte.toString) = some (G.2.1 1) := hA
    exact Option.some.inj (hNm.symm.trans h8)
  subst e2
  exact kk _ rfl p e s m args below meth c H1 locs ls ⟨hx, hb0, hr0, hlk, hml, hown, hts, hnm⟩ C0 (R.push e1 z1 o1) hq hl
theorem X.newR {C : String} {t N : Nat} {n : Int32} (hpg : PgOk M pg) (hsk : seek pg pc = (pc, .anewarray idx, 3, v0, t0) :: r0) (hcl : Cond.classLink M.1.cls idx C ∈ lw_all) (hov : Cond.arrayOver (.object C) ∈ lw_tbl) (ht : (TYS G.2.1)[t]? = some (G.2.1 t, .object C)) (hst : st = .int n :: st2) (hn : n = nI N) (hN : N ≤ 100000000) (hcells : cs + 1 ≤ rm.cells) (hslots : ss + N ≤ rm.slots)
    (kk : ∀ h', h' = ahU h z (aR G t N (fun _ => none)) → X l G M rm TG (cs + 1) (ss + N) (pc + 3) L (.ref z :: st2) h' (z + 1)) : X l G M rm TG cs ss pc L st h z := by
  intro p e s m args below meth c H locs ls E C0 R hq hl
  obtain ⟨hx, hb0, hr0, hlk, hml, hown, hts, hnm⟩ := E
  have hz : H.size = z := R.1
  subst hst
  subst hn
  have hcl0 : (nI N).toNatClampNeg = N := nI_clamp (by omega)
  refine W.anew hx hb0 hown (hts _ hcl) (va_AO.use (C0.over hov)) rfl (pg_at hpg hsk) rfl (nI_pos (by omega)) (by rw [hcl0]; omega) hcells (by rw [hcl0]; exact hslots) fun cA kA comp f1 f2 f3 f4 => ?_
  rw [hcl0, hz]
  have hA := (C0.K.2 t _ ht).2
  obtain ⟨kA', comp', g1, g2, g3, g4⟩ := hA
  have e2 : cA = G.2.1 t := Option.some.inj (f1.symm.trans g4)
  subst e2
  generalize hH1 : H.push ({ cls := G.2.1 t, slots := Array.replicate N .null, vm := .none } : Cell) = H1
  have z1 : H1.size = z + 1 := by rw [← hH1, Array.size_push, hz]
  have e1 : H1[z]? = some (arrV (G.2.1 t) N (fun _ => .null)) := by rw [← hH1, ← hz, Array.getElem?_push_size, ← arrV_new]
  have o1 : ∀ q : Nat, q < z → H1[q]? = H[q]? := fun q hq => by rw [← hH1, Array.getElem?_push, if_neg (Nat.ne_of_lt (by rw [hz]; exact hq))]
  exact kk _ rfl p e s m args below meth c H1 locs ls ⟨hx, hb0, hr0, hlk, hml, hown, hts, hnm⟩ C0 (R.push e1 z1 o1) hq hl
/-- Object's constructor -/
theorem X.objI {a : Nat} (hpg : PgOk M pg) (hsk : seek pg pc = (pc, .invokespecial idx, 3, v0, t0) :: r0) (h1 : Cond.methodLink M.1.cls idx Lib.objectInit ∈ lw_all) (h2 : Cond.instanceMethod Lib.objectInit ∈ lw_all) (h3 : Cond.code Lib.objectInit ⟨#[0xb1]⟩ 1 none ∈ lw_all) (hst : st = .ref a :: st2) (hf : 1 ≤ rm.frames) (hlo : (st2.map fun v => v.category).sum + 12 ≤ rm.locals)
    (kk : X l G M rm TG cs ss (pc + 3) L st2 h z) : X l G M rm TG cs ss pc L st h z := by
  intro p e s m args below meth c H locs ls E C0 R hq hl
  obtain ⟨hx, hb0, hr0, hlk, hml, hown, hts, hnm⟩ := E
  subst hst
  refine W.objInit hx hb0 hown (hts _ h1) (hts _ h2) (hts _ h3) rfl (by rw [hml]; exact hl.1) rfl (pg_at hpg hsk) hf (by show 2 * 0 + _ + 12 ≤ _; omega) ?_
  exact kk p e s m args below meth c H locs ls ⟨hx, hb0, hr0, hlk, hml, hown, hts, hnm⟩ C0 R hq hl
end XA
