set_option maxRecDepth 100000
/-! AN ARRAY OF ARRAYS MADE; an array's cell known by fewer places -/
theorem arrV_cg {c : ClassId} {N : Nat} {f g : Nat → Value} (h : ∀ j, j < N → f j = g j) : arrV c N f = arrV c N g := by
  have e : (fun j : Fin N => f j.val) = fun j => g j.val := funext fun j => h j.val j.isLt
  unfold arrV
  rw [e]
theorem outer_arr (c : ClassId) (N h0 : Nat) : ∀ i, Jvm.Free.Multi.outerC c N h0 i = arrV c N (fun j => if j < i then .ref (h0 + 1 + j) else .null)
  | 0 => by
    show ({ cls := c, slots := Array.replicate N .null, vm := .none } : Cell) = _
    rw [arrV_new]
    rfl
  | i + 1 => by
    show (Jvm.Free.Multi.outerC c N h0 i).setSlot i (.ref (h0 + 1 + i)) = _
    rw [outer_arr c N h0 i, arrV_store]
    refine arrV_cg (fun j hj => ?_)
    unfold updV
    by_cases e : j = i
    · subst e
      rw [if_pos rfl, if_pos (by omega)]
    · rw [if_neg e]
      dsimp only
      by_cases q : j < i
      · rw [if_pos q, if_pos (by omega)]
      · rw [if_neg q, if_neg (by omega)]
theorem aoA_spec {A : Array Value} {s : State} (h : (Cond.arrayOver (.array .int)).before A s = true) :
    ∃ comp c k, s.vm.findClass (FieldType.array .int).toString = some comp ∧ (s.vm.classes.findIdx? fun (x : Class) => match x.kind with | .array component _ => component == comp | _ => false) = some c ∧ s.vm.classes[c]? = some k ∧ k.kind = .array comp (.array .int) ∧ s.vm.findClass ("[" ++ (FieldType.array .int).toString) = some c := by
  simp only [Cond.before, Cond.holds, Cond.value, beq_iff_eq] at h
  cases hc : s.vm.findClass (FieldType.array .int).toString with
  | none => simp [hc] at h
  | some comp =>
    simp only [hc, Option.bind_some, Option.bind_eq_some_iff, Option.map_eq_some_iff] at h
    obtain ⟨c, hi, k, hk, hb⟩ := h
    obtain ⟨hlt, hp, -⟩ := Array.findIdx?_eq_some_iff_getElem.mp hi
    have hkk : s.vm.classes[c] = k := (Array.getElem?_eq_some_iff.mp hk).2
    rw [hkk] at hp
    cases hkind : k.kind with
    | array component ty =>
      rw [hkind] at hb hp
      simp at hb hp
      exact ⟨comp, c, k, rfl, hi, hk, by rw [hkind, hp, hb.1], hb.2⟩
    | _ => rw [hkind] at hb; simp at hb
theorem aoA_moved {A A' : Array Value} {u U : State} (hvm : u.vm.Alike U.vm) (h : (Cond.arrayOver (.array .int)).before A u = true) : (Cond.arrayOver (.array .int)).before A' U = true := by
  obtain ⟨comp, c, k, h1, h2, h3, h4, h5⟩ := aoA_spec h
  obtain ⟨k', hk', he⟩ := hvm.2.2 _ _ h3
  have hi : (U.vm.classes.findIdx? fun (x : Class) => match x.kind with | .array component _ => component == comp | _ => false) = some c := by
    have e := va_idx_bare u.vm comp
    have e' := va_idx_bare U.vm comp
    first | rw [hvm.bare_eq] at e' | rw [← hvm.bare_eq] at e'
    exact (e'.symm.trans e).trans h2
  have hkind : k'.kind = .array comp (.array .int) := by rw [he]; exact h4
  have f1 : U.vm.findClass (FieldType.array .int).toString = some comp := by rw [hvm.findClass]; exact h1
  have f2 : U.vm.findClass ("[" ++ (FieldType.array .int).toString) = some c := by rw [hvm.findClass]; exact h5
  simp only [Cond.before, Cond.holds, Cond.value, f1, Option.bind_some, beq_iff_eq]
  rw [Option.bind_eq_some_iff]
  refine ⟨c, hi, ?_⟩
  simp [hk', hkind, f2]
section XG
variable {l : Launch} {G : GG} {M : Mth} {rm : Room} {TG : List Frame → Array Value → State → Program → Env → MethodId → Method → Code → State → Prop} {cs ss pc z : Nat} {L : LL} {st st2 : List Value} {h : AH} {pg : List IE} {idx : Nat} {v0 : Int32} {t0 : Nat} {r0 : List IE}
/-- n rows of k ints each -/
def grd (G : GG) (h : AH) (z n k : Nat) : AH := fun a => if a = z then some (aR G 2 n (fun i => some (z + (1 + i)))) else if z < a ∧ a < z + (1 + n) then some (aI G k (fun _ => 0)) else h a
theorem X.newG {n k : Nat} (hpg : PgOk M pg) (hsk : seek pg pc = (pc, .multianewarray idx 2, 4, v0, t0) :: r0) (hcl : Cond.classLink M.1.cls idx "[[I" ∈ lw_all) (hst : st = .int (nI k) :: .int (nI n) :: st2) (hn : n ≤ 1000) (hk : k ≤ 1000) (hcells : cs + (1 + n) ≤ rm.cells) (hslots : ss + (n + n * k) ≤ rm.slots)
    (kk : ∀ h', h' = grd G h z n k → X l G M rm TG (cs + 1 + n) (ss + n + n * k) (pc + 4) L (.ref z :: st2) h' (z + (1 + n))) : X l G M rm TG cs ss pc L st h z := by
  intro p e s m args below meth c H locs ls E C0 R hq hl
  obtain ⟨hx, hb0, hr0, hlk, hml, hown, hts, hnm⟩ := E
  subst hst
  have hz : H.size = z := R.1
  have en : (nI n).toNatClampNeg = n := nI_clamp (by omega)
  have ek : (nI k).toNatClampNeg = k := nI_clamp (by omega)
  obtain ⟨s0, b0, e0, hW, htb, -⟩ := C0.nar
  intro T hT X9
  obtain ⟨vm₁, cA, comp, hW1, hfA, hfC, -, -, X1, step⟩ := X9.multianewarray2F hx hown (ty := .int) (index := idx) (hts _ hcl) (aoA_moved hW.alike (htb _ q133)) (hts _ q163) (g := F0 m pc ls (.int (nI k) :: .int (nI n) :: st2)) rfl (by rw [hb0]; exact pg_at hpg hsk) (n := nI n) (k := nI k) (rest := st2) rfl (nI_pos (by omega)) (nI_pos (by omega)) (by rw [en]; omega) (by rw [ek]; show k * 4 ≤ _; omega) (by rw [ek]; omega) rfl rfl (by rw [en]; exact hcells) (by rw [en, ek]; exact hslots)
  rw [en, ek] at X1 step
  have hTz : T.heap.size = z := by rw [hT]; exact hz
  have cA2 : cA = G.2.1 2 := by
    have h8 : s.vm.findClass ("[" ++ (FieldType.array .int).toString) = some (G.2.1 2) := (C0.K.2 2 (G.2.1 2, .array .int) rfl).2
    exact Option.some.inj (hfA.symm.trans h8)
  have cI2 : comp = G.2.1 0 := by
    have h8 : s.vm.findClass ("[" ++ FieldType.int.toString) = some (G.2.1 0) := (C0.K.2 0 (G.2.1 0, .int) rfl).2
    exact Option.some.inj (hfC.symm.trans h8)
  subst cA2
  subst cI2
  obtain ⟨f1, f2, f3, f4⟩ := Jvm.Free.Multi.fill_facts (T.setVm vm₁) (G.2.1 2) (G.2.1 0) n k (defaultValue .int) n
  have fo := fun (a : Nat) (ha : a < T.heap.size) => Jvm.Free.Multi.fill_old (T.setVm vm₁) (G.2.1 2) (G.2.1 0) n k (defaultValue .int) (a := a) ha n
  have fi := fun (j : Nat) (hj : j < n) => Jvm.Free.Multi.fill_inner (T.setVm vm₁) (G.2.1 2) (G.2.1 0) n k (defaultValue .int) n j hj
  generalize hF : Jvm.Free.Multi.fill (T.setVm vm₁) (G.2.1 2) (G.2.1 0) n k (defaultValue .int) n = U at f1 f2 f3 f4 fo fi X1 step
  have f1 : U.heap.size = z + 1 + n := by rw [← hTz]; exact f1
  have f2 : U.heap[z]? = some (Jvm.Free.Multi.outerC (G.2.1 2) n z n) := by rw [← hTz]; exact f2
  have fo : ∀ a, a < z → U.heap[a]? = H[a]? := fun a ha => by rw [fo a (by omega)]; show T.heap[a]? = H[a]?; rw [hT]
  have fi : ∀ j, j < n → U.heap[z + 1 + j]? = some (Jvm.Free.Multi.innerC (G.2.1 0) k (.int 0)) := fun j hj => by rw [← hTz]; exact fi j hj
  have hR : Rp G (grd G h z n k) (z + (1 + n)) U.heap := by
    refine ⟨by omega, by have := R.2.1; omega, fun q hq => by rw [fo q (by have := R.2.1; omega)]; exact R.2.2.1 q hq, fun a e9 ha => ?_⟩
    unfold grd at ha
    by_cases q1 : a = z
    · rw [if_pos q1] at ha
      cases ha
      subst q1
      show U.heap[a]? = some (vp_cell _ _)
      rw [f2, vp_cell_q, outer_arr]
      congr 1
      refine arrV_cg (fun j hj => ?_)
      rw [if_pos hj]
      show Value.ref (a + 1 + j) = Value.ref (a + (1 + j))
      rw [Nat.add_assoc]
    · rw [if_neg q1] at ha
      by_cases q2 : z < a ∧ a < z + (1 + n)
      · rw [if_pos q2] at ha
        cases ha
        obtain ⟨j, hj, rfl⟩ : ∃ j, j < n ∧ a = z + 1 + j := ⟨a - z - 1, by omega, by omega⟩
        show U.heap[z + 1 + j]? = some (vp_cell _ _)
        rw [fi j hj, vp_cell_i]
        congr 1
        show ({ cls := G.2.1 0, slots := Array.replicate k (.int 0), vm := .none } : Cell) = _
        rw [arrV_new]
      · rw [if_neg q2] at ha
        have h2 := R.2.2.2 a e9 ha
        exact h2.kept (fo a (R.lt ha))
  obtain ⟨t, a1, b1⟩ := kk _ rfl p e s m args below meth c U.heap locs ls ⟨hx, hb0, hr0, hlk, hml, hown, hts, hnm⟩ C0 hR hq hl U rfl X1
  refine ⟨t, step t ?_, b1⟩
  rw [hTz]
  exact a1
/-- a cell known under another name -/
theorem X.cong {a : Nat} {e1 e2 : va_E} (ha : h a = some e1) (hc : ∀ H, va_at G.1 CL (a, e1) H → va_at G.1 CL (a, e2) H) (k : X l G M rm TG cs ss pc L st (ahU h a e2) z) : X l G M rm TG cs ss pc L st h z := by
  intro p e s m args below meth c H locs ls E C0 R hq hl
  refine k p e s m args below meth c H locs ls E C0 ⟨R.1, R.2.1, R.2.2.1, fun b e9 hb => ?_⟩ hq hl
  by_cases q : b = a
  · subst q
    rw [ahU_s] at hb
    cases hb
    exact hc H (R.2.2.2 b _ ha)
  · rw [ahU_n q] at hb
    exact R.2.2.2 b e9 hb
theorem aR_cong {t n a : Nat} {f g : Nat → Option Nat} (h9 : ∀ j, j < n → f j = g j) : ∀ H, va_at G.1 CL (a, aR G t n f) H → va_at G.1 CL (a, aR G t n g) H := by
  intro H q
  have q : H[a]? = some (vp_cell _ _) := q
  show H[a]? = some (vp_cell _ _)
  rw [q, vp_cell_q, vp_cell_q]
  congr 1
  exact arrV_cg (fun j hj => by rw [h9 j hj])
end XG
