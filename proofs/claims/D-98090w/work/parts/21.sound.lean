set_option maxRecDepth 100000
/-! THE STEPPER IS SOUND. -/
theorem lk_has {ls : Array Slot} {n i : Nat} {v : Value} : ∀ {L : LL}, lv_has ls n L → lk L i = some v → ls[i]? = some (.val v)
  | [], _, h => by cases h
  | (j, w) :: r, hl, h => by
    unfold lk at h
    cases hb : Nat.beq j i with
    | true =>
      rw [hb] at h
      have e1 : j = i := Nat.eq_of_beq_eq_true hb
      have e2 : w = v := Option.some.inj h
      subst e1; subst e2
      exact hl.2.2 (j, w) List.mem_cons_self
    | false =>
      rw [hb] at h
      exact lk_has (L := r) ⟨hl.1, hl.2.1, fun q hq => hl.2.2 q (List.mem_cons_of_mem _ hq)⟩ h
theorem clr_mem {i : Nat} : ∀ {L : LL} {q : Nat × Value}, q ∈ clr L i → q ∈ L.filter (fun q => !(q.1 == i) && !(q.1 + 1 == i && q.2.category == 2))
  | [], q, h => by cases h
  | (j, w) :: r, q, h => by
    unfold clr at h
    rw [List.filter_cons]
    cases hb : (!(j == i) && !(j + 1 == i && w.category == 2)) with
    | true =>
      rw [hb] at h
      rw [if_pos rfl]
      rcases List.mem_cons.mp h with e | e
      · exact List.mem_cons.mpr (Or.inl e)
      · exact List.mem_cons_of_mem _ (clr_mem e)
    | false =>
      rw [hb] at h
      rw [if_neg (by decide)]
      exact clr_mem h
theorem stL_mem {i : Nat} {v : Value} : ∀ {L : LL} {q : Nat × Value}, q ∈ stL L i v → q ∈ (i, v) :: L.filter (fun q => !(q.1 == i) && !(q.1 + 1 == i && q.2.category == 2))
  | [], q, h => h
  | (j, w) :: r, q, h => by
    unfold stL at h
    rw [List.filter_cons]
    cases hb : Nat.beq j i with
    | true =>
      rw [hb] at h
      have e1 : j = i := Nat.eq_of_beq_eq_true hb
      subst e1
      rw [if_neg (by simp)]
      rcases List.mem_cons.mp h with e | e
      · exact List.mem_cons.mpr (Or.inl e)
      · exact List.mem_cons_of_mem _ (clr_mem e)
    | false =>
      rw [hb] at h
      cases hc : (!(j == i) && !(j + 1 == i && w.category == 2)) with
      | true =>
        simp only [hc, cond_true, cond_false] at h
        rw [if_pos rfl]
        rcases List.mem_cons.mp h with e | e
        · exact List.mem_cons_of_mem _ (List.mem_cons.mpr (Or.inl e))
        · rcases List.mem_cons.mp (stL_mem e) with e | e
          · exact List.mem_cons.mpr (Or.inl e)
          · exact List.mem_cons_of_mem _ (List.mem_cons_of_mem _ e)
      | false =>
        simp only [hc, cond_true, cond_false] at h
        rw [if_neg (by decide)]
        exact stL_mem h
theorem stL_has {ls : Array Slot} {n i : Nat} {v : Value} {L : LL} (h : lv_has ls n ((i, v) :: L.filter (fun q => !(q.1 == i) && !(q.1 + 1 == i && q.2.category == 2)))) : lv_has ls n (stL L i v) :=
  ⟨h.1, h.2.1, fun q hq => h.2.2 q (stL_mem hq)⟩
theorem nthV_get : ∀ {fs : List Value} {k : Nat} {v : Value}, nthV fs k = some v → fs[k]? = some v
  | [], _, _, h => by cases h
  | _ :: _, 0, _, h => h
  | _ :: r, k + 1, v, h => by
    rw [List.getElem?_cons_succ]
    exact nthV_get (fs := r) h
theorem IX.vp {i : Int32} {n j : Nat} (h : IX i n j) : vp_in i n ∧ i.toNatClampNeg = j := by
  obtain ⟨rfl, h2, h3⟩ := h
  exact ⟨vp_in_nI h2 h3, nI_clamp (by omega)⟩
/-- a field's row is true: the object's kind, the field's number and type, the link -/
def FieldOk (own : String) (q : FtE) : Prop := ∃ (C : String) (T : u_T) (N : Nat) (ty0 : Nat → FieldType), CL[q.2.1]? = some (C, T, N) ∧ q.2.2.1 < N ∧ (∀ w ∈ u_ws C T N, w ∈ lw_all) ∧ (∀ k, k < N → parseFieldDescriptor (T k).2.2.1 = some (ty0 k)) ∧ (∀ a, a < N → ∀ b, b < N → a ≠ b → (T a).2.1 ≠ (T b).2.1) ∧ ty0 q.2.2.1 = q.2.2.2.1 ∧
  ((q.2.2.2.2 = 0 ∧ (T q.2.2.1).2.2.2 = false ∧ Cond.fieldLink own q.1 (T q.2.2.1).1 (T q.2.2.1).2.1 (T q.2.2.1).2.2.1 ∈ lw_all) ∨
   (q.2.2.2.2 = 1 ∧ (T q.2.2.1).2.2.2 = true ∧ (T q.2.2.1).1 = own ∧ Cond.fieldLink own q.1 (T q.2.2.1).1 (T q.2.2.1).2.1 (T q.2.2.1).2.2.1 ∈ lw_all) ∨
   (q.2.2.2.2 = 2 ∧ (T q.2.2.1).2.2.2 = false ∧ ∃ host, Cond.fieldLinkNest own q.1 (T q.2.2.1).1 (T q.2.2.1).2.1 (T q.2.2.1).2.2.1 host ∈ lw_tbl) ∨
   (q.2.2.2.2 = 3 ∧ ∃ host, Cond.fieldLinkNest own q.1 (T q.2.2.1).1 (T q.2.2.1).2.1 (T q.2.2.1).2.2.1 host ∈ lw_tbl) ∨
   (q.2.2.2.2 = 0 ∧ (T q.2.2.1).2.2.2 = false ∧ ∃ ref, Cond.fieldLink own q.1 ref (T q.2.2.1).2.1 (T q.2.2.1).2.2.1 ∈ lw_all ∧ Cond.sameField ref (T q.2.2.1).1 (T q.2.2.1).2.1 (T q.2.2.1).2.2.1 ∈ lw_all))
theorem ftF_mem : ∀ {ft : List FtE} {i : Nat} {x : Nat × Nat × FieldType × Nat}, ftF ft i = some x → (i, x) ∈ ft
  | [], _, _, h => by cases h
  | (j, y) :: r, i, x, h => by
    unfold ftF at h
    cases hb : Nat.beq j i with
    | true =>
      rw [hb] at h
      have e1 : j = i := Nat.eq_of_beq_eq_true hb
      have e2 : y = x := Option.some.inj h
      subst e1; subst e2
      exact List.mem_cons_self
    | false =>
      rw [hb] at h
      exact List.mem_cons_of_mem _ (ftF_mem h)
theorem ctF_mem : ∀ {ct : List (Nat × Int32)} {i : Nat} {x : Int32}, ctF ct i = some x → (i, x) ∈ ct
  | [], _, _, h => by cases h
  | (j, y) :: r, i, x, h => by
    unfold ctF at h
    cases hb : Nat.beq j i with
    | true =>
      rw [hb] at h
      have e1 : j = i := Nat.eq_of_beq_eq_true hb
      have e2 : y = x := Option.some.inj h
      subst e1; subst e2
      exact List.mem_cons_self
    | false =>
      rw [hb] at h
      exact List.mem_cons_of_mem _ (ctF_mem h)
section XR
variable {l : Launch} {G : GG} {M : Mth} {rm : Room} {TG : List Frame → Array Value → State → Program → Env → MethodId → Method → Code → State → Prop} {cs ss pc z : Nat} {L : LL} {r : List Value} {h : AH}
theorem X.stI {tgt : Nat} {x : Int32} {st : List Value} (hd : (∃ k : Fin 4, k.val = tgt ∧ decode M.2.1 pc = .ok (.istore_n k, 1)) ∨ decode M.2.1 pc = .ok (.istore tgt, 2)) {n : Nat} (hn : ((∃ k : Fin 4, decode M.2.1 pc = .ok (.istore_n k, 1)) → n = 1) ∧ (decode M.2.1 pc = .ok (.istore tgt, 2) → n = 2)) (ht : tgt < M.2.2.1) (k : X l G M rm TG cs ss (pc + n) (stL L tgt (.int x)) st h z) : X l G M rm TG cs ss pc L (.int x :: st) h z := by
  intro p e s m args below meth c H locs ls E C R hq hl
  rcases hd with ⟨k', hk, hd⟩ | hd
  · have e1 := hn.1 ⟨k', hd⟩
    subst e1
    exact lv_istore_n E.1 E.2.1 hd hk hl ht rfl (fun ls' hl' => k p e s m args below meth c H locs ls' E C R hq (stL_has hl'))
  · have e1 := hn.2 hd
    subst e1
    exact lv_istore E.1 E.2.1 hd hl ht rfl (fun ls' hl' => k p e s m args below meth c H locs ls' E C R hq (stL_has hl'))
theorem X.stA {tgt : Nat} {x : Value} {st : List Value} (hx : x = .null ∨ ∃ a, x = .ref a) (hd : (∃ k : Fin 4, k.val = tgt ∧ decode M.2.1 pc = .ok (.astore_n k, 1)) ∨ decode M.2.1 pc = .ok (.astore tgt, 2)) {n : Nat} (hn : ((∃ k : Fin 4, decode M.2.1 pc = .ok (.astore_n k, 1)) → n = 1) ∧ (decode M.2.1 pc = .ok (.astore tgt, 2) → n = 2)) (ht : tgt < M.2.2.1) (k : X l G M rm TG cs ss (pc + n) (stL L tgt x) st h z) : X l G M rm TG cs ss pc L (x :: st) h z := by
  intro p e s m args below meth c H locs ls E C R hq hl
  rcases hx with rfl | ⟨a, rfl⟩
  · rcases hd with ⟨k', hk, hd⟩ | hd
    · have e1 := hn.1 ⟨k', hd⟩
      subst e1
      exact lv_astore_nN E.1 E.2.1 hd hk hl ht rfl (fun ls' hl' => k p e s m args below meth c H locs ls' E C R hq (stL_has hl'))
    · have e1 := hn.2 hd
      subst e1
      exact lv_astoreN E.1 E.2.1 hd hl ht rfl (fun ls' hl' => k p e s m args below meth c H locs ls' E C R hq (stL_has hl'))
  · rcases hd with ⟨k', hk, hd⟩ | hd
    · have e1 := hn.1 ⟨k', hd⟩
      subst e1
      exact lv_astore_n E.1 E.2.1 hd hk hl ht rfl (fun ls' hl' => k p e s m args below meth c H locs ls' E C R hq (stL_has hl'))
    · have e1 := hn.2 hd
      subst e1
      exact lv_astore E.1 E.2.1 hd hl ht rfl (fun ls' hl' => k p e s m args below meth c H locs ls' E C R hq (stL_has hl'))
theorem lv_iincL {p : Program} {l : Launch} {e : Env} {R : Room} {s : State} {m : MethodId} {args : Array Value} {below : List Frame} {meth : Method} {c : Code} {H : Heap} {locs : List Loc} {cells slots : Nat} {Q : State → Prop} {cc : ByteArray} {pc : Nat} {ls : Array Slot} {rest : List Value} (hexec : p.tables.exec = Jvm.exec) (hb : c.code = cc) {i nL : Nat} {n : Int} {x v : Int32} {lv : LL} (hdg : decode cc pc = .ok (.iinc i n, 3)) (h : lv_has ls nL lv) (hk : lk lv i = some (.int x)) (hv : Int32.ofInt n = v) (hn : i < nL)
    (kk : ∀ ls' : Array Slot, lv_has ls' nL (stL lv i (.int (x + v))) → W p l e R s m args below meth c H locs cells slots Q (F0 m (pc + 3) ls' rest)) : W p l e R s m args below meth c H locs cells slots Q (F0 m pc ls rest) := by
  have h2 : lv_has ls nL ((i, .int x) :: lv) := ⟨h.1, h.2.1, fun q hq => by
    rcases List.mem_cons.mp hq with e | e
    · rw [e]; exact lk_has h hk
    · exact h.2.2 q e⟩
  subst hv
  refine lv_iinc (k := 0) hexec hb hdg h2 rfl rfl hn rfl (fun ls' hl' => kk ls' (stL_has ?_))
  refine ⟨hl'.1, hl'.2.1, fun q hq => hl'.2.2 q ?_⟩
  rcases List.mem_cons.mp hq with e | e
  · exact List.mem_cons.mpr (Or.inl e)
  · refine List.mem_cons_of_mem _ ?_
    rw [List.filter_cons]
    split
    · exact List.mem_cons_of_mem _ e
    · exact e
theorem X.get {i ci k kd a : Nat} {ty : FieldType} {fs : List Value} {w : Value} (hF : FieldOk M.1.cls (i, ci, k, ty, kd)) (ha : h a = some (.inr (ci, fs))) (hw : nthV fs k = some w) (hd : decode M.2.1 pc = .ok (.getfield i, 3)) (kk : X l G M rm TG cs ss (pc + 3) L (w :: r) h z) : X l G M rm TG cs ss pc L (.ref a :: r) h z := by
  intro p e s m args below meth c H locs ls E C R hq hl
  obtain ⟨CC, T, N, ty0, h1, h2, h3, h4, h5, h6, h7⟩ := hF
  have hP : va_P G.1 CL [(a, .inr (ci, fs))] H := fun k q hq => by
    match k, hq with
    | 0, hq => cases hq; exact R.2.2.2 a _ ha
    | k + 1, hq => cases hq
  have kk' := kk p e s m args below meth c H locs ls E C R hq hl
  obtain ⟨hx, hb, -, -, -, hown, hts, -⟩ := E
  rcases h7 with ⟨-, -, h7⟩ | ⟨-, -, -, h7⟩ | ⟨-, -, host, h7⟩ | ⟨-, host, h7⟩ | ⟨-, -, ref, h7, h8⟩
  · exact va_get hx hb hts h3 hown C.K hP 0 rfl h1 k h2 (hts _ h7) (fun x hx => hx) (nthV_get hw) hd kk'
  · exact va_get hx hb hts h3 hown C.K hP 0 rfl h1 k h2 (hts _ h7) (fun x hx => hx) (nthV_get hw) hd kk'
  · exact va_getN hx hb hts h3 hown C.K hP 0 rfl h1 k h2 (C.nest h7) (fun x hx => hx) (nthV_get hw) hd kk'
  · exact va_getN hx hb hts h3 hown C.K hP 0 rfl h1 k h2 (C.nest h7) (fun x hx => hx) (nthV_get hw) hd kk'
  · exact va_get hx hb hts h3 hown C.K hP 0 rfl h1 k h2 (hts _ h7) (fun x9 h9 => u_same (hts _ h8) x9 h9) (nthV_get hw) hd kk'
theorem X.put {i ci k kd a : Nat} {ty : FieldType} {fs : List Value} {w : Value} {ini : Bool} (hini : ini = true → M.1.name = "<init>") (hF : FieldOk M.1.cls (i, ci, k, ty, kd)) (hpt : ptO ini kd = true) (hok : okW ty w) (ha : h a = some (.inr (ci, fs))) (hk : k < fs.length) (hN : G.2.2.1.size ≤ a) (hd : decode M.2.1 pc = .ok (.putfield i, 3)) (kk : X l G M rm TG cs ss (pc + 3) L r (ahU h a (.inr (ci, fs.set k w))) z) : X l G M rm TG cs ss pc L (w :: .ref a :: r) h z := by
  intro p e s m args below meth c H locs ls E C R hq hl
  obtain ⟨CC, T, N, ty0, hc, h2, hin, hty, hnm, h6, h7⟩ := hF
  dsimp only at hc h2 h6 h7
  have hK := C.K
  have kk' := fun H1 loc R1 hq1 => kk p e s m args below meth c H1 (locs ++ [loc]) ls E C R1 hq1 hl
  have hq' : ∀ loc : Loc, loc.base = a → ∀ q ∈ locs ++ [loc], G.2.2.1.size ≤ q.base := by
    intro loc hl q hm
    rcases List.mem_append.mp hm with h | h
    · exact hq q h
    · rw [List.mem_singleton.mp h, hl]; exact hN
  obtain ⟨hx, hb, -, -, -, hown, hts, hnme⟩ := E
  have hap := va_apart (own := M.1.cls) hts hin ty0 hty hnm hK hc
  obtain ⟨rr, h1, cell, q1, q2, q3, q4⟩ := R.2.2.2 a _ ha
  have hr : rr = (CC, T, N) := Option.some.inj (h1.symm.trans hc)
  subst hr
  obtain ⟨hS, hfc, kC, hkC, hkind⟩ := hK.1 ci _ hc
  obtain ⟨cf, kf, fi, f, hi, hsl⟩ := hS k h2
  have hst := (u_facts hfc hkC (u_lays hts hin h2) hi).1
  have hdd : parseFieldDescriptor (T k).2.2.1 = some ty := by rw [hty k h2, h6]
  have hlay := hts _ (hin _ (u_in_lay h2))
  unfold u_lay at hlay
  have fin : ∀ (H' : Heap), H'[a]? = some (cell.setSlot f.slot w) → H'.size = H.size → (∀ q : Nat, q ≠ a → H'[q]? = H[q]?) → Rp G (ahU h a (.inr (ci, fs.set k w))) z H' := by
    intro H' e1 e2 e3
    rw [hsl] at e1
    exact R.set hN ⟨_, hc, t_OB.to (V := updV (vp_V fs) k w) ⟨_, e1, q2, q3, t_set q4 hap h2 w⟩ (fun j _ => vp_updV_set hk w j)⟩ e2 e3
  rcases h7 with ⟨e0, hf, h7⟩ | ⟨e0, hf, ho, h7⟩ | ⟨e0, hf, host, h7⟩ | ⟨e0, host, h7⟩ | ⟨e0, hf, ref, h7, h8⟩
  · rw [if_neg (by rw [hf]; decide)] at hlay
    have h6 := u_store hfc hkC hkind hlay hi hdd hok.1 hok.2
    refine W.putK hx hb (f := f) ⟨hown, hts _ h7, ⟨_, _, _, hi⟩, hst⟩ (by rw [q2]; exact h6) q1 q3 (by rw [hsl]; exact k2_hasslot (q4 k h2)) rfl rfl hd fun H' e1 e2 e3 => ?_
    exact kk' H' _ (fin H' e1 e2 e3) (hq' _ rfl)
  · have hini2 : ini = true := by
      rw [e0] at hpt; exact hpt
    rw [if_pos hf] at hlay
    have hcf : m.cls = cf := by
      obtain ⟨_, _, c', _, _, _, -, -, hf', -, -, -, hown2, -⟩ := Cond.laysFinal_spec hlay
      have e1 : c' = cf := by have := hi.symm.trans hf'; simp at this; exact this.1.symm
      rw [ho] at hown2
      rw [← e1]; exact Option.some.inj (hown.symm.trans hown2)
    have h6 := u_fits hfc hkC hkind (Or.inr hlay) hi hdd hok.1 hok.2
    refine W.putFinK hx hb hown (hts _ h7) hi hst hcf (hnme.trans (hini hini2)) (by rw [q2]; exact h6) q1 q3 (by rw [hsl]; exact k2_hasslot (q4 k h2)) rfl rfl hd fun H' e1 e2 e3 => ?_
    exact kk' H' _ (fin H' e1 e2 e3) (hq' _ rfl)
  · rw [if_neg (by rw [hf]; decide)] at hlay
    have h6 := u_store hfc hkC hkind hlay hi hdd hok.1 hok.2
    refine va_WputK hx hb (f := f) hown (C.nest h7) hi hst (by rw [q2]; exact h6) q1 q3 (by rw [hsl]; exact k2_hasslot (q4 k h2)) rfl rfl hd fun H' e1 e2 e3 => ?_
    exact kk' H' _ (fin H' e1 e2 e3) (hq' _ rfl)
  · rw [e0] at hpt; cases hpt
  · rw [if_neg (by rw [hf]; decide)] at hlay
    have h6 := u_store hfc hkC hkind hlay hi hdd hok.1 hok.2
    refine W.putK hx hb (f := f) ⟨hown, hts _ h7, ⟨_, _, _, u_same (hts _ h8) _ hi⟩, hst⟩ (by rw [q2]; exact h6) q1 q3 (by rw [hsl]; exact k2_hasslot (q4 k h2)) rfl rfl hd fun H' e1 e2 e3 => ?_
    exact kk' H' _ (fin H' e1 e2 e3) (hq' _ rfl)
theorem va_at.arrI {D : va_G} {cl : List vw_C} {a n : Nat} {cA : ClassId} {f : Nat → Int32} {H : Heap} (h : va_at D cl (a, .inl (cA, n, .inl f)) H) : H[a]? = some (arrV cA n (fun j => .int (f j))) := h
theorem X.iald {a n j : Nat} {f : Nat → Int32} {i : Int32} (ha : h a = some (.inl (G.2.1 0, n, .inl f))) (hi : IX i n j) (hd : decode M.2.1 pc = .ok (.iaload, 1)) (kk : X l G M rm TG cs ss (pc + 1) L (.int (f j) :: r) h z) : X l G M rm TG cs ss pc L (.int i :: .ref a :: r) h z := by
  intro p e s m args below meth c H locs ls E C R hq hl
  have hP : va_P G.1 CL [(a, .inl (G.2.1 0, n, .inl f))] H := fun k q hq => by
    match k, hq with
    | 0, hq => cases hq; exact R.2.2.2 a _ ha
    | k + 1, hq => cases hq
  obtain ⟨h1, h2⟩ := hi.vp
  refine va_iald E.1 E.2.1 C.K hP 0 0 rfl rfl h1 hd ?_
  rw [h2]
  exact kk p e s m args below meth c H locs ls E C R hq hl
theorem X.bald {a n j : Nat} {f : Nat → Int32} {i : Int32} (ha : h a = some (.inl (G.2.1 1, n, .inl f))) (hi : IX i n j) (hd : decode M.2.1 pc = .ok (.baload, 1)) (kk : X l G M rm TG cs ss (pc + 1) L (.int (f j) :: r) h z) : X l G M rm TG cs ss pc L (.int i :: .ref a :: r) h z := by
  intro p e s m args below meth c H locs ls E C R hq hl
  have hP : va_P G.1 CL [(a, .inl (G.2.1 1, n, .inl f))] H := fun k q hq => by
    match k, hq with
    | 0, hq => cases hq; exact R.2.2.2 a _ ha
    | k + 1, hq => cases hq
  obtain ⟨h1, h2⟩ := hi.vp
  refine va_bald E.1 E.2.1 C.K hP 0 1 rfl rfl h1 hd ?_
  rw [h2]
  exact kk p e s m args below meth c H locs ls E C R hq hl
theorem X.iast {a n j : Nat} {f : Nat → Int32} {i x : Int32} (ha : h a = some (.inl (G.2.1 0, n, .inl f))) (hi : IX i n j) (hN : G.2.2.1.size ≤ a) (hd : decode M.2.1 pc = .ok (.iastore, 1)) (kk : X l G M rm TG cs ss (pc + 1) L r (ahU h a (.inl (G.2.1 0, n, .inl (upd f j x)))) z) : X l G M rm TG cs ss pc L (.int x :: .int i :: .ref a :: r) h z := by
  intro p e s m args below meth c H locs ls E C R hq hl
  obtain ⟨h1, h2⟩ := hi.vp
  refine W.iast E.1 E.2.1 (R.2.2.2 a _ ha).arrI ((C.K.2 0 (G.2.1 0, .int) rfl).1 n (fun j => .int (f j))) (fun q => by cases q) (by show ¬ (i < 0 ∨ (arrV _ _ _).slots.size ≤ _); rw [arrV_size]; exact h1) rfl rfl hd fun H1 e1 z1 oq => ?_
  refine kk p e s m args below meth c H1 _ ls E C (R.set hN ?_ z1 oq) ?_ hl
  · show H1[a]? = some (vp_cell _ _)
    rw [e1, h2, vp_cell_i, arrV_store]
    congr 2
    funext q
    by_cases hq : q = j
    · subst hq
      simp [updV, upd]
    · simp [updV, upd, hq]
  · intro q hm
    rcases List.mem_append.mp hm with h | h
    · exact hq q h
    · rw [List.mem_singleton.mp h]; exact hN
theorem X.bast {a n j : Nat} {f : Nat → Int32} {i x : Int32} (ha : h a = some (.inl (G.2.1 1, n, .inl f))) (hi : IX i n j) (hN : G.2.2.1.size ≤ a) (hd : decode M.2.1 pc = .ok (.bastore, 1)) (kk : X l G M rm TG cs ss (pc + 1) L r (ahU h a (.inl (G.2.1 1, n, .inl (upd f j x.toInt8.toInt32)))) z) : X l G M rm TG cs ss pc L (.int x :: .int i :: .ref a :: r) h z := by
  intro p e s m args below meth c H locs ls E C R hq hl
  obtain ⟨h1, h2⟩ := hi.vp
  refine W.bast E.1 E.2.1 (R.2.2.2 a _ ha).arrI ((C.K.2 1 (G.2.1 1, .byte) rfl).1 n (fun j => .int (f j))) (fun q => by cases q) (by show ¬ (i < 0 ∨ (arrV _ _ _).slots.size ≤ _); rw [arrV_size]; exact h1) rfl rfl hd fun H1 e1 z1 oq => ?_
  refine kk p e s m args below meth c H1 _ ls E C (R.set hN ?_ z1 oq) ?_ hl
  · show H1[a]? = some (vp_cell _ _)
    rw [e1, h2, vp_cell_i, arrV_store]
    congr 2
    funext q
    by_cases hq : q = j
    · subst hq
      simp [updV, upd, narrow]
    · simp [updV, upd, hq]
  · intro q hm
    rcases List.mem_append.mp hm with h | h
    · exact hq q h
    · rw [List.mem_singleton.mp h]; exact hN
theorem X.aald {t a n j b : Nat} {f : Nat → Option Nat} {i : Int32} (ht : t = 2 ∨ t = 3 ∨ t = 4 ∨ t = 5) (ha : h a = some (.inl (G.2.1 t, n, .inr (.inr (.inr (.inr f)))))) (hi : IX i n j) (hb : f j = some b) (hd : decode M.2.1 pc = .ok (.aaload, 1)) (kk : X l G M rm TG cs ss (pc + 1) L (.ref b :: r) h z) : X l G M rm TG cs ss pc L (.int i :: .ref a :: r) h z := by
  intro p e s m args below meth c H locs ls E C R hq hl
  obtain ⟨h1, h2⟩ := hi.vp
  have hlt : i.toNatClampNeg < n := Nat.not_le.mp fun q => h1 (Or.inr q)
  have kk' := kk p e s m args below meth c H locs ls E C R hq hl
  have hv : (arrV (G.2.1 t) n (fun j => va_rf (f j))).slots[i.toNatClampNeg]? = some (.ref b) := by
    rw [arrV_read _ _ hlt, h2, hb]; rfl
  have hin : ¬ (i < 0 ∨ (arrV (G.2.1 t) n (fun j => va_rf (f j))).slots.size ≤ i.toNatClampNeg) := by rw [arrV_size]; exact h1
  have hc : H[a]? = some (arrV (G.2.1 t) n (fun j => va_rf (f j))) := R.2.2.2 a _ ha
  rcases ht with rfl | rfl | rfl | rfl
  · exact W.aald (ty := .array .int) E.1 E.2.1 hc ((C.K.2 2 (G.2.1 2, .array .int) rfl).1 n _) rfl (fun q => by cases q) hin hv rfl rfl hd kk'
  · exact W.aald (ty := .object RX2) E.1 E.2.1 hc ((C.K.2 3 (G.2.1 3, .object RX2) rfl).1 n _) rfl (fun q => by cases q) hin hv rfl rfl hd kk'
  · exact W.aald (ty := .object RX1) E.1 E.2.1 hc ((C.K.2 4 (G.2.1 4, .object RX1) rfl).1 n _) rfl (fun q => by cases q) hin hv rfl rfl hd kk'
  · exact W.aald (ty := .object "java/lang/Object") E.1 E.2.1 hc ((C.K.2 5 (G.2.1 5, .object "java/lang/Object") rfl).1 n _) rfl (fun q => by cases q) hin hv rfl rfl hd kk'
theorem TYS_lt {dA : Nat → ClassId} {t : Nat} (h : t < 6) : ∃ ty, (TYS dA)[t]? = some (dA t, ty) := by
  match t, h with
  | 0, _ => exact ⟨_, rfl⟩
  | 1, _ => exact ⟨_, rfl⟩
  | 2, _ => exact ⟨_, rfl⟩
  | 3, _ => exact ⟨_, rfl⟩
  | 4, _ => exact ⟨_, rfl⟩
  | 5, _ => exact ⟨_, rfl⟩
theorem X.alen {t a : Nat} {x : vp_A} (ht : t < 6) (ha : h a = some (.inl (G.2.1 t, x))) (hd : decode M.2.1 pc = .ok (.arraylength, 1)) (kk : X l G M rm TG cs ss (pc + 1) L (.int (nI x.1) :: r) h z) : X l G M rm TG cs ss pc L (.ref a :: r) h z := by
  intro p e s m args below meth c H locs ls E C R hq hl
  have hP : va_P G.1 CL [(a, .inl (G.2.1 t, x))] H := fun k q hq => by
    match k, hq with
    | 0, hq => cases hq; exact R.2.2.2 a _ ha
    | k + 1, hq => cases hq
  obtain ⟨ty, hty⟩ := TYS_lt (dA := G.2.1) ht
  exact va_alen E.1 E.2.1 C.K hP 0 t rfl hty rfl hd (kk p e s m args below meth c H locs ls E C R hq hl)
end XR
