set_option maxRecDepth 100000
/-- the rows are the method's code -/
def PgOk (M : Mth) (pg : List IE) : Prop := (∀ q ∈ pg, decode M.2.1 q.1 = .ok (q.2.1, q.2.2.1)) ∧ pg.all (okE M.2.2.1) = true ∧ chE pg = true
theorem chE_next : ∀ {pg : List IE} {a b : IE} {r : List IE}, chE pg = true → (a :: b :: r) <:+ pg → a.1 + a.2.2.1 = b.1
  | [], a, b, r, _, h => by
    obtain ⟨t, ht⟩ := h
    simp at ht
  | x :: pg, a, b, r, hc, h => by
    rcases List.suffix_cons_iff.mp h with e | e
    · obtain ⟨rfl, rfl⟩ := List.cons.inj e
      unfold chE at hc
      rw [Bool.and_eq_true] at hc
      exact Nat.eq_of_beq_eq_true hc.1
    · cases pg with
      | nil =>
        obtain ⟨t, ht⟩ := e
        simp at ht
      | cons y pg =>
        unfold chE at hc
        rw [Bool.and_eq_true] at hc
        exact chE_next hc.2 e
theorem seek_suf : ∀ {pg : List IE} {t : Nat}, seek pg t <:+ pg
  | [], _ => List.suffix_refl _
  | a :: r, t => by
    unfold seek
    cases hb : Nat.beq a.1 t with
    | true => exact List.suffix_refl _
    | false => exact List.IsSuffix.trans seek_suf (List.suffix_cons a r)
theorem seek_hd : ∀ {pg : List IE} {t : Nat} {a : IE} {r : List IE}, seek pg t = a :: r → a.1 = t
  | [], _, _, _, h => by cases h
  | b :: s, t, a, r, h => by
    unfold seek at h
    cases hb : Nat.beq b.1 t with
    | true =>
      rw [hb] at h
      obtain ⟨rfl, rfl⟩ := List.cons.inj h
      exact Nat.eq_of_beq_eq_true hb
    | false =>
      rw [hb] at h
      exact seek_hd h
/-! CONTRACTS AND CALLS over the layer. -/
/-- the room of a contract: d frames, mc cells of ms slots -/
def rmK (d mc ms : Nat) : Room := { frames := d, cells := mc, slots := ms, locals := 40 * d }
/-- a method's end: its answer v, the heap h' of z' cells -/
def QQ (G : GG) (P : Option Value → AH → Nat → Prop) : Array Value → State → Outcome → State → Prop := fun _ _ o t => ∃ (v : Option Value) (h' : AH) (z' : Nat), o = .returned v ∧ P v h' z' ∧ Rp G h' z' t.heap
/-- the target of a walk of a contract's body -/
def TGm (G : GG) (P : Option Value → AH → Nat → Prop) (mc ms : Nat) : List Frame → Array Value → State → Program → Env → MethodId → Method → Code → State → Prop := fun below args s _ _ _ _ _ => MQ below (QQ G P) args s mc ms (fun q => G.2.2.1.size ≤ q)
/-- CONTRACT: called with av where the heap is h (z cells), the method returns, and P of its answer and the heap behind it -/
def Ct (l : Launch) (G : GG) (M : Mth) (d mc ms : Nat) (av : List Value) (h : AH) (z : Nat) (P : Option Value → AH → Nat → Prop) : Prop :=
  Met l M.1 (ws_ M.1 M.2.1 M.2.2.1 M.2.2.2) (rmK d mc ms) (va_Pc av (fun U => Cx G U ∧ Rp G h z U.heap)) (QQ G P) mc ms (fun q => G.2.2.1.size ≤ q)
theorem Ct.of {l : Launch} {G : GG} {M : Mth} {d mc ms : Nat} {av : List Value} {h : AH} {z : Nat} {P : Option Value → AH → Nat → Prop} (hy : plainName M.1.cls = true) (hn : (lg_sl av).length ≤ M.2.2.1) {L : LL} (hL : lv_args 0 av = L)
    (k : X l G M (rmK d mc ms) (TGm G P mc ms) 0 0 0 L [] h z) : Ct l G M d mc ms av h z P := by
  refine Met.ofW (cc := M.2.1) (maxL := M.2.2.1) (ret := M.2.2.2) hy rfl ?_
  intro p e s m args below meth c s₁ B hml hv
  obtain ⟨rfl, hC, hR⟩ := hv
  have hts := atoms_spec (ws := ws_ M.1 M.2.1 M.2.2.1 M.2.2.2) B.pre
  have hts : ∀ w ∈ lw_all, w.before _ s = true := fun w h => hts w (List.mem_cons_of_mem _ h)
  have hown : s.vm.findClass M.1.cls = some m.cls := findClass_of_methodNamed B.named
  have hin : meth.name = M.1.name := (name_of_methodNamed B.named B.method).1
  have hl := lv_entry av (n := M.2.2.1) hn
  rw [hL] at hl
  rw [lg_entry_eq]
  exact k p e s m av.toArray below meth c s.heap [] _ ⟨B.exec, B.bytes, B.returns, B.notSynchronized, hml, hown, hts, hin⟩ hC hR (fun q hq => by cases hq) hl
theorem Met.post {l : Launch} {y : MethodName} {ws : List Cond} {rm : Room} {Pc : Array Value → State → Prop} {Qc Qc' : Array Value → State → Outcome → State → Prop} {mc ms : Nat} {free : Addr → Prop} (h : Met l y ws rm Pc Qc mc ms free) (hQ : ∀ a s o t, Qc a s o t → Qc' a s o t) : Met l y ws rm Pc Qc' mc ms free := by
  intro p e ha hc hk s m args below hf happ hpre hK
  obtain ⟨k, o, h1, h2, h3, h4⟩ := h p e ha hc hk s m args below hf happ hpre hK
  exact ⟨k, o, h1, h2, h3, hQ _ _ _ _ h4.1, h4.2⟩
theorem Ct.post {l : Launch} {G : GG} {M : Mth} {d mc ms : Nat} {av : List Value} {h : AH} {z : Nat} {P P' : Option Value → AH → Nat → Prop} (k : Ct l G M d mc ms av h z P) (hP : ∀ v h' z', P v h' z' → P' v h' z') : Ct l G M d mc ms av h z P' :=
  Met.post k (fun _ _ _ _ ⟨v, h', z', e, q, r⟩ => ⟨v, h', z', e, hP _ _ _ q, r⟩)
theorem Ct.blind {G : GG} {av : List Value} {h : AH} {z : Nat} : FrameBlind (va_Pc av (fun U => Cx G U ∧ Rp G h z U.heap)) := fun a U g mk ⟨q0, q1, q2⟩ => ⟨q0, q1, q2⟩
/-- links of a call through an object, of a static call, of a constructor's call -/
def CkN (own : String) (idx : Nat) (M : Mth) (n : Nat) : Prop := (Cond.methodLink own idx M.1 ∈ lw_all ∨ ∃ host, Cond.methodLinkNest own idx M.1 host ∈ lw_tbl) ∧ Cond.initialized M.1.cls ∈ lw_all ∧ Cond.code M.1 M.2.1 M.2.2.1 M.2.2.2 ∈ lw_all ∧ (M.1.cls ≠ "java/lang/invoke/MethodHandle" ∧ M.1.cls ≠ "java/lang/invoke/VarHandle" ∧ (parseMethodDescriptor M.1.desc).map (fun d => d.parameters.length) = some n)
def CkV (own : String) (idx : Nat) (C : String) (M : Mth) (n : Nat) : Prop := CkN own idx M n ∧ Cond.instanceMethod M.1 ∈ lw_all ∧ Cond.selects C M.1 M.1 ∈ lw_all
def CkS (own : String) (idx : Nat) (M : Mth) (n : Nat) : Prop := CkN own idx M n ∧ Cond.static M.1 ∈ lw_all
def CkI (own : String) (idx : Nat) (M : Mth) (n : Nat) : Prop := CkN own idx M n ∧ Cond.instanceMethod M.1 ∈ lw_all ∧ M.1.name = "<init>" ∧ M.2.2.2 = none
/-- the callee's frames and variables fit -/
def Fit (rm : Room) (M : Mth) (d mc ms cs ss : Nat) : Prop := d + 1 ≤ rm.frames ∧ 8 + (M.2.2.1 + 11) + 40 * d ≤ rm.locals ∧ cs + mc ≤ rm.cells ∧ ss + ms ≤ rm.slots
theorem Fit.K {M : Mth} {d d' mc mc' ms ms' cs ss : Nat} (h1 : d' + 1 ≤ d) (h2 : M.2.2.1 ≤ 21) (h3 : cs + mc' ≤ mc) (h4 : ss + ms' ≤ ms) : Fit (rmK d mc ms) M d' mc' ms' cs ss := ⟨h1, by show _ ≤ 40 * d; omega, h3, h4⟩
section XC
variable {l : Launch} {G : GG} {M M' : Mth} {rm : Room} {TG : List Frame → Array Value → State → Program → Env → MethodId → Method → Code → State → Prop} {cs ss pc z : Nat} {L : LL} {st rest : List Value} {h : AH} {pg : List IE} {idx n d' mc' ms' : Nat} {As : List Value} {P : Option Value → AH → Nat → Prop} {v0 : Int32} {t0 : Nat} {r0 : List IE}
theorem pg_at {op : Instr} {len : Nat} (hpg : PgOk M pg) (hsk : seek pg pc = (pc, op, len, v0, t0) :: r0) : decode M.2.1 pc = .ok (op, len) := by
  have h0 : seek pg pc <:+ pg := seek_suf
  rw [hsk] at h0
  have hm : (pc, op, len, v0, t0) ∈ pg := h0.subset List.mem_cons_self
  exact hpg.1 (pc, op, len, v0, t0) hm
theorem X.run (hr : ∀ (p : Program) (e : Env) (s : State) (m : MethodId) (args : Array Value) (below : List Frame) (meth : Method) (c : Code) (H : Heap) (locs : List Loc) (ls : Array Slot), Env0 M p s m args meth c → Cx G s → Rp G h z H → ls.size = M.2.2.1 → ∃ a, va_Run p l e rm s m args below meth c H locs cs ss mc' ms' (F0 m pc ls st) rest (QQ G P a) (fun q => G.2.2.1.size ≤ q))
    (kk : ∀ v h' z', P v h' z' → X l G M rm TG (cs + mc') (ss + ms') (pc + 3) L (v.toList ++ rest) h' z') : X l G M rm TG cs ss pc L st h z := by
  intro p e s m args below meth c H locs ls E C R hq hl T hT X0
  obtain ⟨a, hr⟩ := hr p e s m args below meth c H locs ls E C R hl.1
  obtain ⟨v, st₀, t, T', L1, h0, X', hL, e1, e2, ⟨v', h', z', ev, hP, hR⟩, st1⟩ := hr T hT X0
  cases ev
  rw [← e1] at hR
  obtain ⟨t2, a1, b1⟩ := kk v h' z' hP p e s m args below meth c T'.heap (locs ++ L1) ls E C hR (fun q hm => (List.mem_append.mp hm).elim (hq q) (hL q)) hl T' rfl X'
  exact ⟨t2, st1 t2 a1, b1⟩
theorem lv_room2 {m : MethodId} {ls : Array Slot} {st : List Value} (h : (rest.map fun v => v.category).sum ≤ 8) : 2 * (F0 m pc ls st).monitorRoom + (rest.map fun v => v.category).sum ≤ 8 := lv_room h
theorem X.callV {C : String} {T : u_T} {N ci b : Nat} {fs : List Value} (hk : CkV M.1.cls idx C M' n) (hpg : PgOk M pg) (hsk : seek pg pc = (pc, .invokevirtual idx, 3, v0, t0) :: r0) (ct : Ct l G M' d' mc' ms' (.ref b :: As) h z P) (hb : h b = some (.inr (ci, fs))) (hc : CL[ci]? = some (C, T, N)) (hst : st = As.reverse ++ .ref b :: rest) (hn : As.length = n) (hf : Fit rm M' d' mc' ms' cs ss) (hrest : (rest.map fun v => v.category).sum ≤ 8)
    (kk : ∀ v h' z', P v h' z' → X l G M rm TG (cs + mc') (ss + ms') (pc + 3) L (v.toList ++ rest) h' z') : X l G M rm TG cs ss pc L st h z := by
  refine X.run (rest := rest) (P := P) ?_ kk
  intro p e s m args below meth c H locs ls E C0 R hls
  obtain ⟨⟨hl, hi, hcode, hd⟩, hin, hse⟩ := hk
  obtain ⟨hx, hb0, hr0, hlk, hml, hown, hts, hnm⟩ := E
  have hrecv := va_recv C0.K (show va_P G.1 CL [(b, .inr (ci, fs))] H from fun k q hq => by
    match k, hq with
    | 0, hq => cases hq; exact R.2.2.2 b _ hb
    | k + 1, hq => cases hq) (q0 := 0) hc rfl
  have hp : PreV s H C b (va_Pc (.ref b :: As) (fun U => Cx G U ∧ Rp G h z U.heap)) As := ⟨Ct.blind, hrecv, fun U hU hW => ⟨rfl, C0.warm hW, by rw [hU]; exact R⟩⟩
  rcases hl with hl | ⟨host, hl⟩
  · exact ⟨_, va_runV (As := As) (rest := rest) ⟨hx, hb0, hml, hown, hts⟩ ct ⟨callB_of n hts (lw_meth hcode) rfl rfl rfl (hts _ hi) (hts _ hl) hd ⟨hf.1, hf.2.1⟩, hts _ hin, hts _ hse⟩ hp rfl hn hls hst (lv_room hrest) (pg_at hpg hsk) ⟨hf.2.2.1, hf.2.2.2⟩⟩
  · exact ⟨_, va_runVN (As := As) (rest := rest) ⟨hx, hb0, hml, hown, hts⟩ ct ⟨va_cnB n hts (lw_meth hcode) rfl rfl rfl (C0.nestM hl) (hts _ hi) hd ⟨hf.1, hf.2.1⟩, hts _ hin, hts _ hse⟩ hp rfl hn hls hst (lv_room hrest) (pg_at hpg hsk) ⟨hf.2.2.1, hf.2.2.2⟩⟩
theorem X.callS (hk : CkS M.1.cls idx M' n) (hpg : PgOk M pg) (hsk : seek pg pc = (pc, .invokestatic idx, 3, v0, t0) :: r0) (ct : Ct l G M' d' mc' ms' As h z P) (hst : st = As.reverse ++ rest) (hn : As.length = n) (hf : Fit rm M' d' mc' ms' cs ss) (hrest : (rest.map fun v => v.category).sum ≤ 8)
    (kk : ∀ v h' z', P v h' z' → X l G M rm TG (cs + mc') (ss + ms') (pc + 3) L (v.toList ++ rest) h' z') : X l G M rm TG cs ss pc L st h z := by
  refine X.run (rest := rest) (P := P) ?_ kk
  intro p e s m args below meth c H locs ls E C0 R hls
  obtain ⟨⟨hl, hi, hcode, hd⟩, hin⟩ := hk
  obtain ⟨hx, hb0, hr0, hlk, hml, hown, hts, hnm⟩ := E
  have hp : PreS s H (va_Pc As (fun U => Cx G U ∧ Rp G h z U.heap)) As := ⟨Ct.blind, fun U hU hW => ⟨rfl, C0.warm hW, by rw [hU]; exact R⟩⟩
  rcases hl with hl | ⟨host, hl⟩
  · exact ⟨_, va_runS (As := As) (rest := rest) ⟨hx, hb0, hml, hown, hts⟩ ct ⟨callB_of n hts (lw_meth hcode) rfl rfl rfl (hts _ hi) (hts _ hl) hd ⟨hf.1, hf.2.1⟩, hts _ hin⟩ hp rfl hn hls hst (lv_room hrest) (pg_at hpg hsk) ⟨hf.2.2.1, hf.2.2.2⟩⟩
  · exact ⟨_, va_runSN (As := As) (rest := rest) ⟨hx, hb0, hml, hown, hts⟩ ct ⟨va_cnB n hts (lw_meth hcode) rfl rfl rfl (C0.nestM hl) (hts _ hi) hd ⟨hf.1, hf.2.1⟩, hts _ hin, trivial⟩ hp rfl hn hls hst (lv_room hrest) (pg_at hpg hsk) ⟨hf.2.2.1, hf.2.2.2⟩⟩
theorem X.callV0 {C : String} {T : u_T} {N ci b : Nat} {fs : List Value} (hk : CkV M.1.cls idx C M' n) (hd0 : decode M.2.1 pc = .ok (.invokevirtual idx, 3)) (ct : Ct l G M' d' 0 0 (.ref b :: As) h z P) (hb : h b = some (.inr (ci, fs))) (hc : CL[ci]? = some (C, T, N)) (hst : st = As.reverse ++ .ref b :: rest) (hn : As.length = n) (hf1 : d' + 1 ≤ rm.frames) (hf2 : 8 + (M'.2.2.1 + 11) + 40 * d' ≤ rm.locals) (hcs : cs ≤ rm.cells ∧ ss ≤ rm.slots) (hrest : (rest.map fun v => v.category).sum ≤ 8)
    (kk : ∀ v h' z', P v h' z' → X l G M rm TG cs ss (pc + 3) L (v.toList ++ rest) h' z') : X l G M rm TG cs ss pc L st h z := by
  refine X.run (mc' := 0) (ms' := 0) (rest := rest) (P := P) ?_ kk
  intro p e s m args below meth c H locs ls E C0 R hls
  obtain ⟨⟨hl, hi, hcode, hd⟩, hin, hse⟩ := hk
  obtain ⟨hx, hb0, hr0, hlk, hml, hown, hts, hnm⟩ := E
  have hrecv := va_recv C0.K (show va_P G.1 CL [(b, .inr (ci, fs))] H from fun k q hq => by
    match k, hq with
    | 0, hq => cases hq; exact R.2.2.2 b _ hb
    | k + 1, hq => cases hq) (q0 := 0) hc rfl
  have hp : PreV s H C b (va_Pc (.ref b :: As) (fun U => Cx G U ∧ Rp G h z U.heap)) As := ⟨Ct.blind, hrecv, fun U hU hW => ⟨rfl, C0.warm hW, by rw [hU]; exact R⟩⟩
  rcases hl with hl | ⟨host, hl⟩
  · exact ⟨_, va_runV (As := As) (rest := rest) ⟨hx, hb0, hml, hown, hts⟩ ct ⟨callB_of n hts (lw_meth hcode) rfl rfl rfl (hts _ hi) (hts _ hl) hd ⟨hf1, hf2⟩, hts _ hin, hts _ hse⟩ hp rfl hn hls hst (lv_room hrest) hd0 hcs⟩
  · exact ⟨_, va_runVN (As := As) (rest := rest) ⟨hx, hb0, hml, hown, hts⟩ ct ⟨va_cnB n hts (lw_meth hcode) rfl rfl rfl (C0.nestM hl) (hts _ hi) hd ⟨hf1, hf2⟩, hts _ hin, hts _ hse⟩ hp rfl hn hls hst (lv_room hrest) hd0 hcs⟩
theorem X.callS0 (hk : CkS M.1.cls idx M' n) (hd0 : decode M.2.1 pc = .ok (.invokestatic idx, 3)) (ct : Ct l G M' d' 0 0 As h z P) (hst : st = As.reverse ++ rest) (hn : As.length = n) (hf1 : d' + 1 ≤ rm.frames) (hf2 : 8 + (M'.2.2.1 + 11) + 40 * d' ≤ rm.locals) (hcs : cs ≤ rm.cells ∧ ss ≤ rm.slots) (hrest : (rest.map fun v => v.category).sum ≤ 8)
    (kk : ∀ v h' z', P v h' z' → X l G M rm TG cs ss (pc + 3) L (v.toList ++ rest) h' z') : X l G M rm TG cs ss pc L st h z := by
  refine X.run (mc' := 0) (ms' := 0) (rest := rest) (P := P) ?_ kk
  intro p e s m args below meth c H locs ls E C0 R hls
  obtain ⟨⟨hl, hi, hcode, hd⟩, hin⟩ := hk
  obtain ⟨hx, hb0, hr0, hlk, hml, hown, hts, hnm⟩ := E
  have hp : PreS s H (va_Pc As (fun U => Cx G U ∧ Rp G h z U.heap)) As := ⟨Ct.blind, fun U hU hW => ⟨rfl, C0.warm hW, by rw [hU]; exact R⟩⟩
  rcases hl with hl | ⟨host, hl⟩
  · exact ⟨_, va_runS (As := As) (rest := rest) ⟨hx, hb0, hml, hown, hts⟩ ct ⟨callB_of n hts (lw_meth hcode) rfl rfl rfl (hts _ hi) (hts _ hl) hd ⟨hf1, hf2⟩, hts _ hin⟩ hp rfl hn hls hst (lv_room hrest) hd0 hcs⟩
  · exact ⟨_, va_runSN (As := As) (rest := rest) ⟨hx, hb0, hml, hown, hts⟩ ct ⟨va_cnB n hts (lw_meth hcode) rfl rfl rfl (C0.nestM hl) (hts _ hi) hd ⟨hf1, hf2⟩, hts _ hin, trivial⟩ hp rfl hn hls hst (lv_room hrest) hd0 hcs⟩
theorem X.callI {b : Nat} (hk : CkI M.1.cls idx M' n) (hpg : PgOk M pg) (hsk : seek pg pc = (pc, .invokespecial idx, 3, v0, t0) :: r0) (ct : Ct l G M' d' mc' ms' (.ref b :: As) h z P) (hst : st = As.reverse ++ .ref b :: rest) (hn : As.length = n) (hf : Fit rm M' d' mc' ms' cs ss) (hrest : (rest.map fun v => v.category).sum ≤ 8)
    (kk : ∀ v h' z', P v h' z' → X l G M rm TG (cs + mc') (ss + ms') (pc + 3) L (v.toList ++ rest) h' z') : X l G M rm TG cs ss pc L st h z := by
  refine X.run (rest := rest) (P := P) ?_ kk
  intro p e s m args below meth c H locs ls E C0 R hls
  obtain ⟨⟨hl, hi, hcode, hd⟩, hin, hnm', hret⟩ := hk
  obtain ⟨hx, hb0, hr0, hlk, hml, hown, hts, hnm⟩ := E
  have hp : PreS s H (va_Pc (.ref b :: As) (fun U => Cx G U ∧ Rp G h z U.heap)) (.ref b :: As) := ⟨Ct.blind, fun U hU hW => ⟨rfl, C0.warm hW, by rw [hU]; exact R⟩⟩
  obtain ⟨y, cy, nl, ret⟩ := M'
  dsimp only at hret hcode hl hi hd hin hnm'
  subst hret
  rcases hl with hl | ⟨host, hl⟩
  · exact ⟨_, va_runI (As := As) (rest := rest) ⟨hx, hb0, hml, hown, hts⟩ ct ⟨callB_of n hts (lw_meth hcode) rfl rfl rfl (hts _ hi) (hts _ hl) hd ⟨hf.1, hf.2.1⟩, hnm', hts _ hin⟩ hp rfl hn hls hst (lv_room hrest) (pg_at hpg hsk) ⟨hf.2.2.1, hf.2.2.2⟩⟩
  · exact ⟨_, va_runIN (As := As) (rest := rest) ⟨hx, hb0, hml, hown, hts⟩ ct ⟨va_cnB n hts (lw_meth hcode) rfl rfl rfl (C0.nestM hl) (hts _ hi) hd ⟨hf.1, hf.2.1⟩, hnm', hts _ hin⟩ hp rfl hn hls hst (lv_room hrest) (pg_at hpg hsk) ⟨hf.2.2.1, hf.2.2.2⟩⟩
theorem X.sub {L' : LL} (k : X l G M rm TG cs ss pc L' st h z) (hs : ∀ q ∈ L', q ∈ L) : X l G M rm TG cs ss pc L st h z :=
  fun p e s m args below meth c H locs ls E C R hq hl => k p e s m args below meth c H locs ls E C R hq ⟨hl.1, hl.2.1, fun q hm => hl.2.2 q (hs q hm)⟩
theorem X.widen {cs' ss' : Nat} (h1 : cs ≤ cs') (h2 : ss ≤ ss') (k : X l G M rm TG cs' ss' pc L st h z) : X l G M rm TG cs ss pc L st h z :=
  fun p e s m args below meth c H locs ls E C R hq hl => W.widen h1 h2 (k p e s m args below meth c H locs ls E C R hq hl)
end XC
