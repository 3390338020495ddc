set_option maxRecDepth 100000
/-! MORE RULES OF THE LAYER: switches, a cast, calls through an abstract name and an interface -/
section RU
variable {l : Launch} {G : GG} {M M' : Mth} {rm : Room} {TG : List Frame → Array Value → State → Program → Env → MethodId → Method → Code → State → Prop} {cs ss pc z : Nat} {L : LL} {st rest r : List Value} {h : AH} {pg r0 : List IE} {v0 : Int32} {t0 idx n d' : Nat} {As : List Value} {P : Option Value → AH → Nat → Prop}
theorem X.lsw {dflt off : Int} {ps : Array (Int × Int)} {len tgt : Nat} {x : Int32} (hpg : PgOk M pg) (hsk : seek pg pc = (pc, .lookupswitch dflt ps, len, v0, t0) :: r0) (hp : (ps.toList.zip (ps.toList.drop 1)).all (fun (a, next) => a.1 < next.1) = true) (ho : Op.lookupswitch.offset ps.toList dflt x.toInt = off) (ht : (pc : Int) + off = (tgt : Int)) (k : X l G M rm TG cs ss tgt L r h z) : X l G M rm TG cs ss pc L (.int x :: r) h z := by
  intro p e s m args below meth c H locs ls E C R hq hl
  exact lv_lookup E.1 E.2.1 (pg_at hpg hsk) hp ho ht (k p e s m args below meth c H locs ls E C R hq hl)
theorem X.tswOut {dflt lo hi : Int} {offs : Array Int} {len tgt : Nat} {x : Int32} (hpg : PgOk M pg) (hsk : seek pg pc = (pc, .tableswitch dflt lo hi offs, len, v0, t0) :: r0) (hx : x.toInt < lo ∨ hi < x.toInt) (ht : (pc : Int) + dflt = (tgt : Int)) (k : X l G M rm TG cs ss tgt L r h z) : X l G M rm TG cs ss pc L (.int x :: r) h z := by
  intro p e s m args below meth c H locs ls E C R hq hl
  exact lv_tableOut E.1 E.2.1 (pg_at hpg hsk) hx ht (k p e s m args below meth c H locs ls E C R hq hl)
theorem X.tswIn {dflt lo hi off : Int} {offs : Array Int} {len tgt : Nat} {x : Int32} (hpg : PgOk M pg) (hsk : seek pg pc = (pc, .tableswitch dflt lo hi offs, len, v0, t0) :: r0) (h1 : ¬ x.toInt < lo) (h2 : ¬ hi < x.toInt) (ho : offs[(x.toInt - lo).toNat]? = some off) (ht : (pc : Int) + off = (tgt : Int)) (k : X l G M rm TG cs ss tgt L r h z) : X l G M rm TG cs ss pc L (.int x :: r) h z := by
  intro p e s m args below meth c H locs ls E C R hq hl
  exact lv_tableIn E.1 E.2.1 (pg_at hpg hsk) h1 h2 ho ht (k p e s m args below meth c H locs ls E C R hq hl)
theorem X.cast {C : String} {T : u_T} {N ci a : Nat} {fs : List Value} (hpg : PgOk M pg) (hsk : seek pg pc = (pc, .checkcast idx, 3, v0, t0) :: r0) (hcl : Cond.classLink M.1.cls idx C ∈ lw_all) (hb : h a = some (.inr (ci, fs))) (hc : CL[ci]? = some (C, T, N)) (k : X l G M rm TG cs ss (pc + 3) L (.ref a :: r) h z) : X l G M rm TG cs ss pc L (.ref a :: r) h z := by
  intro p e s m args below meth c H locs ls E C0 R hq hl
  have hrecv := va_recv C0.K (show va_P G.1 CL [(a, .inr (ci, fs))] H from fun k q hq => by
    match k, hq with
    | 0, hq => cases hq; exact R.2.2.2 a _ hb
    | k + 1, hq => cases hq) (q0 := 0) hc rfl
  exact va_castS E.1 E.2.1 E.2.2.2.2.2.1 (E.2.2.2.2.2.2.1 _ hcl) (C0.K.1 ci _ hc).2 hrecv (pg_at hpg hsk) (k p e s m args below meth c H locs ls E C0 R hq hl)
theorem X.callU0 {x : MethodName} {owner C : String} {T : u_T} {N ci b : Nat} {fs : List Value} (hlk : Cond.methodLink M.1.cls idx x ∈ lw_all) (hsm : Cond.sameMethod x.cls owner x.name x.desc ∈ lw_all) (hse : Cond.selects C x M'.1 ∈ lw_all) (hin : Cond.instanceMethod M'.1 ∈ lw_all) (hi : Cond.initialized M'.1.cls ∈ lw_all) (hcode : Cond.code M'.1 M'.2.1 M'.2.2.1 M'.2.2.2 ∈ lw_all) (hz : Cond.declares ⟨owner, x.name, x.desc⟩ ∈ lw_tbl)
    (hdx : owner ≠ "java/lang/invoke/MethodHandle" ∧ owner ≠ "java/lang/invoke/VarHandle" ∧ (parseMethodDescriptor x.desc).map (fun d => d.parameters.length) = some n)
    (hd0 : decode M.2.1 pc = .ok (.invokevirtual idx, 3)) (ct : Ct l G M' d' 0 0 (.ref b :: As) h z P) (hb : h b = some (.inr (ci, fs))) (hc : CL[ci]? = some (C, T, N)) (hst : st = As.reverse ++ .ref b :: rest) (hn : As.length = n) (hf1 : d' + 1 ≤ rm.frames) (hf2 : 8 + (M'.2.2.1 + 11) + 40 * d' ≤ rm.locals) (hcs : cs ≤ rm.cells ∧ ss ≤ rm.slots) (hrest : (rest.map fun v => v.category).sum ≤ 8)
    (kk : ∀ v h' z', P v h' z' → X l G M rm TG cs ss (pc + 3) L (v.toList ++ rest) h' z') : X l G M rm TG cs ss pc L st h z := by
  refine X.run (mc' := 0) (ms' := 0) (rest := rest) (P := P) ?_ kk
  intro p e s m args below meth c H locs ls E C0 R hls
  obtain ⟨hx, hb0, hr0, hlk0, hml, hown, hts, hnm⟩ := E
  have hrecv := va_recv C0.K (show va_P G.1 CL [(b, .inr (ci, fs))] H from fun k q hq => by
    match k, hq with
    | 0, hq => cases hq; exact R.2.2.2 b _ hb
    | k + 1, hq => cases hq) (q0 := 0) hc rfl
  have hp : PreV s H C b (va_Pc (.ref b :: As) (fun U => Cx G U ∧ Rp G h z U.heap)) As := ⟨Ct.blind, hrecv, fun U hU hW => ⟨rfl, C0.warm hW, by rw [hU]; exact R⟩⟩
  have hG : GoodIn lw_all (va_wsU M.1.cls idx C owner x M'.1 (ws_ M'.1 M'.2.1 M'.2.2.1 M'.2.2.2)) := by
    refine lw_app ?_ (lw_meth hcode)
    intro w hw
    simp only [List.mem_cons, List.not_mem_nil, or_false] at hw
    rcases hw with e | e | e | e | e <;> rw [e] <;> assumption
  exact ⟨_, va_runU (As := As) (rest := rest) ⟨hx, hb0, hml, hown, hts⟩ ct (va_cwA n hts hG rfl rfl rfl (C0.declares hz) hdx ⟨hf1, hf2⟩) hp rfl hn hls hst (lv_room hrest) hd0 hcs⟩
theorem X.callF0 {x : MethodName} {C : String} {T : u_T} {N ci b count : Nat} {fs : List Value} (hlk : Cond.methodLink M.1.cls idx x ∈ lw_all) (hse : Cond.selects C x M'.1 ∈ lw_all) (hin : Cond.instanceMethod M'.1 ∈ lw_all) (hi : Cond.initialized M'.1.cls ∈ lw_all) (hcode : Cond.code M'.1 M'.2.1 M'.2.2.1 M'.2.2.2 ∈ lw_all)
    (w1 : Cond.declares x ∈ lw_tbl) (w2 : Cond.interfaceMethod x.cls x.cls x.name x.desc ∈ lw_tbl) (w3 : Cond.publicMethod M'.1 ∈ lw_tbl) (w4 : Cond.unhidden C x.name x.desc ∈ lw_tbl) (w5 : Cond.castable C x.cls ∈ lw_tbl)
    (hdx : x.cls ≠ "java/lang/invoke/MethodHandle" ∧ x.cls ≠ "java/lang/invoke/VarHandle" ∧ (parseMethodDescriptor x.desc).map (fun d => d.parameters.length) = some n)
    (hd0 : decode M.2.1 pc = .ok (.invokeinterface idx count, 5)) (ct : Ct l G M' d' 0 0 (.ref b :: As) h z P) (hb : h b = some (.inr (ci, fs))) (hc : CL[ci]? = some (C, T, N)) (hst : st = As.reverse ++ .ref b :: rest) (hn : As.length = n) (hf1 : d' + 1 ≤ rm.frames) (hf2 : 8 + (M'.2.2.1 + 11) + 40 * d' ≤ rm.locals) (hcs : cs ≤ rm.cells ∧ ss ≤ rm.slots) (hrest : (rest.map fun v => v.category).sum ≤ 8)
    (kk : ∀ v h' z', P v h' z' → X l G M rm TG cs ss (pc + 5) L (v.toList ++ rest) h' z') : X l G M rm TG cs ss pc L st h z := by
  intro p e s m args below meth c H locs ls E C0 R hq hl T0 hT X0
  have E' := E
  obtain ⟨hx, hb0, hr0, hlk0, hml, hown, hts, hnm⟩ := E
  have hrecv := va_recv C0.K (show va_P G.1 CL [(b, .inr (ci, fs))] H from fun k q hq => by
    match k, hq with
    | 0, hq => cases hq; exact R.2.2.2 b _ hb
    | k + 1, hq => cases hq) (q0 := 0) hc rfl
  have hp : PreV s H C b (va_Pc (.ref b :: As) (fun U => Cx G U ∧ Rp G h z U.heap)) As := ⟨Ct.blind, hrecv, fun U hU hW => ⟨rfl, C0.warm hW, by rw [hU]; exact R⟩⟩
  have hG : GoodIn lw_all (va_wsF M.1.cls idx C x M'.1 (ws_ M'.1 M'.2.1 M'.2.2.1 M'.2.2.2)) := by
    refine lw_app ?_ (lw_meth hcode)
    intro w hw
    simp only [List.mem_cons, List.not_mem_nil, or_false] at hw
    rcases hw with e | e | e | e <;> rw [e] <;> assumption
  have hFw : va_Fw C x M'.1 s := by
    obtain ⟨s0, b0, g1, g2, g3, -⟩ := C0
    exact va_Fw.moved ⟨hdx.1, hdx.2.1⟩ g2.alike (va_Fw.of (g3 _ w1) (g3 _ w2) (g3 _ w3) (g3 _ w4) (g3 _ w5))
  have hr := va_runF (p := p) (e := e) (below := below) (meth := meth) (locs := locs) (cells := cs) (slots := ss) (As := As) (rest := rest) (g := F0 m pc ls st) (C0.K.1 ci _ hc).2 ⟨hx, hb0, hml, hown, hts⟩ ct (va_cwF n hts hG rfl rfl rfl hFw hdx ⟨hf1, hf2⟩) hp rfl hn hl.1 hst (lv_room hrest) hd0 hcs
  obtain ⟨v, st₀, t, T', L1, h0, X', hL, e1, e2, ⟨v', h', z', ev, hP, hR⟩, st1⟩ := hr T0 hT X0
  cases ev
  rw [← e1] at hR
  obtain ⟨t2, a1, b1⟩ := kk v h' z' hP p e s m args below meth c T'.heap (locs ++ L1) ls E' C0 hR (fun q hm => (List.mem_append.mp hm).elim (hq q) (hL q)) hl T' rfl X'
  exact ⟨t2, st1 t2 a1, b1⟩
end RU
