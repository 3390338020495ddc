set_option maxRecDepth 100000
/-! THE LAYER: methods that may throw a Fault -/
/-- where a method has thrown q -/
def XCf (G : GG) (PX : Nat → AH → Nat → Prop) : String → Addr → State → State → Prop := fun E q _ t => E = RX5 ∧ ∃ (h' : AH) (z' : Nat) (fs : List Value), PX q h' z' ∧ h' q = some (.inr (5, fs)) ∧ Rp G h' z' t.heap
/-- the target of a body that may throw -/
def TGx (G : GG) (P : Option Value → AH → Nat → Prop) (PX : Nat → AH → Nat → Prop) (mc ms : Nat) : List Frame → Array Value → State → Program → Env → MethodId → Method → Code → State → Prop := fun below args s _ _ _ _ c t => c.exceptionTable.toList = [] → vx_MQ below (QQ G P) (XCf G PX) args s mc ms (fun q => G.2.2.1.size ≤ q) t
/-- CONTRACT of a method that returns (P) or throws (PX) -/
def CtX (l : Launch) (G : GG) (M : Mth) (d mc ms : Nat) (av : List Value) (h : AH) (z : Nat) (P : Option Value → AH → Nat → Prop) (PX : Nat → AH → Nat → Prop) : Prop :=
  vx_Met l M.1 (ws_ M.1 M.2.1 M.2.2.1 M.2.2.2) (rmK d mc ms) (va_Pc av (fun U => Cx G U ∧ Rp G h z U.heap)) (QQ G P) (XCf G PX) mc ms (fun q => G.2.2.1.size ≤ q)
theorem CtX.of {l : Launch} {G : GG} {M : Mth} {d mc ms : Nat} {av : List Value} {h : AH} {z : Nat} {P : Option Value → AH → Nat → Prop} {PX : Nat → AH → Nat → Prop} (hy : plainName M.1.cls = true) (hn : (lg_sl av).length ≤ M.2.2.1) {L : LL} (hL : lv_args 0 av = L)
    (k : X l G M (rmK d mc ms) (TGx G P PX mc ms) 0 0 0 L [] h z) : CtX l G M d mc ms av h z P PX := by
  refine vx_ofW (cc := M.2.1) (maxL := M.2.2.1) (ret := M.2.2.2) hy rfl ?_
  intro p e s m args below meth c s₁ B hml ht hv
  obtain ⟨rfl, hC, hR⟩ := hv
  have hts := atoms_spec (ws := ws_ M.1 M.2.1 M.2.2.1 M.2.2.2) B.pre
  have hts : ∀ w ∈ lw_all, w.before _ s = true := fun w h => hts w (List.mem_cons_of_mem _ h)
  have hown : s.vm.findClass M.1.cls = some m.cls := findClass_of_methodNamed B.named
  have hin : meth.name = M.1.name := (name_of_methodNamed B.named B.method).1
  have hl := lv_entry av (n := M.2.2.1) hn
  rw [hL] at hl
  rw [lg_entry_eq]
  have h9 := k p e s m av.toArray below meth c s.heap [] _ ⟨B.exec, B.bytes, B.returns, B.notSynchronized, hml, hown, hts, hin⟩ hC hR (fun q hq => by cases hq) hl
  have hte : c.exceptionTable.toList = [] := by
    cases hl9 : c.exceptionTable.toList with
    | nil => rfl
    | cons a r => exact (ht a (by rw [hl9]; exact List.mem_cons_self)).elim
  intro T hT X0
  obtain ⟨t, a1, b1⟩ := h9 T hT X0
  exact ⟨t, a1, b1 hte⟩
/-- the machine at pc, with q thrown, comes to TG -/
def XThr (l : Launch) (G : GG) (M : Mth) (rm : Room) (TG : List Frame → Array Value → State → Program → Env → MethodId → Method → Code → State → Prop) (cs ss pc : Nat) (L : LL) (h : AH) (z q : Nat) : Prop :=
  ∀ (p : Program) (e : Env) (s : State) (m : MethodId) (args : Array Value) (below : List Frame) (meth : Method) (c : Code) (H : Heap) (locs : List Loc) (ls : Array Slot) (rest : List Value),
    Env0 M p s m args meth c → Cx G s → Rp G h z H → (∀ q ∈ locs, G.2.2.1.size ≤ q.base) → lv_has ls M.2.2.1 L →
    vx_W p l e rm s m args below meth c H locs cs ss (TG below args s p e m meth c) (F0 m pc ls rest) q
section XE
variable {l : Launch} {G : GG} {M M' : Mth} {rm : Room} {TG : List Frame → Array Value → State → Program → Env → MethodId → Method → Code → State → Prop} {cs ss pc z : Nat} {L : LL} {st rest : List Value} {h : AH} {pg : List IE} {idx n d' mc' ms' : Nat} {As : List Value} {P : Option Value → AH → Nat → Prop} {PX : Nat → AH → Nat → Prop} {v0 : Int32} {t0 : Nat} {r0 : List IE} {mc ms q : Nat} {fs : List Value}
theorem X.toX (k : X l G M rm (TGm G P mc ms) cs ss pc L st h z) : X l G M rm (TGx G P PX mc ms) cs ss pc L st h z := by
  intro p e s m args below meth c H locs ls E C R hq hl T hT X0
  obtain ⟨t, a1, b1⟩ := vx_ret (XC := XCf G PX) (k p e s m args below meth c H locs ls E C R hq hl) T hT X0
  exact ⟨t, a1, fun _ => b1⟩
theorem RetOk.x (h1 : cs ≤ mc) (h2 : ss ≤ ms) : RetOk l G M rm (TGx G P PX mc ms) cs ss z (fun v h => P v h z) := by
  have h9 := RetOk.m (l := l) (G := G) (M := M) (rm := rm) (z := z) (P := P) h1 h2
  exact ⟨fun pc L h x hd hr hP => (h9.1 pc L h x hd hr hP).toX, fun pc L h hd hr hP => (h9.2.1 pc L h hd hr hP).toX, fun pc L h x rty hd hr hrt hx hP => (h9.2.2 pc L h x rty hd hr hrt hx hP).toX⟩
/-- the target of a body with a table of its own, which doesn't throw -/
def TGt (hh : List (Nat × Nat × Nat × Nat)) (G : GG) (P : Option Value → AH → Nat → Prop) (mc ms : Nat) : List Frame → Array Value → State → Program → Env → MethodId → Method → Code → State → Prop := fun below args s p e m meth c t => c.exceptionTable.toList = tableOf hh → TGm G P mc ms below args s p e m meth c t
theorem X.toT {hh : List (Nat × Nat × Nat × Nat)} (k : X l G M rm (TGm G P mc ms) cs ss pc L st h z) : X l G M rm (TGt hh G P mc ms) cs ss pc L st h z := by
  intro p e s m args below meth c H locs ls E C R hq hl T hT X0
  obtain ⟨t, a1, b1⟩ := k p e s m args below meth c H locs ls E C R hq hl T hT X0
  exact ⟨t, a1, fun _ => b1⟩
theorem RetOk.t {hh : List (Nat × Nat × Nat × Nat)} (h1 : cs ≤ mc) (h2 : ss ≤ ms) : RetOk l G M rm (TGt hh G P mc ms) cs ss z (fun v h => P v h z) := by
  have h9 := RetOk.m (l := l) (G := G) (M := M) (rm := rm) (z := z) (P := P) h1 h2
  exact ⟨fun pc L h x hd hr hP => (h9.1 pc L h x hd hr hP).toT, fun pc L h hd hr hP => (h9.2.1 pc L h hd hr hP).toT, fun pc L h x rty hd hr hrt hx hP => (h9.2.2 pc L h x rty hd hr hrt hx hP).toT⟩
theorem faultAt {s : State} {H : Heap} (C : Cx G s) (R : Rp G h z H) (hq : h q = some (.inr (5, fs))) : ∃ ce : Cell, H[q]? = some ce ∧ ce.vm = .none ∧ s.vm.findClass RX5 = some ce.cls := by
  obtain ⟨r', hr', ce, g1, g2, g3, -⟩ := R.2.2.2 q _ hq
  have hcls := (C.K.1 5 (RX5, TX5, 8) rfl).2
  exact ⟨ce, g1, g3, by rw [g2]; exact hcls.1⟩
/-- it leaves the method -/
theorem XThr.out (hP : PX q h z) (hq : h q = some (.inr (5, fs))) (hc : cs ≤ mc) (hs : ss ≤ ms) : XThr l G M rm (TGx G P PX mc ms) cs ss pc L h z q := by
  intro p e s m args below meth c H locs ls rest E C R hloc hl T hT X0
  by_cases A : c.exceptionTable.toList = []
  · obtain ⟨ce, g1, g2, g3⟩ := faultAt C R hq
    obtain ⟨t, a1, b1⟩ := vx_out (Qc := QQ G P) (XC := XCf G PX) (ls := ls) (rest := rest) (pc := pc) (fun x hx => by rw [A] at hx; cases hx) E.2.2.2.1 g1 g2 g3 (fun t ht _ => ⟨rfl, h, z, fs, hP, hq, by rw [ht]; exact R⟩) hloc hc hs T hT X0
    exact ⟨t, a1, fun _ => b1⟩
  · exact ⟨_, Steps.refl _, fun a => absurd a A⟩
theorem X.callVX {C : String} {T : u_T} {N ci b : Nat} {fb : List Value} (hk : CkV M.1.cls idx C M' n) (hl0 : Cond.methodLink M.1.cls idx M'.1 ∈ lw_all) (hpg : PgOk M pg) (hsk : seek pg pc = (pc, .invokevirtual idx, 3, v0, t0) :: r0) (ct : CtX l G M' d' mc' ms' (.ref b :: As) h z P PX) (hb : h b = some (.inr (ci, fb))) (hc : CL[ci]? = some (C, T, N)) (hst : st = As.reverse ++ .ref b :: rest) (hn : As.length = n) (hf : Fit rm M' d' mc' ms' cs ss) (hrest : (rest.map fun v => v.category).sum ≤ 8)
    (kk : ∀ v h' z', P v h' z' → X l G M rm TG (cs + mc') (ss + ms') (pc + 3) L (v.toList ++ rest) h' z')
    (kx : ∀ q h' z' fs, PX q h' z' → h' q = some (.inr (5, fs)) → XThr l G M rm TG (cs + mc') (ss + ms') pc L h' z' q) : X l G M rm TG cs ss pc L st h z := by
  intro p e s m args below meth c H locs ls E C0 R hq hl T hT X0
  obtain ⟨⟨-, hi, hcode, hd⟩, hin, hse⟩ := hk
  obtain ⟨hx, hb0, hr0, hlk, hml, hown, hts, hnm⟩ := E
  have hrecv := va_recv C0.K (show va_P G.1 CL [(b, .inr (ci, fb))] H from fun k q hq => by
    match k, hq with
    | 0, hq => cases hq; exact R.2.2.2 b _ hb
    | k + 1, hq => cases hq) (q0 := 0) hc rfl
  have hp : PreV s H C b (va_Pc (.ref b :: As) (fun U => Cx G U ∧ Rp G h z U.heap)) As := ⟨Ct.blind, hrecv, fun U hU hW => ⟨rfl, C0.warm hW, by rw [hU]; exact R⟩⟩
  rcases vx_runV (As := As) (rest := rest) (g := F0 m pc ls st) (e := e) (below := below) (meth := meth) (locs := locs) (cells := cs) (slots := ss) ⟨hx, hb0, hml, hown, hts⟩ ct ⟨callB_of n hts (lw_meth hcode) rfl rfl rfl (hts _ hi) (hts _ hl0) hd ⟨hf.1, hf.2.1⟩, hts _ hin, hts _ hse⟩ hp rfl hn hl.1 hst (lv_room hrest) (pg_at hpg hsk) ⟨hf.2.2.1, hf.2.2.2⟩ T hT X0 with ⟨v, st₀, t, T', L1, h0, X', hL, e1, e2, ⟨v', h', z', ev, hP, hR⟩, st1⟩ | ⟨q, st₀, t, T', L1, E1, ce, h0, X', hL, e1, e2, ⟨eE, h', z', fs, hP, hq5, hR⟩, hce, hcv, hcl, st1⟩
  · cases ev
    rw [← e1] at hR
    obtain ⟨t2, a1, b1⟩ := kk v h' z' hP p e s m args below meth c T'.heap (locs ++ L1) ls ⟨hx, hb0, hr0, hlk, hml, hown, hts, hnm⟩ C0 hR (fun q hm => (List.mem_append.mp hm).elim (hq q) (hL q)) hl T' rfl X'
    exact ⟨t2, st1 t2 a1, b1⟩
  · rw [← e1] at hR
    obtain ⟨t2, a1, b1⟩ := kx q h' z' fs hP hq5 p e s m args below meth c T'.heap (locs ++ L1) ls rest ⟨hx, hb0, hr0, hlk, hml, hown, hts, hnm⟩ C0 hR (fun q hm => (List.mem_append.mp hm).elim (hq q) (hL q)) hl T' rfl X'
    exact ⟨t2, st1.trans a1, b1⟩
/-- throw -/
theorem X.athrow (hpg : PgOk M pg) (hsk : seek pg pc = (pc, .athrow, 1, v0, t0) :: r0) (hst : st = .ref q :: rest) (k : XThr l G M rm TG cs ss pc L h z q) : X l G M rm TG cs ss pc L st h z := by
  intro p e s m args below meth c H locs ls E C0 R hq hl
  subst hst
  exact vx_athrow E.1 E.2.1 (pg_at hpg hsk) (k p e s m args below meth c H locs ls rest E C0 R hq hl)
/-- caught by the first row of the table -/
theorem XThr.catch {hh : List (Nat × Nat × Nat × Nat)} {x : ExceptionTableEntry} {suf : List ExceptionTableEntry} {K : List Frame → Array Value → State → Program → Env → MethodId → Method → Code → State → Prop} (hTG : TG = fun below args s p e m meth c t => c.exceptionTable.toList = tableOf hh → K below args s p e m meth c t) (hsplit : tableOf hh = x :: suf) (hx : covers x pc = true) (h0 : x.catchType ≠ 0) (hlink : Cond.classLink M.1.cls x.catchType RX5 ∈ lw_all) (hcast : Cond.castable RX5 RX5 ∈ lw_tbl) (hq : h q = some (.inr (5, fs)))
    (kk : X l G M rm TG cs ss x.handlerPc L [.ref q] h z) : XThr l G M rm TG cs ss pc L h z q := by
  intro p e s m args below meth c H locs ls rest E C R hloc hl T hT X0
  by_cases A : c.exceptionTable.toList = tableOf hh
  · obtain ⟨ce, g1, g2, g3⟩ := faultAt C R hq
    obtain ⟨t, a1, b1⟩ := vx_catch (E := RX5) (name := RX5) (ls := ls) (rest := rest) (pc := pc) (Q := TG below args s p e m meth c) E.2.2.2.2.2.1 [] x suf (A.trans hsplit) (fun z hz => nomatch hz) hx h0 (E.2.2.2.2.2.2.1 _ hlink) (va_Nw.use rfl (C.castable hcast)) g1 g2 g3 (kk p e s m args below meth c H locs ls E C R hloc hl) T hT X0
    exact ⟨t, a1, b1⟩
  · subst hTG
    exact ⟨_, Steps.refl _, fun a => absurd a A⟩
end XE
