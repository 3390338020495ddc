set_option maxRecDepth 100000
/-! text(): a method with a table of its own -/
def CtW (l : Launch) (G : GG) (M : Mth) (hh : List (Nat × Nat × Nat × Nat)) (d mc ms : Nat) (av : List Value) (h : AH) (z : Nat) (P : Option Value → AH → Nat → Prop) : Prop :=
  Met l M.1 (wsW_ M.1 M.2.1 M.2.2.1 M.2.2.2 hh) (rmK d mc ms) (va_Pc av (fun U => Cx G U ∧ Rp G h z U.heap)) (QQ G P) mc ms (fun q => G.2.2.1.size ≤ q)
theorem CtW.of {l : Launch} {G : GG} {M : Mth} {hh : List (Nat × Nat × Nat × Nat)} {d mc ms : Nat} {av : List Value} {h : AH} {z : Nat} {P : Option Value → AH → Nat → Prop} (hy : plainName M.1.cls = true) (hn : (lg_sl av).length ≤ M.2.2.1) {L : LL} (hL : lv_args 0 av = L)
    (k : X l G M (rmK d mc ms) (TGt hh G P mc ms) 0 0 0 L [] h z) : CtW l G M hh d mc ms av h z P := by
  refine va_MetW (cc := M.2.1) (maxL := M.2.2.1) (ret := M.2.2.2) (hh := hh) hy rfl ?_
  intro p e s m args below meth c s₁ B hml hv
  obtain ⟨rfl, hC, hR⟩ := hv
  have hts0 := atoms_spec (ws := wsW_ M.1 M.2.1 M.2.2.1 M.2.2.2 hh) B.pre
  have hts : ∀ w ∈ lw_all, w.before _ s = true := fun w h => hts0 w (List.mem_cons_of_mem _ h)
  have htb : c.exceptionTable.toList = tableOf hh := vx_table (x := M.1) B (hts0 _ List.mem_cons_self)
  have hown : s.vm.findClass M.1.cls = some m.cls := findClass_of_methodNamed B.named
  have hin : meth.name = M.1.name := (name_of_methodNamed B.named B.method).1
  have hl := lv_entry av (n := M.2.2.1) hn
  rw [hL] at hl
  rw [lg_entry_eq]
  have h9 := k p e s m av.toArray below meth c s.heap [] _ ⟨B.exec, B.bytes, B.returns, B.notSynchronized, hml, hown, hts, hin⟩ hC hR (fun q hq => by cases hq) hl
  intro T hT X0
  obtain ⟨t, a1, b1⟩ := h9 T hT X0
  exact ⟨t, a1, b1 htb⟩
section XW9
variable {l : Launch} {G : GG} {M M' : Mth} {rm : Room} {TG : List Frame → Array Value → State → Program → Env → MethodId → Method → Code → State → Prop} {cs ss pc z : Nat} {L : LL} {st rest : List Value} {h : AH} {pg : List IE} {idx n d' mc' ms' : Nat} {As : List Value} {P : Option Value → AH → Nat → Prop} {v0 : Int32} {t0 : Nat} {r0 : List IE}
theorem X.callVW {C : String} {T : u_T} {N ci b : Nat} {fs : List Value} {hh : List (Nat × Nat × Nat × Nat)} (hl0 : Cond.methodLink M.1.cls idx M'.1 ∈ lw_all) (hcode : Cond.codeWith M'.1 M'.2.1 M'.2.2.1 M'.2.2.2 hh ∈ lw_all) (hini : Cond.initialized M'.1.cls ∈ lw_all) (hin : Cond.instanceMethod M'.1 ∈ lw_all) (hse : Cond.selects C M'.1 M'.1 ∈ lw_all) (hd : M'.1.cls ≠ "java/lang/invoke/MethodHandle" ∧ M'.1.cls ≠ "java/lang/invoke/VarHandle" ∧ (parseMethodDescriptor M'.1.desc).map (fun d => d.parameters.length) = some n) (hpg : PgOk M pg) (hsk : seek pg pc = (pc, .invokevirtual idx, 3, v0, t0) :: r0) (ct : CtW l G M' hh d' mc' ms' (.ref b :: As) h z P) (hb : h b = some (.inr (ci, fs))) (hc : CL[ci]? = some (C, T, N)) (hst : st = As.reverse ++ .ref b :: rest) (hn : As.length = n) (hf : Fit rm M' d' mc' ms' cs ss) (hrest : (rest.map fun v => v.category).sum ≤ 8)
    (kk : ∀ v h' z', P v h' z' → X l G M rm TG (cs + mc') (ss + ms') (pc + 3) L (v.toList ++ rest) h' z') : X l G M rm TG cs ss pc L st h z := by
  refine X.run (rest := rest) (P := P) ?_ kk
  intro p e s m args below meth c H locs ls E C0 R hls
  obtain ⟨hx, hb0, hr0, hlk, hml, hown, hts, hnm⟩ := E
  have hrecv := va_recv C0.K (show va_P G.1 CL [(b, .inr (ci, fs))] H from fun k q hq => by
    match k, hq with
    | 0, hq => cases hq; exact R.2.2.2 b _ hb
    | k + 1, hq => cases hq) (q0 := 0) hc rfl
  have hp : PreV s H C b (va_Pc (.ref b :: As) (fun U => Cx G U ∧ Rp G h z U.heap)) As := ⟨Ct.blind, hrecv, fun U hU hW => ⟨rfl, C0.warm hW, by rw [hU]; exact R⟩⟩
  exact ⟨_, vx_runVW (As := As) (rest := rest) ⟨hx, hb0, hml, hown, hts⟩ ct ⟨⟨rfl, rfl, hf.1, hf.2.1, pay_in hts (lw_methW hcode), List.mem_cons_self⟩, hts _ hcode, hts _ hini, ⟨hd.1, hd.2.1⟩, fun sig h => by
    have h2 := hd.2.2
    rw [h] at h2
    exact (Option.some.inj h2).symm, hts _ hl0, hts _ hin, hts _ hse⟩ hp rfl hn hls hst (lv_room hrest) (pg_at hpg hsk) ⟨hf.2.2.1, hf.2.2.2⟩⟩
end XW9
/-- a reader made -/
theorem c_rdI {l : Launch} {G : GG} {d : Nat} (hd : 2 ≤ d) {r x z : Nat} {h : AH} (ha : G.2.2.1.size ≤ r) (ho : h r = some (.inr (4, [.int 0, .int 0, .int 0, .int 0, .int 0, .null]))) {P : Option Value → AH → Nat → Prop} (hs : ∀ h', h' = ahU h r (.inr (4, [.int 0, .int 0, .int 0, .int 0, .int 0, .ref x])) → P none h' z) : Ct l G mX4_init d 0 0 [.ref r, .ref x] h z P := by
  refine Ct.of rfl (Nat.le_of_ble_eq_true rfl) rfl ?_
  refine X.walk wkX4_init fnil RetOk.no ⟨Nat.zero_le _, Nat.zero_le _⟩ [6] 4 rfl ?_
  refine pF0 (okV_W rfl) ho (Nat.le_of_ble_eq_true rfl) ha ?_
  intro h1 e1
  refine X.objI wkX4_init.2.2.2 rfl q356 q124 q125 rfl (by show 1 ≤ d; omega) (by show 0 + 12 ≤ 40 * d; omega) ?_
  refine X.walk wkX4_init fnil (RetOk.m (Nat.zero_le _) (Nat.zero_le _)) ⟨Nat.zero_le _, Nat.zero_le _⟩ [] 2 rfl ?_
  exact hs _ e1
section TX
variable {G : GG} {x : Nat} {W : XW} {h h' : AH}
theorem IsX.grow (w : IsX G x W h) {z : Nat} (hz : x + 1959 ≤ z) (hb : ∀ (y : Nat) (e : va_E), h y = some e → y < z) (hf : ∀ a, a < z → h' a = h a) : IsX G x W h' := by
  have hlt : ∀ {a : Nat} {e : va_E}, h a = some e → h' a = some e := fun {a e} q => by rw [hf a (hb a e q)]; exact q
  refine IsX.mk0 w.N (hlt w.obj) (hlt w.tp) (hlt w.bk) (hlt w.rs) (fun i hi => hlt (w.rws i hi)) (hlt w.sp) (fun j hj => (w.wd j hj).fr (fun o h1 h2 => hf _ (by have := wb_in (x := x) hj; omega))) (fun j hj => (w.lw j hj).mono (fun a e q => ?_)) w.p1 w.p2
  unfold cut at q ⊢
  cases c9 : lawZ x a with
  | true => rw [c9] at q; exact hlt q
  | false => rw [c9] at q; cases q
theorem IsX.uWL (w : IsX G x W h) {la : Nat} {ls : List Line9} (e : h' = ahU h (wb x 0) (.inr (1, (wF (wb x 0) (W.S 0) (W.la 0)).set 11 (.ref la)))) (hl : IsLaw G (cut x h) la ls) : IsX G x ((W.uS 0 (W.S 0)).uL 0 la ls) h' :=
  w.woodL (by decide) (w.w0.uL e) (Fr.rf.u0 e) hl
end TX
/-- what text() comes to -/
def TxP (R : PT) (W : XW) (v : Int32) (W' : XW) : Prop := match R with
  | .inl e => v = -1 ∧ W' = ((((W.uF 2 0).uF 3 (-1)).uF 2 e.1).uF 3 (nI e.2)).uF 1 0
  | .inr ls => ls.length ≤ 16 ∧ v = nI ls.length ∧ ∃ la, W' = ((((W.uF 2 0).uF 3 (-1)).uS 0 (W.S 0)).uL 0 la ls).uF 1 0
def hhT : List (Nat × Nat × Nat × Nat) := [(10, 39, 46, 76), (10, 39, 72, 0), (46, 65, 72, 0)]
theorem x_text {l : Launch} {G : GG} {d : Nat} (hl : l.stackTraces = false) (hd : 44 ≤ d) {x z n : Nat} {t : Nat → Int32} {W : XW} {h : AH} (hx : IsX G x W h) (hz : x + 1982 ≤ z) (hn : W.F 1 = nI n) (hn4 : n ≤ 400) (hby : ∀ k, k < n → (W.T k &&& 255) = t k ∧ ∃ y, y < 256 ∧ t k = nI y ∧ W.T k = (W.T k).toInt8.toInt32) {P : Option Value → AH → Nat → Prop} (hs : ∀ v W' h' z', TxP (pTxt t n (n + 1) [] 0) W v W' → IsX G x W' h' → (∀ a, a < z → ¬ InX x a → h' a = h a) → P (some (.int v)) h' z') : CtW l G mX0_text hhT d (MCr n + 1) (MSr n + 6) [.ref x] h z P := by
  refine CtW.of rfl (Nat.le_of_ble_eq_true rfl) rfl ?_
  refine X.bnd fun hb0 => ?_
  have hNz : G.2.2.1.size ≤ z := by have := hx.N; omega
  refine X.walk wkX0_text fnil RetOk.no ⟨Nat.zero_le _, Nat.zero_le _⟩ [14] 8 rfl ?_
  refine pF0 (okV_W rfl) hx.obj (Nat.le_of_ble_eq_true rfl) hx.N ?_
  intro h1 e1
  have hx1 := hx.uF e1 rfl
  have hf1 : FrX x h h1 := FrX.rf.u e1 InX.self
  refine pF0 (okV_W rfl) hx1.obj (Nat.le_of_ble_eq_true rfl) hx.N ?_
  intro h2 e2
  have hx2 := hx1.uF e2 rfl
  have hf2 : FrX x h h2 := hf1.u e2 InX.self
  refine gF hx2.obj ?_
  refine X.bnd fun hb2 => ?_
  refine X.newO (ci := 4) (fs := [.int 0, .int 0, .int 0, .int 0, .int 0, .null]) tyX4 pkX0_text rfl in_X4 tyX4_ok q351 q352 q99 rfl (fun j hj => by match j, hj with | 0, _ => rfl | 1, _ => rfl | 2, _ => rfl | 3, _ => rfl | 4, _ => rfl | 5, _ => rfl) (by show 0 + 1 ≤ MCr n + 1; omega) (by show 0 + 6 ≤ MSr n + 6; omega) ?_
  intro h3 e3
  refine X.walk wkX0_text fnil RetOk.no ⟨by show 0 + 1 ≤ MCr n + 1; omega, by show 0 + 6 ≤ MSr n + 6; omega⟩ [19] 2 rfl ?_
  refine X.callI (As := [.ref x]) (rest := [.ref z, .ref (wb x 0)]) ckX0_59 pkX0_text rfl (c_rdI (d := d - 1) (P := fun v h' z' => v = none ∧ h' = ahU h3 z (.inr (4, [.int 0, .int 0, .int 0, .int 0, .int 0, .ref x])) ∧ z' = z + 1) (by omega) hNz (by rw [e3]; exact ahU_s) (fun h' e => ⟨rfl, e, rfl⟩)) rfl rfl (Fit.K (by omega) (by decide) (by omega) (by omega)) (Nat.le_of_ble_eq_true rfl) ?_
  intro v h4 z4 hq
  obtain ⟨rfl, e4, rfl⟩ := hq
  have hf4 : ∀ a, a ≠ z → h4 a = h2 a := fun a ha => by rw [e4, ahU_n ha, e3, ahU_n ha]
  have hr4 : IsRd G z (x, n, t, W.T, ((W.uF 2 0).uF 3 (-1)).F) (fun _ => 0) h4 := by
    refine ⟨hNz, ⟨by show z ≠ x; omega, by show z ≠ x + 1; omega⟩, by rw [e4]; exact ahU_s, ?_, ?_, hn, hn4, hby⟩
    · show h4 x = _
      rw [hf4 x (by omega)]; exact hx2.obj
    · show h4 (x + 1) = _
      rw [hf4 (x + 1) (by omega)]; exact hx2.tp
  refine X.callVX (d' := d - 1) (As := []) (rest := [.ref (wb x 0)]) ckX0_62 q376 pkX0_text rfl (r_read (d := d - 1) (r := z) (z0 := z + 1) (c := (x, n, t, W.T, ((W.uF 2 0).uF 3 (-1)).F)) (h0 := h4) (P := fun v h' z' => ∃ ls la, pTxt t n (n + 1) [] 0 = .inr ls ∧ ls.length ≤ 16 ∧ v = some (.ref la) ∧ FrN z (z + 1) h4 h' ∧ z + 1 ≤ la ∧ IsLaw G (cutz (z + 1) z' h') la ls) (PX := fun q h' z' => ∃ e, pTxt t n (n + 1) [] 0 = .inl e ∧ FlR z (z + 1) h4 e q h') hl (by omega) ⟨by omega, by show x + 1 < z + 1; omega⟩ hr4 rfl ⟨fun ls e1 e2 la h' z' q1 q2 q3 q4 => ⟨ls, la, e1, e2, rfl, q1, q3, q4⟩, fun e q a h' z' q2 => ⟨e, q, q2⟩⟩) hr4.obj rfl rfl rfl (Fit.K (by omega) (by decide) (by show _ + MCr n ≤ _; omega) (by show _ + MSr n ≤ _; omega)) (Nat.le_of_ble_eq_true rfl) ?_ ?_
  · intro v h5 z5 hq
    obtain ⟨ls, la, hu, h16, rfl, hf5, hla, hlw⟩ := hq
    have hg5 : ∀ a, a < z → h5 a = h2 a := fun a ha => by rw [hf5 a (by omega) (by omega), hf4 a (by omega)]
    have hx5 : IsX G x ((W.uF 2 0).uF 3 (-1)) h5 := hx2.grow (by omega) hb2 hg5
    have hlc : IsLaw G (cut x h5) la ls := hlw.mono (fun a e q => by
      obtain ⟨g1, g2, g3⟩ := cutz_at q
      unfold cut
      rw [lawZ_hi (by omega)]; exact g3)
    obtain ⟨mc, ea, hlo, -⟩ := hlw
    replace hlo := (cutz_at hlo).2.2
    have hlw0 : la ≠ wb x 0 := fun e => by rw [e, hx5.w0.obj] at hlo; cases hlo
    have hlx : la ≠ x := fun e => by rw [e, hx5.obj] at hlo; cases hlo
    refine X.walk wkX0_text (fcons (ceV c_size moSize ckX0_70 rfl rcSize (by omega) rfl) fnil) (RetOk.t (by show 0 + 1 + 0 + MCr n ≤ _; omega) (by show 0 + 6 + 0 + MSr n ≤ _; omega)) ⟨by show 0 + 1 + 0 + MCr n ≤ MCr n + 1; omega, by show 0 + 6 + 0 + MSr n ≤ MSr n + 6; omega⟩ [] 11 rfl ?_
    refine pF0 (okV_W rfl) hx5.w0.obj (Nat.le_of_ble_eq_true rfl) hx5.w0.N ?_
    intro h6 e6
    have hx6 := hx5.uWL e6 hlc
    refine gF hx6.obj ?_
    refine gF hx6.w0.obj ?_
    refine Exists.intro _ (Exists.intro _ (Exists.intro _ (And.intro (show h6 la = some (.inr (11, lsF mc ea (nI ls.length))) by rw [e6, ahU_n hlw0]; exact hlo) ?_)))
    refine pF0 (okV_W rfl) hx6.obj (Nat.le_of_ble_eq_true rfl) hx.N ?_
    intro h7 e7
    have hx7 := hx6.uF e7 rfl
    refine hs _ _ h7 z5 ?_ hx7 ?_
    · rw [hu]
      exact ⟨h16, rfl, la, rfl⟩
    · intro a ha hn9
      rw [e7, ahU_n (fun e => hn9 (by rw [e]; exact InX.self)), e6, ahU_n (fun e => hn9 (by rw [e]; exact InX.o (by decide))), hg5 a ha]
      exact hf2 a hn9
  · intro q h5 z5 fs0 hq _
    obtain ⟨e, hu, hf5, fs, hfs, hq5⟩ := hq
    have hg5 : ∀ a, a < z → h5 a = h2 a := fun a ha => by rw [hf5 a (by omega) (by omega), hf4 a (by omega)]
    have hx5 : IsX G x ((W.uF 2 0).uF 3 (-1)) h5 := hx2.grow (by omega) hb2 hg5
    have hqx : q ≠ x := fun e => by rw [e, hx5.obj] at hq5; cases hq5
    match fs, hfs, hq5 with
    | [a0, a1, a2, a3, a4, a5, a6, a7], _, hq5 =>
    replace hq5 : h5 q = some (.inr (5, [a0, a1, a2, a3, a4, a5, .int e.1, .int (nI e.2)])) := hq5
    refine XThr.catch (hh := hhT) (x := ⟨10, 39, 46, 76⟩) rfl rfl rfl (by decide) q350 q479 hq5 ?_
    refine X.walk wkX0_text fnil (RetOk.t (by show 0 + 1 + 0 + MCr n ≤ _; omega) (by show 0 + 6 + 0 + MSr n ≤ _; omega)) ⟨by show 0 + 1 + 0 + MCr n ≤ MCr n + 1; omega, by show 0 + 6 + 0 + MSr n ≤ MSr n + 6; omega⟩ [] 16 rfl ?_
    refine gF hq5 ?_
    refine pF0 (okV_W rfl) hx5.obj (Nat.le_of_ble_eq_true rfl) hx.N ?_
    intro h6 e6
    have hx6 := hx5.uF e6 rfl
    have hq6 : h6 q = some (.inr (5, [a0, a1, a2, a3, a4, a5, .int e.1, .int (nI e.2)])) := by rw [e6, ahU_n hqx]; exact hq5
    refine gF hq6 ?_
    refine pF0 (okV_W rfl) hx6.obj (Nat.le_of_ble_eq_true rfl) hx.N ?_
    intro h7 e7
    have hx7 := hx6.uF e7 rfl
    refine pF0 (okV_W rfl) hx7.obj (Nat.le_of_ble_eq_true rfl) hx.N ?_
    intro h8 e8
    have hx8 := hx7.uF e8 rfl
    refine hs _ _ h8 z5 ?_ hx8 ?_
    · rw [hu]
      exact ⟨rfl, rfl⟩
    · intro a ha hn9
      have hax : a ≠ x := fun e => hn9 (by rw [e]; exact InX.self)
      rw [e8, ahU_n hax, e7, ahU_n hax, e6, ahU_n hax, hg5 a ha]
      exact hf2 a hn9
