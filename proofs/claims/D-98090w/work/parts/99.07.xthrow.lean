set_option maxRecDepth 100000
/-! A FAULT IS MADE AND THROWN -/
/-- at a lies a new Fault -/
def Frs (a : Nat) (U : State) : Prop := ∃ (cX : ClassId) (kX : Class), U.vm.findClass RX5 = some cX ∧ U.vm.classes[cX]? = some kX ∧ U.heap[a]? = some (freshCell cX kX)
theorem Frs.warm {a : Nat} {s U : State} {H : Heap} {cX : ClassId} {kX : Class} (h1 : s.vm.findClass RX5 = some cX) (h2 : s.vm.classes[cX]? = some kX) (h3 : H[a]? = some (blank cX kX)) (hU : U.heap = H) (hW : s.WarmedH U.vm) : Frs a U := by
  obtain ⟨k', e1, e2⟩ := hW.alike.2.2 cX kX h2
  refine ⟨cX, k', ?_, e1, ?_⟩
  · rw [hW.alike.findClass]; exact h1
  · rw [hU, h3, e2]; rfl
/-- Fault's constructor -/
theorem c_fInit {l : Launch} {G : GG} {d : Nat} (hl : l.stackTraces = false) (hd : 5 ≤ d) {a z : Nat} {h : AH} {k pl : Int32} {fs0 : List Value} (ha : G.2.2.1.size ≤ a) (ho : h a = some (.inr (5, fs0))) {P : Option Value → AH → Nat → Prop} (hs : ∀ fs : List Value, fs.length = 8 → P none (ahU h a (.inr (5, (fs.set 6 (.int k)).set 7 (.int pl)))) z) :
    Met l mX5_init.1 (ws_ mX5_init.1 mX5_init.2.1 mX5_init.2.2.1 mX5_init.2.2.2) (rmK d 0 0) (va_Pc [.ref a, .int k, .int pl] (fun U => Cx G U ∧ Rp G h z U.heap ∧ Frs a U)) (QQ G P) 0 0 (fun q => G.2.2.1.size ≤ q) := by
  refine Met.ofW (cc := mX5_init.2.1) (maxL := mX5_init.2.2.1) (ret := mX5_init.2.2.2) rfl rfl ?_
  intro p e s m args below meth c s₁ B hml hv
  obtain ⟨rfl, hC, hR, cX, kX, f1, f2, f3⟩ := hv
  have hts := atoms_spec (ws := ws_ mX5_init.1 mX5_init.2.1 mX5_init.2.2.1 mX5_init.2.2.2) B.pre
  have hts : ∀ w ∈ lw_all, w.before _ s = true := fun w h => hts w (List.mem_cons_of_mem _ h)
  have hown : s.vm.findClass mX5_init.1.cls = some m.cls := findClass_of_methodNamed B.named
  have hin : meth.name = mX5_init.1.name := (name_of_methodNamed B.named B.method).1
  have hlv := lv_entry [Value.ref a, .int k, .int pl] (n := mX5_init.2.2.1) (Nat.le_of_ble_eq_true rfl)
  rw [lg_entry_eq]
  have E : Env0 mX5_init p s m [Value.ref a, .int k, .int pl].toArray meth c := ⟨B.exec, B.bytes, B.returns, B.notSynchronized, hml, hown, hts, hin⟩
  generalize hls : (lg_sl [Value.ref a, .int k, .int pl] ++ List.replicate (mX5_init.2.2.1 - (lg_sl [Value.ref a, .int k, .int pl]).length) Slot.unset).toArray = ls at hlv ⊢
  refine lv_aload_n B.exec B.bytes (pg_at pkX5_init rfl) rfl (lk_has hlv rfl) ?_
  intro T hT X0
  have hf3 : T.heap[a]? = some (freshCell cX kX) := by rw [hT]; exact f3
  have htr : e.platform.stackTraces = false := (show e.platform.stackTraces = l.stackTraces by rw [X0.admits.platform]).trans hl
  have hcc : c.code = mX5_init.2.1 := B.bytes
  obtain ⟨V, ce, L, Z, hL, hV, e1, e2, e3, st⟩ := xf_ctor X0 B.exec htr hown (xf_at hts hC hR) (fun x hx => nomatch hx) f1 f2 hf3 (g := F0 m 1 ls [.ref a]) rfl (by rw [hml]; exact hlv.1) (rest := []) rfl (by rw [hcc]; exact pg_at pkX5_init rfl) (by show 3 < d; omega) (by show 2 * 0 + 0 + 54 ≤ 40 * d; omega)
  have hlt : a < V.heap.size := by rw [hV]; exact (Array.getElem?_eq_some_iff.mp hf3).1
  have hN : cX = G.1.1 5 := by
    have h1 := (hC.K.1 5 (RX5, TX5, 8) rfl).2.1
    exact Option.some.inj (f1.symm.trans h1)
  obtain ⟨r', hr', cell, g1, g2, g3, g4⟩ := hR.2.2.2 a _ ho
  have hr9 : r' = (RX5, TX5, 8) := Option.some.inj (hr'.symm.trans rfl)
  subst hr9
  have ec : cell = freshCell cX kX := Option.some.inj (g1.symm.trans f3)
  have hsl : ∀ j, j < 8 → G.1.2 5 j < ce.slots.size := fun j hj => by
    rw [e3, ← ec]
    exact (Array.getElem?_eq_some_iff.mp (g4 j hj)).1
  have hR2 : Rp G (ahU h a (.inr (5, (List.range 8).map (fun j => (ce.slots[G.1.2 5 j]?).getD .null)))) z (V.setCell a ce).heap := by
    refine hR.set ha ⟨_, rfl, ce, heapAt_setCell_self ce hlt, by rw [e1, hN], e2, fun j hj => ?_⟩ ?_ (fun q hq => ?_)
    · show ce.slots[G.1.2 5 j]? = some (vp_V ((List.range 8).map (fun j => (ce.slots[G.1.2 5 j]?).getD .null)) j)
      have hj8 : j < 8 := hj
      rw [Array.getElem?_eq_getElem (hsl j hj8)]
      unfold vp_V
      rw [List.getD_eq_getElem?_getD, List.getElem?_map, List.getElem?_range hj8]
      simp [Array.getElem?_eq_getElem (hsl j hj8)]
    · show (V.heap.setIfInBounds a ce).size = s.heap.size
      rw [Array.size_setIfInBounds, hV, hT]
    · rw [heapAt_setCell_ne ce (fun e => hq e.symm), hV, hT]
  have k9 : X l G mX5_init (rmK d 0 0) (TGm G P 0 0) 0 0 4 [(0, .ref a), (1, .int k), (2, .int pl)] [] (ahU h a (.inr (5, (List.range 8).map (fun j => (ce.slots[G.1.2 5 j]?).getD .null)))) z := by
    generalize hfs : (List.range 8).map (fun j => (ce.slots[G.1.2 5 j]?).getD .null) = fs
    have hlen : fs.length = 8 := by rw [← hfs]; simp
    refine X.walk wkX5_init fnil (RetOk.m (Nat.zero_le _) (Nat.zero_le _)) ⟨Nat.zero_le _, Nat.zero_le _⟩ [] 8 rfl ?_
    refine pF0 (okV_W rfl) ahU_s (by rw [hlen]; decide) ha ?_
    intro h6 e6
    refine pF0 (okV_W rfl) (by rw [e6, ahU_s]) (by rw [List.length_set, hlen]; decide) ha ?_
    intro h11 e11
    have e12 : h11 = ahU h a (.inr (5, (fs.set 6 (.int k)).set 7 (.int pl))) := by rw [e11, e6, ahU_2, ahU_2]
    rw [e12]
    exact hs fs hlen
  obtain ⟨t, a1, b1⟩ := k9 p e s m _ below meth c (V.setCell a ce).heap ([] ++ L) ls E hC hR2 (fun q hq => by
    rw [hL q (by simpa using hq)]; exact ha) hlv (V.setCell a ce) rfl Z
  exact ⟨t, st t a1, b1⟩
section XF
variable {l : Launch} {G : GG} {M : Mth} {rm : Room} {TG : List Frame → Array Value → State → Program → Env → MethodId → Method → Code → State → Prop} {cs ss pc z : Nat} {L : LL} {h : AH} {pg : List IE}
/-- new Fault(k, start), thrown -/
theorem X.thrF {kd : Int} {kv stv : Int32} {rd : Nat} {fr : List Value} {v1 v2 v3 v4 v5 v6 v7 : Int32} {t1 t2 t3 t4 t5 t6 t7 : Nat} {r1 r2 r3 r4 r5 r6 r7 : List IE} (hl : l.stackTraces = false) (hM : M.1.cls = RX4) (hpg : PgOk M pg)
    (s0 : seek pg pc = (pc, .new 101, 3, v1, t1) :: r1) (s3 : seek pg (pc + 3) = (pc + 3, .dup, 1, v2, t2) :: r2) (s4 : seek pg (pc + 4) = (pc + 4, .iconst kd, 1, v3, t3) :: r3) (hkv : Int32.ofInt kd = kv) (s5 : seek pg (pc + 5) = (pc + 5, .aload_n 0, 1, v4, t4) :: r4) (s6 : seek pg (pc + 6) = (pc + 6, .getfield 34, 3, v5, t5) :: r5) (s9 : seek pg (pc + 9) = (pc + 9, .invokespecial 103, 3, v6, t6) :: r6) (s12 : seek pg (pc + 12) = (pc + 12, .athrow, 1, v7, t7) :: r7)
    (h0 : lk L 0 = some (.ref rd)) (hr : h rd = some (.inr (4, fr))) (hfr : nthV fr 1 = some (.int stv)) (hcells : cs + 1 ≤ rm.cells) (hslots : ss + 8 ≤ rm.slots) (hf1 : 6 ≤ rm.frames) (hf2 : 300 ≤ rm.locals)
    (kx : ∀ fs : List Value, fs.length = 8 → XThr l G M rm TG (cs + 1) (ss + 8) (pc + 12) L (ahU h z (.inr (5, (fs.set 6 (.int kv)).set 7 (.int stv)))) (z + 1) z) : X l G M rm TG cs ss pc L [] h z := by
  intro p e s m args below meth c H locs ls E C0 R hq hlv
  obtain ⟨hx, hb0, hr0, hlk, hml, hown, hts, hnm⟩ := E
  have hown4 : s.vm.findClass RX4 = some m.cls := by rw [← hM]; exact hown
  have hKn := C0.K.1 5 (RX5, TX5, 8) rfl
  have hz : H.size = z := R.1
  refine W.newcK hx hb0 hown4 (hts _ q477) (hts _ q478) (hts _ q106) rfl (pg_at hpg s0) hcells hslots hKn.2.1 rfl fun H1 kC hkC e1 z1 o1 => ?_
  rw [hz] at e1 z1 o1
  have R1 : Rp G (ahU h z (.inr (5, [.null, .null, .null, .null, .null, .int 0, .int 0, .int 0]))) (z + 1) H1 := R.push ⟨_, rfl, (u_born tyX5 hts in_X5 hKn hkC e1 tyX5_ok).to (fun j hj => by
    have hj8 : j < 8 := hj
    match j, hj8 with
    | 0, _ => rfl
    | 1, _ => rfl
    | 2, _ => rfl
    | 3, _ => rfl
    | 4, _ => rfl
    | 5, _ => rfl
    | 6, _ => rfl
    | 7, _ => rfl)⟩ z1 o1
  have hzN : G.2.2.1.size ≤ z := R.2.1
  have hrz : rd ≠ z := fun e9 => by
    have := R.lt hr
    omega
  rw [hz]
  refine lv_dup hx hb0 (pg_at hpg s3) rfl ?_
  refine lv_iconst hx hb0 (pg_at hpg s4) hkv ?_
  refine lv_aload_n hx hb0 (pg_at hpg s5) rfl (lk_has hlv h0) ?_
  have hP : va_P G.1 CL [(rd, .inr (4, fr))] H1 := fun k q hq => by
    match k, hq with
    | 0, hq => cases hq; exact R1.2.2.2 rd _ (by rw [ahU_n hrz]; exact hr)
    | k + 1, hq => cases hq
  obtain ⟨CC, T, N, ty0, g1, g2, g3, g4, g5, g6, g7⟩ := ftX4_3
  obtain ⟨ref, g7, g8⟩ : ∃ ref, Cond.fieldLink RX4 34 ref (T 1).2.1 (T 1).2.2.1 ∈ lw_all ∧ ∀ x, s.fieldFound? (T 1).1 (T 1).2.1 (T 1).2.2.1 = some x → s.fieldFound? ref (T 1).2.1 (T 1).2.2.1 = some x := by
    rcases g7 with ⟨-, -, g7⟩ | ⟨g7, -⟩ | ⟨g7, -⟩ | ⟨g7, -⟩ | ⟨-, -, ref, g7, g8⟩
    · exact ⟨_, g7, fun x hx => hx⟩
    · exact absurd g7 (by decide)
    · exact absurd g7 (by decide)
    · exact absurd g7 (by decide)
    · exact ⟨ref, g7, fun x9 h9 => u_same (hts _ g8) x9 h9⟩
  · refine va_get hx hb0 hts g3 hown4 C0.K hP 0 rfl g1 1 g2 (hts _ g7) g8 (nthV_get hfr) (pg_at hpg s6) ?_
    have ct := c_fInit (l := l) (G := G) (d := 5) hl (Nat.le_refl 5) (a := z) (z := z + 1) (h := ahU h z (.inr (5, [.null, .null, .null, .null, .null, .int 0, .int 0, .int 0]))) (k := kv) (pl := stv) hzN ahU_s (P := fun v h' z' => v = none ∧ z' = z + 1 ∧ ∃ fs : List Value, fs.length = 8 ∧ h' = ahU h z (.inr (5, (fs.set 6 (.int kv)).set 7 (.int stv)))) (fun fs hfs => ⟨rfl, rfl, fs, hfs, ahU_2⟩)
    have hp : PreS s H1 (va_Pc [.ref z, .int kv, .int stv] (fun U => Cx G U ∧ Rp G (ahU h z (.inr (5, [.null, .null, .null, .null, .null, .int 0, .int 0, .int 0]))) (z + 1) U.heap ∧ Frs z U)) (.ref z :: [.int kv, .int stv]) := ⟨fun a U g mk ⟨q0, q1, q2, q3⟩ => ⟨q0, q1, q2, q3⟩, fun U hU hW => ⟨rfl, C0.warm hW, by rw [hU]; exact R1, Frs.warm hKn.2.1 hkC e1 hU hW⟩⟩
    obtain ⟨⟨hlk9, hi, hcode, hd⟩, hin, hnm', hret⟩ := ckX4_103
    intro T9 hT9 X9
    obtain ⟨v, st₀, t, T', L1, h09, X', hL, e19, e29, ⟨v', h', z', ev, ⟨rfl, rfl, fs, hfs, hfh⟩, hR9⟩, st1⟩ := va_runI (As := [.int kv, .int stv]) (rest := [.ref z]) (g := F0 m (pc + 6 + 3) ls [.int stv, .int kv, .ref z, .ref z]) (e := e) (below := below) (meth := meth) (locs := locs) (cells := cs + 1) (slots := ss + 8) ⟨hx, hb0, hml, hown4, hts⟩ ct ⟨callB_of 2 hts (lw_meth hcode) rfl rfl rfl (hts _ hi) (hts _ q514) hd ⟨hf1, by show 8 + (3 + 11) + 40 * 5 ≤ rm.locals; omega⟩, hnm', hts _ hin⟩ hp rfl rfl hlv.1 rfl (lv_room (by show 1 + 0 ≤ 8; decide)) (pg_at hpg s9) ⟨hcells, hslots⟩ T9 hT9 X9
    cases ev
    subst hfh
    rw [← e19] at hR9
    obtain ⟨t2, a1, b1⟩ := vx_athrow (rest := []) (pc := pc + 12) hx hb0 (pg_at hpg s12) (kx fs hfs p e s m args below meth c T'.heap (locs ++ L1) ls [] ⟨hx, hb0, hr0, hlk, hml, hown, hts, hnm⟩ C0 hR9 (fun q hm => (List.mem_append.mp hm).elim (hq q) (hL q)) hlv) T' rfl X'
    exact ⟨t2, st1 t2 a1, b1⟩
end XF
