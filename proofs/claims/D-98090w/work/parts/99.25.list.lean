set_option maxRecDepth 100000
/-! A LINE ADDED TO A LIST: ArrayList.add and how it grows (0, 10, 15, 22) -/
theorem Cx.emp {G : GG} {s : State} (C : Cx G s) : va_T (.object "java/lang/Object") (G.2.2.2 0) 0 (fun _ => .null) (OldA G) s G.2.2.1 := by
  obtain ⟨s0, hW, hE⟩ := C.E
  exact va_T.moved hW.alike hE.1.2.1
theorem Cx.mir {G : GG} {s : State} (C : Cx G s) : va_Mi "[Ljava/lang/Object;" (G.2.2.2 40) s := by
  obtain ⟨s0, hW, hE⟩ := C.E
  exact va_Mi.moved hW.alike hE.1.2.2
section XC
variable {l : Launch} {G : GG} {M : Mth} {rm : Room} {TG : List Frame → Array Value → State → Program → Env → MethodId → Method → Code → State → Prop} {cs ss pc z : Nat} {L : LL} {st : List Value} {h : AH} {pg : List IE} {idx : Nat} {v0 : Int32} {t0 : Nat} {r0 : List IE}
theorem X.elen (hpg : PgOk M pg) (hsk : seek pg pc = (pc, .arraylength, 1, v0, t0) :: r0) (kk : X l G M rm TG cs ss (pc + 1) L (.int 0 :: st) h z) : X l G M rm TG cs ss pc L (.ref (G.2.2.2 0) :: st) h z := by
  intro p e s m args below meth c H locs ls E C0 R hq hl
  obtain ⟨cell, h1, h2, h3, h4, h5, h6, h7⟩ := C0.emp.kept R.old
  exact W.alen (n := Int32.ofNat 0) E.1 E.2.1 h1 h2 h5 rfl rfl (pg_at hpg hsk) (kk p e s m args below meth c H locs ls E C0 R hq hl)
theorem X.acE {a b tgt : Nat} {off : Int} (hpg : PgOk M pg) (hsk : seek pg pc = (pc, .if_acmp .eq off, 3, v0, t0) :: r0) (ht : (pc : Int) + off = (tgt : Int)) (kt : a = b → X l G M rm TG cs ss tgt L st h z) (kf : ¬ a = b → X l G M rm TG cs ss (pc + 3) L st h z) : X l G M rm TG cs ss pc L (.ref b :: .ref a :: st) h z := by
  intro p e s m args below meth c H locs ls E C0 R hq hl
  exact lv_acmp_eq (rx := some a) (ry := some b) E.1 E.2.1 (pg_at hpg hsk) ht (fun e9 => kt (Option.some.inj e9) p e s m args below meth c H locs ls E C0 R hq hl) (fun e9 => kf (fun e8 => e9 (by rw [e8])) p e s m args below meth c H locs ls E C0 R hq hl)
theorem X.acN {a b tgt : Nat} {off : Int} (hpg : PgOk M pg) (hsk : seek pg pc = (pc, .if_acmp .ne off, 3, v0, t0) :: r0) (ht : (pc : Int) + off = (tgt : Int)) (kt : ¬ a = b → X l G M rm TG cs ss tgt L st h z) (kf : a = b → X l G M rm TG cs ss (pc + 3) L st h z) : X l G M rm TG cs ss pc L (.ref b :: .ref a :: st) h z := by
  intro p e s m args below meth c H locs ls E C0 R hq hl
  exact lv_acmp_ne (rx := some a) (ry := some b) E.1 E.2.1 (pg_at hpg hsk) ht (fun e9 => kt (fun e8 => e9 (by rw [e8])) p e s m args below meth c H locs ls E C0 R hq hl) (fun e9 => kf (Option.some.inj e9) p e s m args below meth c H locs ls E C0 R hq hl)
theorem X.getC {a n : Nat} {f : Nat → Option Nat} (hpg : PgOk M pg) (hsk : seek pg pc = (pc, .invokevirtual idx, 3, v0, t0) :: r0) (hlink : Cond.methodLink M.1.cls idx ⟨"java/lang/Object", "getClass", "()Ljava/lang/Class;"⟩ ∈ lw_all) (ha : h a = some (aR G 5 n f)) (hf : 1 ≤ rm.frames) (hlo : (st.map fun v => v.category).sum + 14 ≤ rm.locals) (kk : X l G M rm TG cs ss (pc + 3) L (.ref (G.2.2.2 40) :: st) h z) : X l G M rm TG cs ss pc L (.ref a :: st) h z := by
  intro p e s m args below meth c H locs ls E C0 R hq hl
  obtain ⟨hx, hb0, hr0, hlk, hml, hown, hts, hnm⟩ := E
  have hA := (C0.K.2 5 (G.2.1 5, .object "java/lang/Object") rfl).2
  have hc : H[a]? = some (vp_cell (G.2.1 5) (n, .inr (.inr (.inr (.inr f))))) := R.2.2.2 a _ ha
  exact va_getC (C := "[Ljava/lang/Object;") hx hb0 (by rw [hml]; exact hl.1.symm) hown (hts _ hlink) (va_Nw.use rfl (C0.declares q1492)) (hts _ q1491) (hts _ q675) (hts _ q689) C0.mir ⟨_, hc, rfl, va_nmO hA rfl⟩ hf hlo (pg_at hpg hsk) (kk p e s m args below meth c H locs ls ⟨hx, hb0, hr0, hlk, hml, hown, hts, hnm⟩ C0 R hq hl)
theorem X.ldcM (hpg : PgOk M pg) (hsk : seek pg pc = (pc, .ldc idx, 2, v0, t0) :: r0) (hlink : Cond.classLink M.1.cls idx "[Ljava/lang/Object;" ∈ lw_all) (kk : X l G M rm TG cs ss (pc + 2) L (.ref (G.2.2.2 40) :: st) h z) : X l G M rm TG cs ss pc L st h z := by
  intro p e s m args below meth c H locs ls E C0 R hq hl
  exact va_ldcM E.1 E.2.1 E.2.2.2.2.2.1 (E.2.2.2.2.2.2.1 _ hlink) C0.mir (pg_at hpg hsk) (kk p e s m args below meth c H locs ls E C0 R hq hl)
/-- a line's cell, as the machine knows it -/
theorem line_cell {s : State} {H : Heap} {v : Nat} {vs : List Value} (C0 : Cx G s) (R : Rp G h z H) (hv : h v = some (.inr (10, vs))) : ∃ cellV : Cell, H[v]? = some cellV ∧ cellV.vm.isStatics = false ∧ s.vm.findClass RX11 = some cellV.cls := by
  obtain ⟨r', hr', cellV, g1, g2, g3, -⟩ := R.2.2.2 v _ hv
  have hcls := (C0.K.1 10 (RX11, TX11, 2) rfl).2
  exact ⟨cellV, g1, by rw [g3]; rfl, by rw [g2]; exact hcls.1⟩
theorem X.aasL {a v n j : Nat} {f : Nat → Option Nat} {vs : List Value} {i : Int32} (hpg : PgOk M pg) (hsk : seek pg pc = (pc, .aastore, 1, v0, t0) :: r0) (ha : h a = some (aR G 5 n f)) (hv : h v = some (.inr (10, vs))) (hi : IX i n j) (hN : G.2.2.1.size ≤ a)
    (kk : ∀ h', h' = ahU h a (aR G 5 n (va_up f j (some v))) → X l G M rm TG cs ss (pc + 1) L st h' z) : X l G M rm TG cs ss pc L (.ref v :: .int i :: .ref a :: st) h z := by
  intro p e s m args below meth c H locs ls E C0 R hq hl
  obtain ⟨h1, h2⟩ := hi.vp
  have hlt : i.toNatClampNeg < n := Nat.not_le.mp fun q => h1 (Or.inr q)
  have h0 : ¬ i < 0 := fun q => h1 (Or.inl q)
  obtain ⟨cellV, g1, g3, g2⟩ := line_cell C0 R hv
  obtain ⟨kA, comp, k1, k2, k3, -⟩ := (C0.K.2 5 (G.2.1 5, .object "java/lang/Object") rfl).2
  obtain ⟨kE, hkE, -⟩ := Vm.findClass_spec k3
  obtain ⟨kC, hkC, -⟩ := Vm.findClass_spec g2
  refine W.aast E.1 E.2.1 (R.2.2.2 a _ ha) (fun q h => by cases h) (fun h => by cases h) k1 k2 rfl hkE ⟨h0, by show _ < (arrV _ _ _).slots.size; rw [arrV_size]; exact hlt⟩ g1 (fun q h => by rw [h] at g3; cases g3) hkC (vb_asgC (C0.castable q1487) _ _ k3 g2) rfl rfl (pg_at hpg hsk) fun H1 e1 z1 oq => ?_
  refine kk _ rfl p e s m args below meth c H1 _ ls E C0 (R.set hN ?_ z1 oq) ?_ hl
  · show H1[a]? = some (vp_cell _ _)
    rw [e1]
    rw [vp_cell_q, vp_cell_q, arrV_store, h2]
    congr 2
    funext q
    by_cases hq : q = j
    · subst hq
      simp [updV, va_up, va_rf]
    · simp [updV, va_up, hq]
  · intro q hm
    rcases List.mem_append.mp hm with h | h
    · exact hq q h
    · rw [List.mem_singleton.mp h]; exact hN
theorem X.acopy {a0 a1 n0 n1 k : Nat} {f g : Nat → Option Nat} {n : Int32} (hpg : PgOk M pg) (hsk : seek pg pc = (pc, .invokestatic idx, 3, v0, t0) :: r0) (hlink : Cond.methodLink M.1.cls idx arraycopyName ∈ lw_all) (ha0 : h a0 = some (aR G 5 n0 f)) (ha1 : h a1 = some (aR G 5 n1 g)) (hN1 : G.2.2.1.size ≤ a1) (hn : n = nI k) (hk0 : k ≤ n0) (hk1 : k ≤ n1) (hkm : k < 2147483648) (hel : ∀ i, i < k → ∀ y, f i = some y → ∃ vs, h y = some (.inr (10, vs))) (hf : 1 ≤ rm.frames) (hlo : (st.map fun v => v.category).sum + (nativeFrameWords "java/lang/System" "arraycopy" 5 + 11) ≤ rm.locals)
    (kk : ∀ h', h' = ahU h a1 (aR G 5 n1 (va_cpy f g 0 0 k)) → X l G M rm TG cs ss (pc + 3) L st h' z) : X l G M rm TG cs ss pc L (.int n :: .int 0 :: .ref a1 :: .int 0 :: .ref a0 :: st) h z := by
  intro p e s m args below meth c H locs ls E C0 R hq hl
  obtain ⟨hx, hb0, hr0, hlk, hml, hown, hts, hnm⟩ := E
  have hkc : n.toNatClampNeg = k := by rw [hn]; exact nI_clamp (by omega)
  have h00 : (0 : Int32).toNatClampNeg = 0 := by decide
  have hnt : n.toInt = (k : Int) := by rw [hn]; exact nI_toInt hkm
  have ht : (TYS G.2.1)[5]? = some (G.2.1 5, FieldType.object "java/lang/Object") := rfl
  have hc0 : H[a0]? = some (vp_cell (G.2.1 5) (n0, .inr (.inr (.inr (.inr f))))) := R.2.2.2 a0 _ ha0
  have hc1 : H[a1]? = some (vp_cell (G.2.1 5) (n1, .inr (.inr (.inr (.inr g))))) := R.2.2.2 a1 _ ha1
  obtain ⟨kA, comp, r1, r2, r3, -⟩ := (C0.K.2 5 _ ht).2
  have hs0 : (vp_cell (G.2.1 5) (n0, .inr (.inr (.inr (.inr f))))).slots.size = n0 := by rw [vp_cell_q, arrV_size]
  have hs1 : (vp_cell (G.2.1 5) (n1, .inr (.inr (.inr (.inr g))))).slots.size = n1 := by rw [vp_cell_q, arrV_size]
  intro T hT X9
  obtain ⟨vm', X', step⟩ := X9.arraycopy hx hown (hts _ hlink) (hts _ q701) (hts _ q700) (hts _ q115) (src := a0) (dst := a1) (srcPos := 0) (destPos := 0) (n := n) (cs := vp_cell (G.2.1 5) (n0, .inr (.inr (.inr (.inr f))))) (cd := vp_cell (G.2.1 5) (n1, .inr (.inr (.inr (.inr g))))) (by rw [hT]; exact hc0) (by rw [hT]; exact hc1) (fun _ h => by cases h) (fun _ h => by cases h) (fun h => by cases h) (fun h => by cases h) r1 r1 r2 r2 rfl (by decide) (by decide) (by rw [hn]; exact nI_pos (by omega))
    (by rw [hnt, hs0, show (0 : Int32).toInt = 0 from rfl]; omega) (by rw [hnt, hs1, show (0 : Int32).toInt = 0 from rfl]; omega)
    (fun vm₁ hal i hi => by
      rw [hkc] at hi
      have e9 : (vp_cell (G.2.1 5) (n0, .inr (.inr (.inr (.inr f))))).slots.getD ((0 : Int32).toNatClampNeg + i) .null = va_rf (f i) := by
        rw [vp_cell_q, h00, Nat.zero_add, Array.getD_eq_getD_getElem?, arrV_read _ _ (by omega)]
        rfl
      rw [e9]
      cases hy : f i with
      | none => exact ⟨rfl, trivial⟩
      | some y =>
        obtain ⟨vs, hv⟩ := hel i hi y hy
        obtain ⟨cellV, g1, g2, g3⟩ := line_cell C0 R hv
        obtain ⟨kC, hkC, -⟩ := Vm.findClass_spec g3
        obtain ⟨kE, hkE, -⟩ := Vm.findClass_spec r3
        obtain ⟨kC', hkC', -⟩ := hal.2.2 _ _ hkC
        obtain ⟨kE', hkE', -⟩ := hal.2.2 _ _ hkE
        refine ⟨rfl, cellV, (show T.heap[y]? = some cellV by rw [hT]; exact g1), (fun q h => by rw [h] at g2; cases g2), ⟨kC', hkC'⟩, ⟨kE', hkE'⟩, ?_⟩
        show vm₁.assignable _ _ = true
        rw [hal.assignable]
        exact vb_asgC (C0.castable q1487) _ _ r3 g3)
    (g := F0 m pc ls (.int n :: .int 0 :: .ref a1 :: .int 0 :: .ref a0 :: st)) rfl (by rw [hml]; exact hl.1) (rest := st) rfl (by rw [hb0]; exact pg_at hpg hsk) hf (by show 2 * 0 + _ + _ ≤ _; omega)
  have e1 : copied (vp_cell (G.2.1 5) (n0, .inr (.inr (.inr (.inr f))))) (vp_cell (G.2.1 5) (n1, .inr (.inr (.inr (.inr g))))) 0 0 n = vp_cell (G.2.1 5) (n1, .inr (.inr (.inr (.inr (va_cpy f g 0 0 k))))) := by
    rw [vp_cell_q, vp_cell_q, vp_cell_q]
    have h9 := va_copied (fun z => va_rf z) (G.2.1 5) (G.2.1 5) (n0 := n0) (n1 := n1) (sp := 0) (dp := 0) (n := k) f g (by omega)
    rw [← h9, ← hkc]
    rfl
  rw [e1] at X' step
  have hlt : a1 < H.size := (Array.getElem?_eq_some_iff.mp hc1).1
  have hheap : ((T.setVm vm').setCell a1 (vp_cell (G.2.1 5) (n1, .inr (.inr (.inr (.inr (va_cpy f g 0 0 k))))))).heap = H.setIfInBounds a1 (vp_cell (G.2.1 5) (n1, .inr (.inr (.inr (.inr (va_cpy f g 0 0 k)))))) := by rw [← hT]; rfl
  obtain ⟨t, b1, b2⟩ := kk _ rfl p e s m args below meth c (H.setIfInBounds a1 (vp_cell (G.2.1 5) (n1, .inr (.inr (.inr (.inr (va_cpy f g 0 0 k))))))) _ ls ⟨hx, hb0, hr0, hlk, hml, hown, hts, hnm⟩ C0 (R.set hN1 (show (H.setIfInBounds a1 _)[a1]? = some _ by simp [Array.getElem?_setIfInBounds, hlt]) (by simp) (fun q hq => by simp [Array.getElem?_setIfInBounds, Ne.symm hq])) (fun q hm => by
      rcases List.mem_append.mp hm with h | h
      · exact hq q h
      · obtain ⟨w, -, hw⟩ := List.mem_map.mp h
        rw [← hw]
        exact hN1) hl _ hheap X'
  exact ⟨t, step t b1, b2⟩
theorem X.bnd (k : (∀ (y : Nat) (e : va_E), h y = some e → y < z) → X l G M rm TG cs ss pc L st h z) : X l G M rm TG cs ss pc L st h z := by
  intro p e s m args below meth c H locs ls E C0 R hq hl
  exact k (fun y e hy => R.lt hy) p e s m args below meth c H locs ls E C0 R hq hl
theorem X.bndS (k : G.2.2.1.size ≤ z → X l G M rm TG cs ss pc L st h z) : X l G M rm TG cs ss pc L st h z := by
  intro p e s m args below meth c H locs ls E C0 R hq hl
  exact k R.2.1 p e s m args below meth c H locs ls E C0 R hq hl
end XC
/-- how a list is laid: its array, made or not yet; its elements are lines -/
def LsA (G : GG) (h : AH) (la ea n : Nat) (f : Nat → Option Nat) : Prop := (n = 0 ∧ ea = G.2.2.2 0) ∨ ∃ cap, (cap = 10 ∨ cap = 15 ∨ cap = 22) ∧ 0 < n ∧ h ea = some (aR G 5 cap f) ∧ n ≤ cap ∧ G.2.2.1.size ≤ ea ∧ ea ≠ la ∧ ∀ i, i < n → ∃ y vs, f i = some y ∧ h y = some (.inr (10, vs))
theorem c_newLen {l : Launch} {G : GG} {d : Nat} (hd : 1 ≤ d) {c g r : Int32} (hc : (c = 10 ∧ g = 5 ∧ r = 15) ∨ (c = 15 ∧ g = 7 ∧ r = 22)) {h : AH} {z : Nat} {P : Option Value → AH → Nat → Prop} (hs : P (some (.int r)) h z) : Ct l G mJ10_newLength d 0 0 [.int c, .int 1, .int g] h z P := by
  refine Ct.of rfl (Nat.le_of_ble_eq_true rfl) rfl ?_
  refine X.walk wkJ10_newLength (fcons (ceMax ckJ10_194 q664 (by omega)) fnil) (RetOk.m (Nat.zero_le _) (Nat.zero_le _)) ⟨Nat.zero_le _, Nat.zero_le _⟩ [21] 14 rfl ?_
  rcases hc with ⟨rfl, rfl, rfl⟩ | ⟨rfl, rfl, rfl⟩
  · refine And.intro (fun b => absurd (show (10 + maxI 1 5 : Int32) ≤ 0 from b) (by decide)) (fun _ => And.intro (fun b => absurd (show (2147483639 : Int32) < 10 + maxI 1 5 from b) (by decide)) (fun _ => ?_))
    exact hs
  · refine And.intro (fun b => absurd (show (15 + maxI 1 7 : Int32) ≤ 0 from b) (by decide)) (fun _ => And.intro (fun b => absurd (show (2147483639 : Int32) < 15 + maxI 1 7 from b) (by decide)) (fun _ => ?_))
    exact hs
theorem c_copyOf2 {l : Launch} {G : GG} {d : Nat} (hd : 2 ≤ d) {a n N z : Nat} {f : Nat → Option Nat} {h : AH} (ha : h a = some (aR G 5 n f)) (haz : a < z) (hNz : G.2.2.1.size ≤ z) (hn : n ≤ N) (hN : N ≤ 22) (hel : ∀ i, i < n → ∀ y, f i = some y → ∃ vs, h y = some (.inr (10, vs))) (hyz : ∀ y e, h y = some e → y < z) {P : Option Value → AH → Nat → Prop} (hs : ∀ h', h' = ahU (ahU h z (aR G 5 N (fun _ => none))) z (aR G 5 N (va_cpy f (fun _ => none) 0 0 n)) → P (some (.ref z)) h' (z + 1)) : Ct l G mJ11_copyOf_2 d 1 N [.ref a, .int (nI N), .ref (G.2.2.2 40)] h z P := by
  refine Ct.of rfl (Nat.le_of_ble_eq_true rfl) rfl ?_
  refine X.walk wkJ11_copyOf_2 fnil RetOk.no ⟨Nat.zero_le _, Nat.zero_le _⟩ [1] 2 rfl ?_
  refine X.ldcM wkJ11_copyOf_2.2.2.2 rfl q693 ?_
  refine X.acN (tgt := 13) wkJ11_copyOf_2.2.2.2 rfl (by decide) (fun e => absurd rfl e) (fun _ => ?_)
  refine X.walk wkJ11_copyOf_2 fnil RetOk.no ⟨Nat.zero_le _, Nat.zero_le _⟩ [7] 2 rfl ?_
  refine X.newR (C := "java/lang/Object") (t := 5) (N := N) wkJ11_copyOf_2.2.2.2 rfl q695 q694 rfl rfl rfl (by omega) (by show 0 + 1 ≤ 1; decide) (by show 0 + N ≤ N; omega) ?_
  intro h7 e7
  have ha7 : h7 a = some (aR G 5 n f) := by rw [e7, ahU_n (by omega)]; exact ha
  refine X.walk wkJ11_copyOf_2 (fcons (ceMin ckJ11_304 q696 (by omega)) fnil) RetOk.no ⟨Nat.le_refl 1, by show 0 + N ≤ N; omega⟩ [35] 11 rfl ?_
  refine gL (t := 5) ha7 (by decide) ?_
  refine X.acopy (k := n) wkJ11_copyOf_2.2.2.2 rfl q699 ha7 (by rw [e7]; exact ahU_s) hNz ?_ (Nat.le_refl n) hn (by omega) (fun i hi y hy => ?_) (by show 1 ≤ d; omega) (by have hw : nativeFrameWords "java/lang/System" "arraycopy" 5 = 7 := (by decide); show 0 + (nativeFrameWords "java/lang/System" "arraycopy" 5 + 11) ≤ 40 * d; omega) ?_
  · show minI (nI n) (nI N) = nI n
    unfold minI
    rw [if_neg (nI_nlt hn (by omega))]
  · obtain ⟨vs, hv⟩ := hel i hi y hy
    exact ⟨vs, by rw [e7, ahU_n (Nat.ne_of_lt (hyz y _ hv))]; exact hv⟩
  intro h8 e8
  refine X.walk wkJ11_copyOf_2 fnil (RetOk.m (Nat.le_refl 1) (by show 0 + N ≤ N; omega)) ⟨Nat.le_refl 1, by show 0 + N ≤ N; omega⟩ [] 3 rfl ?_
  exact hs _ (by rw [e8, e7])
theorem c_copyOf {l : Launch} {G : GG} {d : Nat} (hd : 3 ≤ d) {a n N z : Nat} {f : Nat → Option Nat} {h : AH} (ha : h a = some (aR G 5 n f)) (haz : a < z) (hNz : G.2.2.1.size ≤ z) (hn : n ≤ N) (hN : N ≤ 22) (hel : ∀ i, i < n → ∀ y, f i = some y → ∃ vs, h y = some (.inr (10, vs))) (hyz : ∀ y e, h y = some e → y < z) {P : Option Value → AH → Nat → Prop} (hs : ∀ h', h' = ahU (ahU h z (aR G 5 N (fun _ => none))) z (aR G 5 N (va_cpy f (fun _ => none) 0 0 n)) → P (some (.ref z)) h' (z + 1)) : Ct l G mJ11_copyOf d 1 N [.ref a, .int (nI N)] h z P := by
  refine Ct.of rfl (Nat.le_of_ble_eq_true rfl) rfl ?_
  refine X.walk wkJ11_copyOf fnil RetOk.no ⟨Nat.zero_le _, Nat.zero_le _⟩ [3] 4 rfl ?_
  refine X.getC wkJ11_copyOf.2.2.2 rfl q674 ha (by show 1 ≤ d; omega) (by show 2 + 14 ≤ 40 * d; omega) ?_
  refine X.callS (As := [.ref a, .int (nI N), .ref (G.2.2.2 40)]) (rest := []) ckJ11_300 wkJ11_copyOf.2.2.2 rfl (c_copyOf2 (d := d - 1) (by omega) ha haz hNz hn hN hel hyz (P := fun v h' z' => v = some (.ref z) ∧ z' = z + 1 ∧ h' = ahU (ahU h z (aR G 5 N (fun _ => none))) z (aR G 5 N (va_cpy f (fun _ => none) 0 0 n))) (fun h' e => ⟨rfl, rfl, e⟩)) rfl rfl (Fit.K (by omega) (by decide) (by omega) (by omega)) (by decide) ?_
  intro v h' z' hP
  obtain ⟨rfl, rfl, e⟩ := hP
  refine X.walk wkJ11_copyOf fnil (RetOk.m (by omega) (by omega)) ⟨by show 0 + 1 ≤ 1; omega, by show 0 + N ≤ N; omega⟩ [] 2 rfl ?_
  exact hs _ e
/-- the array grown -/
def GrP (G : GG) (h h' : AH) (la n z : Nat) (mc : Int32) (f : Nat → Option Nat) : Prop := ∃ (cap : Nat) (f' : Nat → Option Nat), (cap = 10 ∨ cap = 15 ∨ cap = 22) ∧ n < cap ∧ h' la = some (.inr (11, lsF mc z (nI n))) ∧ h' z = some (aR G 5 cap f') ∧ (∀ i, i < n → f' i = f i) ∧ ∀ q, q ≠ la → q ≠ z → h' q = h q
theorem c_grow2 {l : Launch} {G : GG} {d : Nat} (hd : 4 ≤ d) {la ea n z : Nat} {mc : Int32} {f : Nat → Option Nat} {h : AH} (ho : h la = some (.inr (11, lsF mc ea (nI n)))) (hN : G.2.2.1.size ≤ la) (hla : la < z) (hn : n < 16) (hE : (n = 0 ∧ ea = G.2.2.2 0) ∨ ((n = 10 ∨ n = 15) ∧ h ea = some (aR G 5 n f) ∧ G.2.2.1.size ≤ ea ∧ ea ≠ la ∧ ∀ i, i < n → ∃ y vs, f i = some y ∧ h y = some (.inr (10, vs)))) (hyz : ∀ (y : Nat) (e : va_E), h y = some e → y < z) {P : Option Value → AH → Nat → Prop} (hs : ∀ h', GrP G h h' la n z mc f → P (some (.ref z)) h' (z + 1)) : Ct l G mJ2_grow_2 d 1 22 [.ref la, .int (nI (n + 1))] h z P := by
  refine Ct.of rfl (Nat.le_of_ble_eq_true rfl) rfl ?_
  have hNz : G.2.2.1.size ≤ z := by omega
  rcases hE with ⟨rfl, rfl⟩ | ⟨hn2, hea, hNe, hne, hfl⟩
  · refine X.walk wkJ2_grow_2 fnil RetOk.no ⟨Nat.zero_le _, Nat.zero_le _⟩ [4] 3 rfl ?_
    refine gF ho ?_
    refine X.elen wkJ2_grow_2.2.2.2 rfl ?_
    refine X.walk wkJ2_grow_2 fnil RetOk.no ⟨Nat.zero_le _, Nat.zero_le _⟩ [14, 20] 6 rfl ?_
    refine And.intro (fun b => absurd (show (0 : Int32) < 0 from b) (by decide)) (fun _ => ?_)
    refine gF ho ?_
    refine X.gets wkJ2_grow_2.2.2.2 rfl stc_list q148 ?_
    refine X.acE (tgt := 45) wkJ2_grow_2.2.2.2 rfl (by decide) (fun _ => ?_) (fun e => absurd rfl e)
    refine X.walk wkJ2_grow_2 (fcons (ceMax ckJ2_79 q702 (by omega)) fnil) RetOk.no ⟨Nat.zero_le _, Nat.zero_le _⟩ [52] 5 rfl ?_
    refine X.newR (C := "java/lang/Object") (t := 5) (N := 10) wkJ2_grow_2.2.2.2 rfl q703 q694 rfl rfl (by decide) (by omega) (by show 0 + 1 ≤ 1; decide) (by show 0 + 10 ≤ 22; decide) ?_
    intro h7 e7
    have ho7 : h7 la = some (.inr (11, lsF mc (G.2.2.2 0) (nI 0))) := by rw [e7, ahU_n (by omega)]; exact ho
    refine X.walk wkJ2_grow_2 fnil (RetOk.m (by omega) (by omega)) ⟨by show 0 + 1 ≤ 1; decide, by show 0 + 10 ≤ 22; decide⟩ [] 4 rfl ?_
    refine pF0 (okV_W rfl) ho7 (Nat.le_of_ble_eq_true rfl) hN ?_
    intro h9 e9
    refine hs _ ⟨10, fun _ => none, Or.inl rfl, by decide, by rw [e9]; exact ahU_s, by rw [e9, ahU_n (by omega), e7]; exact ahU_s, fun i hi => absurd hi (by omega), fun q h1 h2 => by rw [e9, ahU_n h1, e7, ahU_n h2]⟩
  · have hez := hyz _ _ hea
    refine X.walk wkJ2_grow_2 fnil RetOk.no ⟨Nat.zero_le _, Nat.zero_le _⟩ [20, 10] 6 rfl ?_
    refine gF ho ?_
    refine gL (t := 5) hea (by decide) ?_
    refine And.intro (fun _ => ?_) (fun b => absurd (show (0 : Int32) < nI n by rcases hn2 with rfl | rfl <;> decide) b)
    obtain ⟨g, r, hgr, hr⟩ : ∃ g r : Nat, ((nI n = 10 ∧ nI g = 5 ∧ nI r = 15) ∨ (nI n = 15 ∧ nI g = 7 ∧ nI r = 22)) ∧ ((r = 15 ∧ n = 10 ∧ g = 5) ∨ (r = 22 ∧ n = 15 ∧ g = 7)) := by
      rcases hn2 with rfl | rfl
      · exact ⟨5, 15, Or.inl ⟨by decide, by decide, by decide⟩, Or.inl ⟨rfl, rfl, rfl⟩⟩
      · exact ⟨7, 22, Or.inr ⟨by decide, by decide, by decide⟩, Or.inr ⟨rfl, rfl, rfl⟩⟩
    have hg1 : nI (n + 1) - nI n = 1 := by rcases hn2 with rfl | rfl <;> decide
    have hg2 : nI n >>> ((1 : Int32) &&& 31) = nI g := by rcases hr with ⟨-, rfl, rfl⟩ | ⟨-, rfl, rfl⟩ <;> decide
    refine X.walk wkJ2_grow_2 fnil RetOk.no ⟨Nat.zero_le _, Nat.zero_le _⟩ [27] 8 rfl ?_
    refine X.callS (As := [.int (nI n), .int 1, .int (nI g)]) (rest := []) ckJ2_73 wkJ2_grow_2.2.2.2 rfl (c_newLen (d := d - 1) (r := nI r) (by omega) hgr (P := fun v h' z' => v = some (.int (nI r)) ∧ h' = h ∧ z' = z) ⟨rfl, rfl, rfl⟩) (by rw [hg1, hg2]; rfl) rfl (Fit.K (by omega) (by decide) (by omega) (by omega)) (by decide) ?_
    intro v h' z' hP
    obtain ⟨rfl, rfl, rfl⟩ := hP
    refine X.walk wkJ2_grow_2 fnil RetOk.no ⟨Nat.zero_le _, Nat.zero_le _⟩ [37] 6 rfl ?_
    refine gF ho ?_
    refine X.callS (As := [.ref ea, .int (nI r)]) (rest := [.ref la]) ckJ2_66 wkJ2_grow_2.2.2.2 rfl (c_copyOf (d := d - 1) (N := r) (by omega) hea hez hNz (by omega) (by omega) (fun i hi y hy => by
      obtain ⟨y2, vs, h1, h2⟩ := hfl i hi
      obtain rfl := Option.some.inj (hy.symm.trans h1)
      exact ⟨vs, h2⟩) hyz (P := fun v h2 z2 => v = some (.ref z') ∧ z2 = z' + 1 ∧ h2 = ahU (ahU h' z' (aR G 5 r (fun _ => none))) z' (aR G 5 r (va_cpy f (fun _ => none) 0 0 n))) (fun h2 e => ⟨rfl, rfl, e⟩)) rfl rfl (Fit.K (by omega) (by decide) (by omega) (by omega)) (Nat.le_of_ble_eq_true rfl) ?_
    intro v h2 z2 hP
    obtain ⟨rfl, rfl, e2⟩ := hP
    have ho2 : h2 la = some (.inr (11, lsF mc ea (nI n))) := by rw [e2, ahU_n (by omega), ahU_n (by omega)]; exact ho
    refine X.walk wkJ2_grow_2 fnil (RetOk.m (by omega) (by omega)) ⟨by show 0 + 0 + 1 ≤ 1; omega, by show 0 + 0 + r ≤ 22; omega⟩ [] 4 rfl ?_
    refine pF0 (okV_W rfl) ho2 (Nat.le_of_ble_eq_true rfl) hN ?_
    intro h9 e9
    refine hs _ ⟨r, va_cpy f (fun _ => none) 0 0 n, by omega, by omega, by rw [e9]; exact ahU_s, by rw [e9, ahU_n (by omega), e2]; exact ahU_s, fun i hi => ?_, fun q h3 h4 => by rw [e9, ahU_n h3, e2, ahU_n h4, ahU_n h4]⟩
    unfold va_cpy
    rw [if_pos ⟨by omega, by omega⟩]
    congr 1
    omega
theorem c_grow {l : Launch} {G : GG} {d : Nat} (hd : 5 ≤ d) {la ea n z : Nat} {mc : Int32} {f : Nat → Option Nat} {h : AH} (ho : h la = some (.inr (11, lsF mc ea (nI n)))) (hN : G.2.2.1.size ≤ la) (hla : la < z) (hn : n < 16) (hE : (n = 0 ∧ ea = G.2.2.2 0) ∨ ((n = 10 ∨ n = 15) ∧ h ea = some (aR G 5 n f) ∧ G.2.2.1.size ≤ ea ∧ ea ≠ la ∧ ∀ i, i < n → ∃ y vs, f i = some y ∧ h y = some (.inr (10, vs)))) (hyz : ∀ (y : Nat) (e : va_E), h y = some e → y < z) {P : Option Value → AH → Nat → Prop} (hs : ∀ h', GrP G h h' la n z mc f → P (some (.ref z)) h' (z + 1)) : Ct l G mJ2_grow d 1 22 [.ref la] h z P := by
  refine Ct.of rfl (Nat.le_of_ble_eq_true rfl) rfl ?_
  refine X.walk wkJ2_grow fnil RetOk.no ⟨Nat.zero_le _, Nat.zero_le _⟩ [7] 5 rfl ?_
  refine gF ho ?_
  refine X.callV (As := [.int (nI (n + 1))]) (rest := []) ckJ2_69 wkJ2_grow.2.2.2 rfl (c_grow2 (d := d - 1) (by omega) ho hN hla hn hE hyz (P := fun v h' z' => v = some (.ref z) ∧ z' = z + 1 ∧ GrP G h h' la n z mc f) (fun h' e => ⟨rfl, rfl, e⟩)) ho rfl (by rw [← nI_1]; rfl) rfl (Fit.K (by omega) (by decide) (by omega) (by omega)) (by decide) ?_
  intro v h' z' hP
  obtain ⟨rfl, rfl, e⟩ := hP
  refine X.walk wkJ2_grow fnil (RetOk.m (by omega) (by omega)) ⟨by show 0 + 1 ≤ 1; decide, by show 0 + 22 ≤ 22; decide⟩ [] 1 rfl ?_
  exact hs _ e
/-- a line laid behind the list's others -/
def AdP (G : GG) (h h' : AH) (la ea n v z z' : Nat) (f : Nat → Option Nat) : Prop := ∃ (mc : Int32) (ea' cap : Nat) (f' : Nat → Option Nat), (cap = 10 ∨ cap = 15 ∨ cap = 22) ∧ n < cap ∧ h' la = some (.inr (11, lsF mc ea' (nI (n + 1)))) ∧ h' ea' = some (aR G 5 cap f') ∧ G.2.2.1.size ≤ ea' ∧ ea' ≠ la ∧ (∀ i, i < n → f' i = f i) ∧ f' n = some v ∧ ((ea' = ea ∧ z' = z ∧ 0 < n) ∨ (ea' = z ∧ z' = z + 1)) ∧ ∀ q, q ≠ la → q ≠ ea' → h' q = h q
theorem c_add2 {l : Launch} {G : GG} {d : Nat} (hd : 6 ≤ d) {la ea n v z : Nat} {mc : Int32} {f : Nat → Option Nat} {vs : List Value} {h : AH} (ho : h la = some (.inr (11, lsF mc ea (nI n)))) (hN : G.2.2.1.size ≤ la) (hla : la < z) (hn : n < 16) (hv : h v = some (.inr (10, vs))) (hE : LsA G h la ea n f) {P : Option Value → AH → Nat → Prop} (hs : ∀ h' z', AdP G h h' la ea n v z z' f → P none h' z') : Ct l G mJ2_add_2 d 1 22 [.ref la, .ref v, .ref ea, .int (nI n)] h z P := by
  refine Ct.of rfl (Nat.le_of_ble_eq_true rfl) rfl ?_
  refine X.bnd fun hyz => ?_
  have hNz : G.2.2.1.size ≤ z := by omega
  have hvl : v ≠ la := fun e => by rw [e, ho] at hv; cases hv
  have grown : (n = 0 ∧ ea = G.2.2.2 0) ∨ ((n = 10 ∨ n = 15) ∧ h ea = some (aR G 5 n f) ∧ G.2.2.1.size ≤ ea ∧ ea ≠ la ∧ ∀ i, i < n → ∃ y vs, f i = some y ∧ h y = some (.inr (10, vs))) → X l G mJ2_add_2 (rmK d 1 22) (TGm G P 1 22) 0 0 6 [(0, .ref la), (1, .ref v), (2, .ref ea), (3, .int (nI n))] [] h z := by
    intro hg
    refine X.walk wkJ2_add_2 fnil RetOk.no ⟨Nat.zero_le _, Nat.zero_le _⟩ [7] 2 rfl ?_
    refine X.callV (As := []) (rest := []) ckJ2_129 wkJ2_add_2.2.2.2 rfl (c_grow (d := d - 1) (by omega) ho hN hla hn hg hyz (P := fun v h' z' => v = some (.ref z) ∧ z' = z + 1 ∧ GrP G h h' la n z mc f) (fun h' e => ⟨rfl, rfl, e⟩)) ho rfl rfl rfl (Fit.K (by omega) (by decide) (by omega) (by omega)) (by decide) ?_
    intro w h' z' hP
    obtain ⟨rfl, rfl, cap, f', g1, g2, g3, g4, g5, g6⟩ := hP
    have hvz := hyz _ _ hv
    have hv' : h' v = some (.inr (10, vs)) := by rw [g6 v hvl (by omega)]; exact hv
    refine X.walk wkJ2_add_2 fnil RetOk.no ⟨by show 0 + 1 ≤ 1; decide, by show 0 + 22 ≤ 22; decide⟩ [14] 5 rfl ?_
    refine X.aasL wkJ2_add_2.2.2.2 rfl g4 hv' (ixN g2 (by omega)) hNz ?_
    intro h2 e2
    have ho2 : h2 la = some (.inr (11, lsF mc z (nI n))) := by rw [e2, ahU_n (by omega)]; exact g3
    refine X.walk wkJ2_add_2 fnil (RetOk.m (by omega) (by omega)) ⟨by show 0 + 1 ≤ 1; decide, by show 0 + 22 ≤ 22; decide⟩ [] 6 rfl ?_
    refine pF0 (okV_W rfl) ho2 (Nat.le_of_ble_eq_true rfl) hN ?_
    intro h9 e9
    refine hs _ _ ⟨mc, z, cap, va_up f' n (some v), g1, g2, by rw [e9, ahU_s, ← nI_1]; rfl, by rw [e9, ahU_n (by omega), e2]; exact ahU_s, hNz, by omega, fun i hi => ?_, by simp [va_up], Or.inr ⟨rfl, rfl⟩, fun q h3 h4 => by rw [e9, ahU_n h3, e2, ahU_n h4]; exact g6 q h3 h4⟩
    rw [← g5 i hi]
    simp [va_up, Nat.ne_of_lt hi]
  rcases hE with ⟨e0, e1⟩ | ⟨cap, hcap, hn0, hea, hnc, hNe, hne, hfl⟩
  · subst e1
    refine X.walk wkJ2_add_2 fnil RetOk.no ⟨Nat.zero_le _, Nat.zero_le _⟩ [2] 2 rfl ?_
    refine X.elen wkJ2_add_2.2.2.2 rfl ?_
    refine X.walk wkJ2_add_2 fnil RetOk.no ⟨Nat.zero_le _, Nat.zero_le _⟩ [6, 11] 1 rfl ?_
    refine And.intro (fun b => absurd (by rw [e0]; decide) b) (fun _ => ?_)
    exact grown (Or.inl ⟨e0, rfl⟩)
  · refine X.walk wkJ2_add_2 fnil RetOk.no ⟨Nat.zero_le _, Nat.zero_le _⟩ [6, 11] 4 rfl ?_
    refine gL (t := 5) hea (by decide) ?_
    refine And.intro (fun b => ?_) (fun b => ?_)
    · have hlt : n < cap := by
        have : n ≠ cap := fun e => b (by rw [e])
        omega
      refine X.walk wkJ2_add_2 fnil RetOk.no ⟨Nat.zero_le _, Nat.zero_le _⟩ [14] 3 rfl ?_
      refine X.aasL wkJ2_add_2.2.2.2 rfl hea hv (ixN hlt (by omega)) hNe ?_
      intro h2 e2
      have ho2 : h2 la = some (.inr (11, lsF mc ea (nI n))) := by rw [e2, ahU_n (Ne.symm hne)]; exact ho
      refine X.walk wkJ2_add_2 fnil (RetOk.m (by omega) (by omega)) ⟨Nat.zero_le _, Nat.zero_le _⟩ [] 6 rfl ?_
      refine pF0 (okV_W rfl) ho2 (Nat.le_of_ble_eq_true rfl) hN ?_
      intro h9 e9
      refine hs _ _ ⟨mc, ea, cap, va_up f n (some v), hcap, hlt, by rw [e9, ahU_s, ← nI_1]; rfl, by rw [e9, ahU_n hne, e2]; exact ahU_s, hNe, hne, fun i hi => by simp [va_up, Nat.ne_of_lt hi], by simp [va_up], Or.inl ⟨rfl, rfl, hn0⟩, fun q h3 h4 => by rw [e9, ahU_n h3, e2, ahU_n h4]⟩
    · have e : n = cap := (nI_eq (by omega) (by omega)).mp (show nI n = nI cap from b)
      subst e
      exact grown (Or.inr ⟨by omega, hea, hNe, hne, hfl⟩)
theorem c_add {l : Launch} {G : GG} {d : Nat} (hd : 7 ≤ d) {la ea n v z : Nat} {mc : Int32} {f : Nat → Option Nat} {vs : List Value} {h : AH} (ho : h la = some (.inr (11, lsF mc ea (nI n)))) (hN : G.2.2.1.size ≤ la) (hla : la < z) (hn : n < 16) (hv : h v = some (.inr (10, vs))) (hE : LsA G h la ea n f) {P : Option Value → AH → Nat → Prop} (hs : ∀ h' z', AdP G h h' la ea n v z z' f → P (some (.int 1)) h' z') : Ct l G mJ2_add d 1 22 [.ref la, .ref v] h z P := by
  refine Ct.of rfl (Nat.le_of_ble_eq_true rfl) rfl ?_
  have hvl : v ≠ la := fun e => by rw [e, ho] at hv; cases hv
  refine X.walk wkJ2_add fnil RetOk.no ⟨Nat.zero_le _, Nat.zero_le _⟩ [20] 12 rfl ?_
  refine gF ho ?_
  refine pF0 (okV_W rfl) ho (Nat.le_of_ble_eq_true rfl) hN ?_
  intro h1 e1
  have ho1 : h1 la = some (.inr (11, lsF (mc + 1) ea (nI n))) := by rw [e1, ahU_s]; rfl
  have hv1 : h1 v = some (.inr (10, vs)) := by rw [e1, ahU_n hvl]; exact hv
  refine gF ho1 ?_
  refine gF ho1 ?_
  have hE1 : LsA G h1 la ea n f := by
    rcases hE with hE | ⟨cap, hcap, hn0, hea, hnc, hNe, hne, hfl⟩
    · exact Or.inl hE
    · refine Or.inr ⟨cap, hcap, hn0, by rw [e1, ahU_n hne]; exact hea, hnc, hNe, hne, fun i hi => ?_⟩
      obtain ⟨y, ys, g1, g2⟩ := hfl i hi
      exact ⟨y, ys, g1, by rw [e1, ahU_n (fun e => by rw [e, ho] at g2; cases g2)]; exact g2⟩
  refine X.callV (As := [.ref v, .ref ea, .int (nI n)]) (rest := []) ckJ2_131 wkJ2_add.2.2.2 rfl (c_add2 (d := d - 1) (by omega) ho1 hN hla hn hv1 hE1 (P := fun w h' z' => w = none ∧ AdP G h1 h' la ea n v z z' f) (fun h' z' e => ⟨rfl, e⟩)) ho1 rfl rfl rfl (Fit.K (by omega) (by decide) (by omega) (by omega)) (by decide) ?_
  intro w h' z' hP
  obtain ⟨rfl, mc', ea', cap, f', g1, g2, g3, g4, g5, g6, g7, g8, g9, g10⟩ := hP
  refine X.walk wkJ2_add fnil (RetOk.m (by omega) (by omega)) ⟨by show 0 + 1 ≤ 1; decide, by show 0 + 22 ≤ 22; decide⟩ [] 2 rfl ?_
  exact ⟨Or.inr rfl, hs _ _ ⟨mc', ea', cap, f', g1, g2, g3, g4, g5, g6, g7, g8, g9, fun q h3 h4 => by rw [g10 q h3 h4, e1, ahU_n h3]⟩⟩
