set_option maxRecDepth 100000
section BK
variable {l : Launch} {G : GG} {M : Mth} {rm : Room} {TG : List Frame → Array Value → State → Program → Env → MethodId → Method → Code → State → Prop} {cs ss pc z : Nat} {L : LL} {st : List Value} {h : AH}
theorem X.go1 {L2 : LL} {st2 : List Value} {pc2 : Nat} (f : ∀ (p : Program) (e : Env) (s : State) (m : MethodId) (args : Array Value) (below : List Frame) (meth : Method) (c : Code) (H : Heap) (locs : List Loc) (ls : Array Slot) (Q : State → Prop), p.tables.exec = Jvm.exec → c.code = M.2.1 → s.vm.findClass M.1.cls = some m.cls → (∀ w ∈ lw_all, w.before args s = true) → lv_has ls M.2.2.1 L → (W p l e rm s m args below meth c H locs cs ss Q (F0 m pc2 ls st2)) → W p l e rm s m args below meth c H locs cs ss Q (F0 m pc ls st)) (hL : L2 = L) (k : X l G M rm TG cs ss pc2 L2 st2 h z) : X l G M rm TG cs ss pc L st h z := by
  intro p e s m args below meth c H locs ls E C R hq hl
  subst hL
  exact f p e s m args below meth c H locs ls _ E.1 E.2.1 E.2.2.2.2.2.1 E.2.2.2.2.2.2.1 hl (k p e s m args below meth c H locs ls E C R hq hl)
/-- a call's row is true: where what it asks holds, the machine goes on behind the call (no cell is made) -/
def CallOk (l : Launch) (G : GG) (M : Mth) (rm : Room) (q : CE) : Prop := ∀ (TG : List Frame → Array Value → State → Program → Env → MethodId → Method → Code → State → Prop) (cs ss pc z : Nat) (L : LL) (as rest : List Value) (h : AH), cs ≤ rm.cells ∧ ss ≤ rm.slots →
  decode M.2.1 pc = .ok (bif q.2.1 then .invokestatic q.1 else .invokevirtual q.1, 3) → as.length = q.2.2.1 → catS rest ≤ 8 → q.2.2.2 as h (fun v h' => X l G M rm TG cs ss (pc + 3) L (v.toList ++ rest) h' z) → X l G M rm TG cs ss pc L (as.reverse ++ rest) h z
/-- what is asked is no more than what must hold behind -/
def Mono (sp : CSpec) : Prop := ∀ as h (Q Q' : Option Value → AH → Prop), (∀ v h', Q v h' → Q' v h') → sp as h Q → sp as h Q'
/-- a return of the method leads to TG if 'ret' holds -/
def RetOk (l : Launch) (G : GG) (M : Mth) (rm : Room) (TG : List Frame → Array Value → State → Program → Env → MethodId → Method → Code → State → Prop) (cs ss z : Nat) (ret : Option Value → AH → Prop) : Prop :=
  (∀ (pc : Nat) (L : LL) (h : AH) (x : Int32), decode M.2.1 pc = .ok (.ireturn, 1) → (M.2.2.2 = some .int ∨ (M.2.2.2 = some .boolean ∧ (x = 0 ∨ x = 1))) → ret (some (.int x)) h → X l G M rm TG cs ss pc L [.int x] h z) ∧
  (∀ (pc : Nat) (L : LL) (h : AH), decode M.2.1 pc = .ok (.return_, 1) → M.2.2.2 = none → ret none h → X l G M rm TG cs ss pc L [] h z) ∧
  (∀ (pc : Nat) (L : LL) (h : AH) (x : Value) (rty : FieldType), decode M.2.1 pc = .ok (.areturn, 1) → M.2.2.2 = some rty → ((∃ n, rty = .object n) ∨ ∃ t, rty = .array t) → (x = .null ∨ ∃ a, x = .ref a) → ret (some x) h → X l G M rm TG cs ss pc L [x] h z)
theorem RetOk.no {l : Launch} {G : GG} {M : Mth} {rm : Room} {TG : List Frame → Array Value → State → Program → Env → MethodId → Method → Code → State → Prop} {cs ss z : Nat} : RetOk l G M rm TG cs ss z (fun _ _ => False) :=
  ⟨fun _ _ _ _ _ _ h => h.elim, fun _ _ _ _ _ h => h.elim, fun _ _ _ _ _ _ _ _ _ h => h.elim⟩
theorem RetOk.m {l : Launch} {G : GG} {M : Mth} {rm : Room} {cs ss z mc ms : Nat} {P : Option Value → AH → Nat → Prop} (h1 : cs ≤ mc) (h2 : ss ≤ ms) : RetOk l G M rm (TGm G P mc ms) cs ss z (fun v h => P v h z) := by
  refine ⟨fun pc L h x hd hr hP => ?_, fun pc L h hd hr hP => ?_, fun pc L h x rty hd hr hrt hx hP => ?_⟩
  · refine X.widen h1 h2 ?_
    intro p e s m args below meth c H locs ls E C R hq hl
    rcases hr with hr | ⟨hr, hx⟩
    · exact W.iret (hlocks := E.2.2.2.1) E.1 E.2.1 (E.2.2.1.trans hr) (fun t ht hW => ⟨_, h, z, rfl, hP, by rw [ht]; exact R⟩) hq hd
    · exact W.zret (hlocks := E.2.2.2.1) E.1 E.2.1 (E.2.2.1.trans hr) (by rcases hx with rfl | rfl <;> decide) (fun t ht hW => ⟨_, h, z, rfl, hP, by rw [ht]; exact R⟩) hq hd
  · refine X.widen h1 h2 ?_
    intro p e s m args below meth c H locs ls E C R hq hl
    exact W.vret (hlocks := E.2.2.2.1) E.1 E.2.1 (E.2.2.1.trans hr) (fun t ht hW => ⟨_, h, z, rfl, hP, by rw [ht]; exact R⟩) hq hd
  · refine X.widen h1 h2 ?_
    intro p e s m args below meth c H locs ls E C R hq hl
    exact W.aret (hlocks := E.2.2.2.1) E.1 E.2.1 (E.2.2.1.trans hr) hrt hx (fun t ht hW => ⟨_, h, z, rfl, hP, by rw [ht]; exact R⟩) hq hd
theorem ceF_mem : ∀ {ce : List CE} {i : Nat} {x : Bool × Nat × CSpec}, ceF ce i = some x → (i, x) ∈ ce
  | [], _, _, h => by cases h
  | (j, y) :: r, i, x, h => by
    unfold ceF at h
    cases hb : Nat.beq j i with
    | true =>
      rw [hb] at h
      have e1 : j = i := Nat.eq_of_beq_eq_true hb
      have e2 : y = x := Option.some.inj h
      subst e1; subst e2
      exact List.mem_cons_self
    | false =>
      rw [hb] at h
      exact List.mem_cons_of_mem _ (ceF_mem h)
theorem pops_ok : ∀ {n : Nat} {acc st as rest : List Value}, pops n acc st = some (as, rest) → ∃ xs : List Value, as = xs ++ acc ∧ st = xs.reverse ++ rest ∧ xs.length = n
  | 0, acc, st, as, rest, h => by
    unfold pops at h
    have h := Option.some.inj h
    obtain ⟨rfl, rfl⟩ := Prod.mk.inj h
    exact ⟨[], rfl, rfl, rfl⟩
  | n + 1, acc, [], as, rest, h => by cases h
  | n + 1, acc, v :: st, as, rest, h => by
    unfold pops at h
    obtain ⟨xs, h1, h2, h3⟩ := pops_ok h
    refine ⟨xs ++ [v], by rw [h1]; simp, by rw [h2]; simp, by simp [h3]⟩
theorem catS_le : ∀ (st : List Value), (st.map fun v => v.category).sum ≤ catS st
  | [] => Nat.le_refl _
  | v :: r => by
    have h := catS_le r
    rw [List.map_cons, List.sum_cons]
    have h2 : v.category + catS r ≤ catS (v :: r) := by
      cases v <;> simp only [catS, Value.category] <;> omega
    omega
theorem cat1_1 {v : Value} (h : cat1 v = true) : v.category = 1 := by
  cases v <;> first | rfl | cases h
set_option maxHeartbeats 4000000 in
theorem step1_ok {ini : Bool} {ft : List FtE} {ct : List (Nat × Int32)} {ce : List CE} {ret : Option Value → AH → Prop} {op : Instr} {v : Int32} {tgt len : Nat} {cont jmp : LL → List Value → AH → Prop} {stop : Prop}
    (hini : ini = true → M.1.name = "<init>") (hft : ∀ q ∈ ft, FieldOk M.1.cls q) (hct : ∀ q ∈ ct, Cond.constant M.1.cls q.1 q.2 ∈ lw_all)
    (hce : ∀ q ∈ ce, CallOk l G M rm q) (hmo : ∀ q ∈ ce, Mono q.2.2.2) (hret : RetOk l G M rm TG cs ss z ret) (hcs : cs ≤ rm.cells ∧ ss ≤ rm.slots)
    (hd : decode M.2.1 pc = .ok (op, len)) (hok : okE M.2.2.1 (pc, op, len, v, tgt) = true)
    (c1 : ∀ L st h, cont L st h → X l G M rm TG cs ss (pc + len) L st h z) (c2 : ∀ L st h, jmp L st h → X l G M rm TG cs ss tgt L st h z) (c3 : stop → X l G M rm TG cs ss pc L st h z)
    (hs : step1 G ini ft ct ce M.2.2.2 ret op v tgt L st h cont jmp stop) : X l G M rm TG cs ss pc L st h z := by
  cases op
  case iconst n =>
    simp only [okE, Bool.and_eq_true, beq_iff_eq] at hok
    obtain ⟨rfl, h2⟩ := hok
    exact X.go1 (fun p e s m args below meth c H locs ls Q hx hb _ _ _ k => lv_iconst hx hb hd h2 k) rfl (c1 _ _ _ hs)
  case bipush n =>
    simp only [okE, Bool.and_eq_true, beq_iff_eq] at hok
    obtain ⟨rfl, h2⟩ := hok
    exact X.go1 (fun p e s m args below meth c H locs ls Q hx hb _ _ _ k => lv_bipush hx hb hd h2 k) rfl (c1 _ _ _ hs)
  case sipush n =>
    simp only [okE, Bool.and_eq_true, beq_iff_eq] at hok
    obtain ⟨rfl, h2⟩ := hok
    exact X.go1 (fun p e s m args below meth c H locs ls Q hx hb _ _ _ k => lv_sipush hx hb hd h2 k) rfl (c1 _ _ _ hs)
  case ldc i =>
    simp only [okE, beq_iff_eq] at hok
    subst hok
    simp only [step1] at hs
    split at hs
    · rename_i x hx1
      exact X.go1 (fun p e s m args below meth c H locs ls Q hx hb ho ht _ k => lv_ldc hx hb ho (ht _ (hct _ (ctF_mem hx1))) hd k) rfl (c1 _ _ _ hs)
    · exact c3 hs
  case ldc_w i =>
    simp only [okE, beq_iff_eq] at hok
    subst hok
    simp only [step1] at hs
    split at hs
    · rename_i x hx1
      exact X.go1 (fun p e s m args below meth c H locs ls Q hx hb ho ht _ k => lv_ldcw hx hb ho (ht _ (hct _ (ctF_mem hx1))) hd k) rfl (c1 _ _ _ hs)
    · exact c3 hs
  case iload_n k =>
    simp only [okE, Bool.and_eq_true, beq_iff_eq] at hok
    obtain ⟨rfl, h2⟩ := hok
    simp only [step1] at hs
    split at hs
    · rename_i x hx1
      exact X.go1 (fun p e s m args below meth c H locs ls Q hx hb ho ht hl k => lv_iload_n hx hb hd h2 (lk_has hl hx1) k) rfl (c1 _ _ _ hs)
    · exact hs.elim
  case iload k =>
    simp only [okE, Bool.and_eq_true, beq_iff_eq] at hok
    obtain ⟨rfl, rfl⟩ := hok
    simp only [step1] at hs
    split at hs
    · rename_i x hx1
      exact X.go1 (fun p e s m args below meth c H locs ls Q hx hb ho ht hl k => lv_iload hx hb hd (lk_has hl hx1) k) rfl (c1 _ _ _ hs)
    · exact hs.elim
  case aload_n k =>
    simp only [okE, Bool.and_eq_true, beq_iff_eq] at hok
    obtain ⟨rfl, h2⟩ := hok
    simp only [step1] at hs
    split at hs
    · rename_i x hx1
      exact X.go1 (fun p e s m args below meth c H locs ls Q hx hb ho ht hl k => lv_aload_n hx hb hd h2 (lk_has hl hx1) k) rfl (c1 _ _ _ hs)
    · rename_i hx1
      exact X.go1 (fun p e s m args below meth c H locs ls Q hx hb ho ht hl k => lv_aload_nN hx hb hd h2 (lk_has hl hx1) k) rfl (c1 _ _ _ hs)
    · exact hs.elim
  case aload k =>
    simp only [okE, Bool.and_eq_true, beq_iff_eq] at hok
    obtain ⟨rfl, rfl⟩ := hok
    simp only [step1] at hs
    split at hs
    · rename_i x hx1
      exact X.go1 (fun p e s m args below meth c H locs ls Q hx hb ho ht hl k => lv_aload hx hb hd (lk_has hl hx1) k) rfl (c1 _ _ _ hs)
    · rename_i hx1
      exact X.go1 (fun p e s m args below meth c H locs ls Q hx hb ho ht hl k => lv_aloadN hx hb hd (lk_has hl hx1) k) rfl (c1 _ _ _ hs)
    · exact hs.elim
  case istore_n k =>
    simp only [okE, Bool.and_eq_true, beq_iff_eq, decide_eq_true_eq] at hok
    obtain ⟨⟨rfl, h2⟩, h3⟩ := hok
    simp only [step1] at hs
    split at hs
    · rename_i x r
      exact X.stI (Or.inl ⟨k, h2, hd⟩) (n := 1) ⟨fun _ => rfl, fun h => by rw [hd] at h; cases h⟩ h3 (c1 _ _ _ hs)
    · exact hs.elim
  case istore k =>
    simp only [okE, Bool.and_eq_true, beq_iff_eq, decide_eq_true_eq] at hok
    obtain ⟨⟨rfl, rfl⟩, h3⟩ := hok
    simp only [step1] at hs
    split at hs
    · rename_i x r
      exact X.stI (Or.inr hd) (n := 2) ⟨fun ⟨_, h⟩ => (by rw [hd] at h; cases h), fun _ => rfl⟩ h3 (c1 _ _ _ hs)
    · exact hs.elim
  case astore_n k =>
    simp only [okE, Bool.and_eq_true, beq_iff_eq, decide_eq_true_eq] at hok
    obtain ⟨⟨rfl, h2⟩, h3⟩ := hok
    simp only [step1] at hs
    split at hs
    · rename_i x r
      exact X.stA (Or.inr ⟨x, rfl⟩) (Or.inl ⟨k, h2, hd⟩) (n := 1) ⟨fun _ => rfl, fun h => by rw [hd] at h; cases h⟩ h3 (c1 _ _ _ hs)
    · exact X.stA (Or.inl rfl) (Or.inl ⟨k, h2, hd⟩) (n := 1) ⟨fun _ => rfl, fun h => by rw [hd] at h; cases h⟩ h3 (c1 _ _ _ hs)
    · exact hs.elim
  case astore k =>
    simp only [okE, Bool.and_eq_true, beq_iff_eq, decide_eq_true_eq] at hok
    obtain ⟨⟨rfl, rfl⟩, h3⟩ := hok
    simp only [step1] at hs
    split at hs
    · rename_i x r
      exact X.stA (Or.inr ⟨x, rfl⟩) (Or.inr hd) (n := 2) ⟨fun ⟨_, h⟩ => (by rw [hd] at h; cases h), fun _ => rfl⟩ h3 (c1 _ _ _ hs)
    · exact X.stA (Or.inl rfl) (Or.inr hd) (n := 2) ⟨fun ⟨_, h⟩ => (by rw [hd] at h; cases h), fun _ => rfl⟩ h3 (c1 _ _ _ hs)
    · exact hs.elim
  case iinc k n =>
    simp only [okE, Bool.and_eq_true, beq_iff_eq, decide_eq_true_eq] at hok
    obtain ⟨⟨⟨rfl, rfl⟩, h2⟩, h3⟩ := hok
    simp only [step1] at hs
    split at hs
    · rename_i x hx1
      have kk := c1 _ _ _ hs
      intro p e s m args below meth c H locs ls E C R hq hl
      exact lv_iincL E.1 E.2.1 hd hl hx1 h2 h3 (fun ls' hl' => kk p e s m args below meth c H locs ls' E C R hq hl')
    · exact hs.elim
  case iadd =>
    simp only [okE, beq_iff_eq] at hok
    subst hok
    simp only [step1] at hs
    split at hs
    · exact X.go1 (fun p e s m args below meth c H locs ls Q hx hb _ _ _ k => lv_iadd hx hb hd k) rfl (c1 _ _ _ hs)
    · exact hs.elim
  case isub =>
    simp only [okE, beq_iff_eq] at hok
    subst hok
    simp only [step1] at hs
    split at hs
    · exact X.go1 (fun p e s m args below meth c H locs ls Q hx hb _ _ _ k => lv_isub hx hb hd k) rfl (c1 _ _ _ hs)
    · exact hs.elim
  case imul =>
    simp only [okE, beq_iff_eq] at hok
    subst hok
    simp only [step1] at hs
    split at hs
    · exact X.go1 (fun p e s m args below meth c H locs ls Q hx hb _ _ _ k => lv_imul hx hb hd k) rfl (c1 _ _ _ hs)
    · exact hs.elim
  case iand =>
    simp only [okE, beq_iff_eq] at hok
    subst hok
    simp only [step1] at hs
    split at hs
    · exact X.go1 (fun p e s m args below meth c H locs ls Q hx hb _ _ _ k => lv_iand hx hb hd k) rfl (c1 _ _ _ hs)
    · exact hs.elim
  case ior =>
    simp only [okE, beq_iff_eq] at hok
    subst hok
    simp only [step1] at hs
    split at hs
    · exact X.go1 (fun p e s m args below meth c H locs ls Q hx hb _ _ _ k => lv_ior hx hb hd k) rfl (c1 _ _ _ hs)
    · exact hs.elim
  case ixor =>
    simp only [okE, beq_iff_eq] at hok
    subst hok
    simp only [step1] at hs
    split at hs
    · exact X.go1 (fun p e s m args below meth c H locs ls Q hx hb _ _ _ k => lv_ixor hx hb hd k) rfl (c1 _ _ _ hs)
    · exact hs.elim
  case idiv =>
    simp only [okE, beq_iff_eq] at hok
    subst hok
    simp only [step1] at hs
    split at hs
    · exact X.go1 (fun p e s m args below meth c H locs ls Q hx hb _ _ _ k => lv_idiv hx hb hd hs.1 k) rfl (c1 _ _ _ hs.2)
    · exact hs.elim
  case irem =>
    simp only [okE, beq_iff_eq] at hok
    subst hok
    simp only [step1] at hs
    split at hs
    · exact X.go1 (fun p e s m args below meth c H locs ls Q hx hb _ _ _ k => lv_irem hx hb hd hs.1 k) rfl (c1 _ _ _ hs.2)
    · exact hs.elim
  case ineg =>
    simp only [okE, beq_iff_eq] at hok
    subst hok
    simp only [step1] at hs
    split at hs
    · exact X.go1 (fun p e s m args below meth c H locs ls Q hx hb _ _ _ k => lv_ineg hx hb hd k) rfl (c1 _ _ _ hs)
    · exact hs.elim
  case ishl =>
    simp only [okE, beq_iff_eq] at hok
    subst hok
    simp only [step1] at hs
    split at hs
    · exact X.go1 (fun p e s m args below meth c H locs ls Q hx hb _ _ _ k => lv_ishl hx hb hd k) rfl (c1 _ _ _ hs)
    · exact hs.elim
  case ishr =>
    simp only [okE, beq_iff_eq] at hok
    subst hok
    simp only [step1] at hs
    split at hs
    · exact X.go1 (fun p e s m args below meth c H locs ls Q hx hb _ _ _ k => lv_ishr hx hb hd k) rfl (c1 _ _ _ hs)
    · exact hs.elim
  case iushr =>
    simp only [okE, beq_iff_eq] at hok
    subst hok
    simp only [step1] at hs
    split at hs
    · exact X.go1 (fun p e s m args below meth c H locs ls Q hx hb _ _ _ k => lv_iushr hx hb hd rfl k) rfl (c1 _ _ _ hs)
    · exact hs.elim
  case i2b =>
    simp only [okE, beq_iff_eq] at hok
    subst hok
    simp only [step1] at hs
    split at hs
    · exact X.go1 (fun p e s m args below meth c H locs ls Q hx hb _ _ _ k => lv_i2b hx hb hd rfl k) rfl (c1 _ _ _ hs)
    · exact hs.elim
  case i2c =>
    simp only [okE, beq_iff_eq] at hok
    subst hok
    simp only [step1] at hs
    split at hs
    · exact X.go1 (fun p e s m args below meth c H locs ls Q hx hb _ _ _ k => lv_i2c hx hb hd rfl k) rfl (c1 _ _ _ hs)
    · exact hs.elim
  case dup =>
    simp only [okE, beq_iff_eq] at hok
    subst hok
    simp only [step1] at hs
    split at hs
    · split at hs
      · rename_i hc
        exact X.go1 (fun p e s m args below meth c H locs ls Q hx hb _ _ _ k => lv_dup hx hb hd (cat1_1 hc) k) rfl (c1 _ _ _ hs)
      · exact hs.elim
    · exact hs.elim
  case dup_x1 =>
    simp only [okE, beq_iff_eq] at hok
    subst hok
    simp only [step1] at hs
    split at hs
    · split at hs
      · rename_i hc
        rw [Bool.and_eq_true] at hc
        exact X.go1 (fun p e s m args below meth c H locs ls Q hx hb _ _ _ k => lv_dup_x1 hx hb hd (cat1_1 hc.1) (cat1_1 hc.2) k) rfl (c1 _ _ _ hs)
      · exact hs.elim
    · exact hs.elim
  case dup2 =>
    simp only [okE, beq_iff_eq] at hok
    subst hok
    simp only [step1] at hs
    split at hs
    · split at hs
      · rename_i hc
        rw [Bool.and_eq_true] at hc
        exact X.go1 (fun p e s m args below meth c H locs ls Q hx hb _ _ _ k => lv_dup2_11 hx hb hd (cat1_1 hc.1) (cat1_1 hc.2) k) rfl (c1 _ _ _ hs)
      · exact hs.elim
    · exact hs.elim
  case pop =>
    simp only [okE, beq_iff_eq] at hok
    subst hok
    simp only [step1] at hs
    split at hs
    · split at hs
      · rename_i hc
        exact X.go1 (fun p e s m args below meth c H locs ls Q hx hb _ _ _ k => lv_pop hx hb hd (cat1_1 hc) k) rfl (c1 _ _ _ hs)
      · exact hs.elim
    · exact hs.elim
  case aconst_null =>
    simp only [okE, beq_iff_eq] at hok
    subst hok
    exact X.go1 (fun p e s m args below meth c H locs ls Q hx hb _ _ _ k => lv_null hx hb hd k) rfl (c1 _ _ _ hs)
  case ifnull o =>
    simp only [okE, Bool.and_eq_true, beq_iff_eq, decide_eq_true_eq] at hok
    obtain ⟨rfl, h2⟩ := hok
    simp only [step1] at hs
    split at hs
    · exact X.go1 (fun p e s m args below meth c H locs ls Q hx hb _ _ _ k => lv_ifnull hx hb hd k) rfl (c1 _ _ _ hs)
    · exact X.go1 (fun p e s m args below meth c H locs ls Q hx hb _ _ _ k => lv_ifnullN hx hb hd h2 k) rfl (c2 _ _ _ hs)
    · exact hs.elim
  case ifnonnull o =>
    simp only [okE, Bool.and_eq_true, beq_iff_eq, decide_eq_true_eq] at hok
    obtain ⟨rfl, h2⟩ := hok
    simp only [step1] at hs
    split at hs
    · exact X.go1 (fun p e s m args below meth c H locs ls Q hx hb _ _ _ k => lv_ifnonnull hx hb hd h2 k) rfl (c2 _ _ _ hs)
    · exact X.go1 (fun p e s m args below meth c H locs ls Q hx hb _ _ _ k => lv_ifnonnullN hx hb hd k) rfl (c1 _ _ _ hs)
    · exact hs.elim
  case goto o =>
    simp only [okE, Bool.and_eq_true, beq_iff_eq, decide_eq_true_eq] at hok
    obtain ⟨rfl, h2⟩ := hok
    exact X.go1 (fun p e s m args below meth c H locs ls Q hx hb _ _ _ k => lv_goto hx hb hd h2 k) rfl (c2 _ _ _ hs)
  case ifCond cc o =>
    simp only [okE, Bool.and_eq_true, beq_iff_eq, decide_eq_true_eq] at hok
    obtain ⟨rfl, h2⟩ := hok
    simp only [step1] at hs
    split at hs
    · intro p e s m args below meth c H locs ls E C R hq hl
      have k1 := fun hc => c2 _ _ _ (hs.1 hc) p e s m args below meth c H locs ls E C R hq hl
      have k2 := fun hc => c1 _ _ _ (hs.2 hc) p e s m args below meth c H locs ls E C R hq hl
      cases cc
      · exact lv_if_eq E.1 E.2.1 hd h2 k1 k2
      · exact lv_if_ne E.1 E.2.1 hd h2 k1 k2
      · exact lv_if_lt E.1 E.2.1 hd h2 k1 k2
      · exact lv_if_ge E.1 E.2.1 hd h2 k1 k2
      · exact lv_if_gt E.1 E.2.1 hd h2 k1 k2
      · exact lv_if_le E.1 E.2.1 hd h2 k1 k2
    · exact hs.elim
  case if_icmp cc o =>
    simp only [okE, Bool.and_eq_true, beq_iff_eq, decide_eq_true_eq] at hok
    obtain ⟨rfl, h2⟩ := hok
    simp only [step1] at hs
    split at hs
    · intro p e s m args below meth c H locs ls E C R hq hl
      have k1 := fun hc => c2 _ _ _ (hs.1 hc) p e s m args below meth c H locs ls E C R hq hl
      have k2 := fun hc => c1 _ _ _ (hs.2 hc) p e s m args below meth c H locs ls E C R hq hl
      cases cc
      · exact lv_icmp_eq E.1 E.2.1 hd h2 k1 k2
      · exact lv_icmp_ne E.1 E.2.1 hd h2 k1 k2
      · exact lv_icmp_lt E.1 E.2.1 hd h2 k1 k2
      · exact lv_icmp_ge E.1 E.2.1 hd h2 k1 k2
      · exact lv_icmp_gt E.1 E.2.1 hd h2 k1 k2
      · exact lv_icmp_le E.1 E.2.1 hd h2 k1 k2
    · exact hs.elim
  case getfield i =>
    simp only [okE, beq_iff_eq] at hok
    subst hok
    simp only [step1] at hs
    split at hs
    · rename_i ci k ty kd hx1
      split at hs
      · obtain ⟨fs, ha, hs⟩ := hs
        split at hs
        · rename_i w hw
          exact X.get (hft _ (ftF_mem hx1)) ha hw hd (c1 _ _ _ hs)
        · exact hs.elim
      · exact hs.elim
    · exact c3 hs
  case putfield i =>
    simp only [okE, beq_iff_eq] at hok
    subst hok
    simp only [step1] at hs
    split at hs
    · rename_i ci k ty kd hx1
      split at hs
      · split at hs
        · rename_i hp
          obtain ⟨hw, fs, ha, hk, hN, hs⟩ := hs
          exact X.put hini (hft _ (ftF_mem hx1)) hp hw ha hk hN hd (c1 _ _ _ (hs _ rfl))
        · exact c3 hs
      · exact hs.elim
    · exact c3 hs
  case iaload =>
    simp only [okE, beq_iff_eq] at hok
    subst hok
    simp only [step1] at hs
    split at hs
    · obtain ⟨n, f, ha, j, hi, hs⟩ := hs
      exact X.iald ha hi hd (c1 _ _ _ hs)
    · exact hs.elim
  case baload =>
    simp only [okE, beq_iff_eq] at hok
    subst hok
    simp only [step1] at hs
    split at hs
    · obtain ⟨n, f, ha, j, hi, hs⟩ := hs
      exact X.bald ha hi hd (c1 _ _ _ hs)
    · exact hs.elim
  case iastore =>
    simp only [okE, beq_iff_eq] at hok
    subst hok
    simp only [step1] at hs
    split at hs
    · obtain ⟨n, f, ha, j, hi, hN, hs⟩ := hs
      exact X.iast ha hi hN hd (c1 _ _ _ (hs _ rfl))
    · exact hs.elim
  case bastore =>
    simp only [okE, beq_iff_eq] at hok
    subst hok
    simp only [step1] at hs
    split at hs
    · obtain ⟨n, f, ha, j, hi, hN, hs⟩ := hs
      exact X.bast ha hi hN hd (c1 _ _ _ (hs _ rfl))
    · exact hs.elim
  case aaload =>
    simp only [okE, beq_iff_eq] at hok
    subst hok
    simp only [step1] at hs
    split at hs
    · obtain ⟨t, n, f, j, b, ht, ha, hi, hb, hs⟩ := hs
      exact X.aald ht ha hi hb hd (c1 _ _ _ hs)
    · exact hs.elim
  case arraylength =>
    simp only [okE, beq_iff_eq] at hok
    subst hok
    simp only [step1] at hs
    split at hs
    · obtain ⟨t, x, ht, ha, hs⟩ := hs
      exact X.alen ht ha hd (c1 _ _ _ hs)
    · exact hs.elim
  case invokevirtual i =>
    simp only [okE, beq_iff_eq] at hok
    subst hok
    simp only [step1] at hs
    split at hs
    · rename_i n sp hx1
      have hcall := hce _ (ceF_mem hx1)
      unfold callP at hs
      split at hs
      · rename_i as rest hp
        split at hs
        · rename_i hcat
          obtain ⟨xs, e1, e2, e3⟩ := pops_ok hp
          rw [List.append_nil] at e1
          subst e1
          rw [e2]
          exact hcall TG cs ss pc z L as rest h hcs hd e3 (Nat.le_of_ble_eq_true hcat) ((hmo _ (ceF_mem hx1)) as h _ _ (fun v h' k => c1 _ _ _ k) hs)
        · exact hs.elim
      · exact hs.elim
    · exact c3 hs
  case invokestatic i =>
    simp only [okE, beq_iff_eq] at hok
    subst hok
    simp only [step1] at hs
    split at hs
    · rename_i n sp hx1
      have hcall := hce _ (ceF_mem hx1)
      unfold callP at hs
      split at hs
      · rename_i as rest hp
        split at hs
        · rename_i hcat
          obtain ⟨xs, e1, e2, e3⟩ := pops_ok hp
          rw [List.append_nil] at e1
          subst e1
          rw [e2]
          exact hcall TG cs ss pc z L as rest h hcs hd e3 (Nat.le_of_ble_eq_true hcat) ((hmo _ (ceF_mem hx1)) as h _ _ (fun v h' k => c1 _ _ _ k) hs)
        · exact hs.elim
      · exact hs.elim
    · exact c3 hs
  case ireturn =>
    simp only [okE, beq_iff_eq] at hok
    subst hok
    simp only [step1] at hs
    split at hs
    · rename_i hr
      exact hret.1 _ _ _ _ hd (Or.inl hr) hs
    · rename_i hr
      exact hret.1 _ _ _ _ hd (Or.inr ⟨hr, hs.1⟩) hs.2
    · exact c3 hs
  case areturn =>
    simp only [okE, beq_iff_eq] at hok
    subst hok
    simp only [step1] at hs
    split at hs
    · rename_i hr
      exact hret.2.2 _ _ _ _ _ hd hr (Or.inl ⟨_, rfl⟩) (Or.inr ⟨_, rfl⟩) hs
    · rename_i hr
      exact hret.2.2 _ _ _ _ _ hd hr (Or.inl ⟨_, rfl⟩) (Or.inl rfl) hs
    · rename_i hr
      exact hret.2.2 _ _ _ _ _ hd hr (Or.inr ⟨_, rfl⟩) (Or.inr ⟨_, rfl⟩) hs
    · exact c3 hs
  case return_ =>
    simp only [okE, beq_iff_eq] at hok
    subst hok
    simp only [step1] at hs
    split at hs
    · rename_i hr
      exact hret.2.1 _ _ _ hd hr hs
    · exact c3 hs
  all_goals exact c3 hs
theorem bk_ok {ini : Bool} {ft : List FtE} {ct : List (Nat × Int32)} {ce : List CE} {ret : Option Value → AH → Prop} {pg : List IE} {stops : List Nat} {K : Nat → LL → List Value → AH → Prop}
    (hini : ini = true → M.1.name = "<init>") (hft : ∀ q ∈ ft, FieldOk M.1.cls q) (hct : ∀ q ∈ ct, Cond.constant M.1.cls q.1 q.2 ∈ lw_all) (hce : ∀ q ∈ ce, CallOk l G M rm q) (hmo : ∀ q ∈ ce, Mono q.2.2.2) (hret : RetOk l G M rm TG cs ss z ret) (hcs : cs ≤ rm.cells ∧ ss ≤ rm.slots) (hpg : PgOk M pg)
    (hK : ∀ pc L st h, K pc L st h → X l G M rm TG cs ss pc L st h z) :
    ∀ (n : Nat) (q : IE) (r : List IE) (L : LL) (st : List Value) (h : AH), (q :: r) <:+ pg → bk G ini ft ct ce M.2.2.2 ret pg stops K n (q :: r) L st h → X l G M rm TG cs ss q.1 L st h z := by
  intro n
  induction n with
  | zero =>
    intro q r L st h hs hb
    obtain ⟨pc, x⟩ := q
    exact hK _ _ _ _ hb
  | succ n ih =>
    intro q r L st h hs hb
    obtain ⟨pc, op, len, v, t⟩ := q
    have hm : (pc, op, len, v, t) ∈ pg := hs.subset List.mem_cons_self
    refine step1_ok (cont := nxB stops K (bk G ini ft ct ce M.2.2.2 ret pg stops K n r) r)
      (jmp := fun L st h => bif mem1 stops t then K t L st h else bk G ini ft ct ce M.2.2.2 ret pg stops K n (seek pg t) L st h)
      (stop := K pc L st h) hini hft hct hce hmo hret hcs (hpg.1 _ hm) (List.all_eq_true.mp hpg.2.1 _ hm) ?_ ?_ (hK _ _ _ _) hb
    · intro L st h hc
      cases r with
      | nil => exact hc.elim
      | cons b r =>
        obtain ⟨pc2, y⟩ := b
        have e := chE_next hpg.2.2 hs
        dsimp only at e
        dsimp only [nxB] at hc
        rw [e]
        cases hb : mem1 stops pc2 with
        | true => rw [hb] at hc; exact hK _ _ _ _ hc
        | false =>
          rw [hb] at hc
          exact ih (pc2, y) r L st h ((List.suffix_cons _ _).trans hs) hc
    · intro L st h hc
      cases hb : mem1 stops t with
      | true => rw [hb] at hc; exact hK _ _ _ _ hc
      | false =>
        rw [hb] at hc
        dsimp only [cond_false] at hc
        cases hk : seek pg t with
        | nil => rw [hk] at hc; cases n <;> exact hc.elim
        | cons a r2 =>
          rw [hk] at hc
          have e := seek_hd hk
          rw [← e]
          exact ih a r2 L st h (by rw [← hk]; exact seek_suf) hc
end BK
/-- the rows of a method: its fields, its constants, its code -/
def WK (M : Mth) (ini : Bool) (ft : List FtE) (ct : List (Nat × Int32)) (pg : List IE) : Prop := (ini = true → M.1.name = "<init>") ∧ (∀ q ∈ ft, FieldOk M.1.cls q) ∧ (∀ q ∈ ct, Cond.constant M.1.cls q.1 q.2 ∈ lw_all) ∧ PgOk M pg
section XW
variable {l : Launch} {G : GG} {M : Mth} {rm : Room} {TG : List Frame → Array Value → State → Program → Env → MethodId → Method → Code → State → Prop} {cs ss pc z : Nat} {L : LL} {st : List Value} {h : AH} {pg : List IE} {r0 : List IE}
theorem X.walk {ini : Bool} {ft : List FtE} {ct : List (Nat × Int32)} {ce : List CE} {ret : Option Value → AH → Prop} (w : WK M ini ft ct pg) (hce : ∀ q ∈ ce, CallOk l G M rm q ∧ Mono q.2.2.2) (hret : RetOk l G M rm TG cs ss z ret) (hcs : cs ≤ rm.cells ∧ ss ≤ rm.slots) (stops : List Nat) (n : Nat) {x : Instr × Nat × Int32 × Nat} (hsk : seek pg pc = (pc, x) :: r0)
    (k : bk G ini ft ct ce M.2.2.2 ret pg stops (fun pc L st h => X l G M rm TG cs ss pc L st h z) n ((pc, x) :: r0) L st h) : X l G M rm TG cs ss pc L st h z := by
  have h0 : seek pg pc <:+ pg := seek_suf
  rw [hsk] at h0
  exact bk_ok w.1 w.2.1 w.2.2.1 (fun q hq => (hce q hq).1) (fun q hq => (hce q hq).2) hret hcs w.2.2.2 (fun _ _ _ _ k => k) n (pc, x) r0 L st h h0 k
theorem fnil {α : Type} {p : α → Prop} : ∀ q ∈ ([] : List α), p q := fun _ h => absurd h List.not_mem_nil
theorem fcons {α : Type} {p : α → Prop} {a : α} {r : List α} (h1 : p a) (h2 : ∀ q ∈ r, p q) : ∀ q ∈ a :: r, p q := List.forall_mem_cons.mpr ⟨h1, h2⟩
end XW
section XRT
variable {l : Launch} {G : GG} {M : Mth} {rm : Room} {cs ss pc z : Nat} {L : LL} {h : AH} {pg : List IE} {P : Option Value → AH → Nat → Prop} {v0 : Int32} {t0 : Nat} {r0 : List IE} {mc ms : Nat}
theorem X.iret {x : Int32} (hpg : PgOk M pg) (hsk : seek pg pc = (pc, .ireturn, 1, v0, t0) :: r0) (hr : M.2.2.2 = some .int) (h1 : cs ≤ mc) (h2 : ss ≤ ms) (hP : P (some (.int x)) h z) : X l G M rm (TGm G P mc ms) cs ss pc L [.int x] h z := by
  refine X.widen h1 h2 ?_
  intro p e s m args below meth c H locs ls E C R hq hl
  exact W.iret (hlocks := E.2.2.2.1) E.1 E.2.1 (E.2.2.1.trans hr) (fun t ht hW => ⟨_, h, z, rfl, hP, by rw [ht]; exact R⟩) hq (pg_at hpg hsk)
theorem X.zret {x : Int32} (hpg : PgOk M pg) (hsk : seek pg pc = (pc, .ireturn, 1, v0, t0) :: r0) (hr : M.2.2.2 = some .boolean) (hx : x = 0 ∨ x = 1) (h1 : cs ≤ mc) (h2 : ss ≤ ms) (hP : P (some (.int x)) h z) : X l G M rm (TGm G P mc ms) cs ss pc L [.int x] h z := by
  refine X.widen h1 h2 ?_
  intro p e s m args below meth c H locs ls E C R hq hl
  exact W.zret (hlocks := E.2.2.2.1) E.1 E.2.1 (E.2.2.1.trans hr) (by rcases hx with rfl | rfl <;> decide) (fun t ht hW => ⟨_, h, z, rfl, hP, by rw [ht]; exact R⟩) hq (pg_at hpg hsk)
theorem X.vret (hpg : PgOk M pg) (hsk : seek pg pc = (pc, .return_, 1, v0, t0) :: r0) (hr : M.2.2.2 = none) (h1 : cs ≤ mc) (h2 : ss ≤ ms) (hP : P none h z) : X l G M rm (TGm G P mc ms) cs ss pc L [] h z := by
  refine X.widen h1 h2 ?_
  intro p e s m args below meth c H locs ls E C R hq hl
  exact W.vret (hlocks := E.2.2.2.1) E.1 E.2.1 (E.2.2.1.trans hr) (fun t ht hW => ⟨_, h, z, rfl, hP, by rw [ht]; exact R⟩) hq (pg_at hpg hsk)
theorem X.aret {x : Value} {rt : FieldType} (hpg : PgOk M pg) (hsk : seek pg pc = (pc, .areturn, 1, v0, t0) :: r0) (hr : M.2.2.2 = some rt) (hrt : (∃ n, rt = .object n) ∨ ∃ t, rt = .array t) (hx : x = .null ∨ ∃ a, x = .ref a) (h1 : cs ≤ mc) (h2 : ss ≤ ms) (hP : P (some x) h z) : X l G M rm (TGm G P mc ms) cs ss pc L [x] h z := by
  refine X.widen h1 h2 ?_
  intro p e s m args below meth c H locs ls E C R hq hl
  exact W.aret (hlocks := E.2.2.2.1) E.1 E.2.1 (E.2.2.1.trans hr) hrt hx (fun t ht hW => ⟨_, h, z, rfl, hP, by rw [ht]; exact R⟩) hq (pg_at hpg hsk)
end XRT
