set_option maxRecDepth 100000
/-! THE LAYER. An abstract heap h (address to cell), a stepper 'step1'/'bk' that turns a stretch of code into what must hold of h, and X: the machine at a pc with the heap h comes to its end. -/
abbrev AH : Type := Nat → Option va_E
def ahU (h : AH) (a : Nat) (e : va_E) : AH := fun q => if q = a then some e else h q
theorem ahU_s {h : AH} {a : Nat} {e : va_E} : ahU h a e a = some e := by simp [ahU]
theorem ahU_n {h : AH} {a q : Nat} {e : va_E} (n : q ≠ a) : ahU h a e q = h q := by simp [ahU, n]
/-- D, the array kinds' numbers, the heap at the law's start, addresses of constants -/
abbrev GG : Type := va_G × (Nat → ClassId) × Heap × (Nat → Nat)
def CL : List vw_C := [(RX0, TX0, 12), (RX1, TX1, 25), (RX2, TX2, 4), (RX3, TX3, 50), (RX4, TX4, 6), (RX5, TX5, 8), (RX7, TX7, 1), (RX8, TX8, 1), (RX9, TX9, 3), (RX10, TX10, 1), (RX11, TX11, 2), (RJ2, TJ2, 3)]
def TYS (dA : Nat → ClassId) : List (ClassId × FieldType) := [(dA 0, .int), (dA 1, .byte), (dA 2, .array .int), (dA 3, .object RX2), (dA 4, .object RX1), (dA 5, .object "java/lang/Object")]
/-- where the heap H has what h says; what was there at the law's start has stayed -/
def Rp (G : GG) (h : AH) (z : Nat) (H : Heap) : Prop := H.size = z ∧ G.2.2.1.size ≤ z ∧ (∀ q : Nat, q < G.2.2.1.size → H[q]? = G.2.2.1[q]?) ∧ ∀ (a : Nat) (e : va_E), h a = some e → va_at G.1 CL (a, e) H
theorem Rp.set {G : GG} {h : AH} {z a : Nat} {e : va_E} {H H1 : Heap} (r : Rp G h z H) (ha : G.2.2.1.size ≤ a) (he : va_at G.1 CL (a, e) H1) (hs : H1.size = H.size) (hq : ∀ q : Nat, q ≠ a → H1[q]? = H[q]?) : Rp G (ahU h a e) z H1 := by
  obtain ⟨r1, r2, r3, r4⟩ := r
  refine ⟨hs.trans r1, r2, fun q h1 => ?_, fun b e2 h1 => ?_⟩
  · rw [hq q (by omega)]
    exact r3 q h1
  · by_cases hb : b = a
    · subst hb
      rw [ahU_s] at h1
      cases h1
      exact he
    · rw [ahU_n hb] at h1
      exact (r4 b e2 h1).kept (hq b hb)
theorem Rp.push {G : GG} {h : AH} {z : Nat} {e : va_E} {H H1 : Heap} (r : Rp G h z H) (he : va_at G.1 CL (z, e) H1) (hs : H1.size = z + 1) (hq : ∀ q : Nat, q < z → H1[q]? = H[q]?) : Rp G (ahU h z e) (z + 1) H1 := by
  obtain ⟨r1, r2, r3, r4⟩ := r
  refine ⟨hs, by omega, fun q h1 => ?_, fun b e2 h1 => ?_⟩
  · rw [hq q (by omega)]
    exact r3 q h1
  · by_cases hb : b = z
    · subst hb
      rw [ahU_s] at h1
      cases h1
      exact he
    · rw [ahU_n hb] at h1
      have h2 := r4 b e2 h1
      have h3 := h2.lt
      exact h2.kept (hq b (by have h4 : b < H.size := h3; omega))
theorem Rp.lt {G : GG} {h : AH} {z a : Nat} {e : va_E} {H : Heap} (r : Rp G h z H) (ha : h a = some e) : a < z := by
  have h3 : a < H.size := (r.2.2.2 a e ha).lt
  have := r.1
  omega
/-- the literals of the reader: pool index, text; lengths; bytes -/
def litT (i : Nat) : Nat × String := match i with
  | 0 => (76, "grow")
  | 1 => (68, "when")
  | 2 => (70, "or")
  | 3 => (72, "and")
  | 4 => (74, "not")
  | 5 => (46, "word")
  | 6 => (52, "size")
  | 7 => (54, "age")
  | 8 => (56, "damp")
  | 9 => (58, "near")
  | 10 => (60, "like")
  | 11 => (62, "x")
  | 12 => (64, "y")
  | _ => (66, "frozen")
def litL : List Nat := [4, 4, 2, 3, 3, 4, 4, 3, 4, 4, 4, 1, 1, 6]
def litB : List (List Int32) := [[103, 114, 111, 119], [119, 104, 101, 110], [111, 114], [97, 110, 100], [110, 111, 116], [119, 111, 114, 100], [115, 105, 122, 101], [97, 103, 101], [100, 97, 109, 112], [110, 101, 97, 114], [108, 105, 107, 101], [120], [121], [102, 114, 111, 122, 101, 110]]
/-- constants of the start: G.2.2.2 0 the empty array of lists; 1 + i the literal i, 20 + i its bytes; 40 the class object of Object[] -/
def CxE (G : GG) (s0 : State) : Prop := (va_Z "java/util/ArrayList" "DEFAULTCAPACITY_EMPTY_ELEMENTDATA" "[Ljava/lang/Object;" (.ref (G.2.2.2 0)) (fun q => G.2.2.1.size ≤ q) s0 G.2.2.1 ∧ va_T (.object "java/lang/Object") (G.2.2.2 0) 0 (fun _ => .null) (fun q => G.2.2.1.size ≤ q) s0 G.2.2.1 ∧ va_Mi "[Ljava/lang/Object;" (G.2.2.2 40) s0) ∧ (∀ i, i < 14 → vk_R "LastWordWood$Reader" (litT i).1 (litT i).2 (G.2.2.2 (1 + i)) s0) ∧ vk_S 14 litL litB (fun i => G.2.2.2 (1 + i)) (fun i => G.2.2.2 (20 + i)) (fun q => G.2.2.1.size ≤ q) s0 G.2.2.1
/-- what holds all through: s comes from a start s0 of the law, where the tables' words and the Statement's premises hold -/
def Cx (G : GG) (s : State) : Prop := ∃ (s0 : State) (b : Nat), G.2.2.1 = s0.heap ∧ s0.WarmedH s.vm ∧ (∀ w ∈ lw_tbl, w.before #[Value.ref b] s0 = true) ∧ (Jvm.Cond.and given_1 narrow_1).before #[Value.ref b] s0 = true ∧ va_K G.1 CL (TYS G.2.1) s0 ∧ CxE G s0
theorem Cx.warm {G : GG} {s U : State} (h : Cx G s) (hW : s.WarmedH U.vm) : Cx G U := by
  obtain ⟨s0, b, h1, h2, h3⟩ := h
  exact ⟨s0, b, h1, State.WarmedH.trans h2 hW, h3⟩
theorem Cx.K {G : GG} {s : State} (h : Cx G s) : va_K G.1 CL (TYS G.2.1) s := by
  obtain ⟨s0, b, h1, h2, h3, h4, h5⟩ := h
  exact va_K.moved h2.alike h5.1
theorem Cx.E {G : GG} {s : State} (h : Cx G s) : ∃ s0, s0.WarmedH s.vm ∧ CxE G s0 := by
  obtain ⟨s0, b, h1, h2, h3, h4, h5⟩ := h
  exact ⟨s0, h2, h5.2⟩
theorem Cx.nest {G : GG} {s : State} {args : Array Value} (h : Cx G s) {a : String} {i : Nat} {b n d hh : String} (hw : Jvm.Cond.fieldLinkNest a i b n d hh ∈ lw_tbl) : (Jvm.Cond.fieldLinkNest a i b n d hh).before args s = true := by
  obtain ⟨s0, b, h1, h2, h3, h4, h5⟩ := h
  exact va_Nw.use rfl (va_Nw.warmF h2 (va_Nw.of rfl (h3 _ hw)))
theorem Cx.nestM {G : GG} {s : State} (h : Cx G s) {a : String} {i : Nat} {x : MethodName} {hh : String} (hw : Jvm.Cond.methodLinkNest a i x hh ∈ lw_tbl) : va_Nw (Jvm.Cond.methodLinkNest a i x hh) s := by
  obtain ⟨s0, b, h1, h2, h3, h4, h5⟩ := h
  exact va_Nw.warmM h2 (va_Nw.of rfl (h3 _ hw))
theorem Cx.castable {G : GG} {s : State} (h : Cx G s) {C T : String} (hw : Jvm.Cond.castable C T ∈ lw_tbl) : va_Nw (Jvm.Cond.castable C T) s := by
  obtain ⟨s0, b, h1, h2, h3, h4, h5⟩ := h
  exact va_Nw.warmC h2 (va_Nw.of rfl (h3 _ hw))
theorem Cx.declares {G : GG} {s : State} (h : Cx G s) {x : MethodName} (hw : Jvm.Cond.declares x ∈ lw_tbl) : va_Nw (Jvm.Cond.declares x) s := by
  obtain ⟨s0, b, h1, h2, h3, h4, h5⟩ := h
  exact va_Nw.warmD h2 (va_Nw.of rfl (h3 _ hw))
theorem Cx.over {G : GG} {s : State} (h : Cx G s) {C : String} (hw : Jvm.Cond.arrayOver (.object C) ∈ lw_tbl) : va_AO C s := by
  obtain ⟨s0, b, h1, h2, h3, h4, h5⟩ := h
  exact va_AO.moved h2.alike (va_AO.of (h3 _ hw))
/-- a method: its name, code, places for its variables, answer -/
abbrev Mth : Type := MethodName × ByteArray × Nat × Option FieldType
abbrev LL : Type := List (Nat × Value)
/-- what a walk of the method's body knows of the machine -/
def Env0 (M : Mth) (p : Program) (s : State) (m : MethodId) (args : Array Value) (meth : Method) (c : Code) : Prop :=
  p.tables.exec = Jvm.exec ∧ c.code = M.2.1 ∧ meth.sig.returnType = M.2.2.2 ∧ meth.locks = false ∧ c.maxLocals = M.2.2.1 ∧ s.vm.findClass M.1.cls = some m.cls ∧ (∀ w ∈ lw_all, w.before args s = true) ∧ meth.name = M.1.name
/-- the machine at pc, with locals L, stack st, heap h of z cells, comes to TG -/
def X (l : Launch) (G : GG) (M : Mth) (rm : Room) (TG : List Frame → Array Value → State → Program → Env → MethodId → Method → Code → State → Prop) (cs ss pc : Nat) (L : LL) (st : List Value) (h : AH) (z : Nat) : Prop :=
  ∀ (p : Program) (e : Env) (s : State) (m : MethodId) (args : Array Value) (below : List Frame) (meth : Method) (c : Code) (H : Heap) (locs : List Loc) (ls : Array Slot),
    Env0 M p s m args meth c → Cx G s → Rp G h z H → (∀ q ∈ locs, G.2.2.1.size ≤ q.base) → lv_has ls M.2.2.1 L →
    W p l e rm s m args below meth c H locs cs ss (TG below args s p e m meth c) (F0 m pc ls st)
/-! ===== the stepper ===== -/
def lk : LL → Nat → Option Value
  | [], _ => none
  | (i, v) :: r, n => bif Nat.beq i n then some v else lk r n
def clr : LL → Nat → LL
  | [], _ => []
  | (j, w) :: r, i => bif (!(j == i) && !(j + 1 == i && w.category == 2)) then (j, w) :: clr r i else clr r i
/-- a variable gets a value: in its place if it has one -/
def stL : LL → Nat → Value → LL
  | [], i, v => [(i, v)]
  | (j, w) :: r, i, v => bif Nat.beq j i then (i, v) :: clr r i else bif (!(j == i) && !(j + 1 == i && w.category == 2)) then (j, w) :: stL r i v else stL r i v
def nthV : List Value → Nat → Option Value
  | [], _ => none
  | v :: _, 0 => some v
  | _ :: r, n + 1 => nthV r n
def cat1 : Value → Bool
  | .int _ => true
  | .ref _ => true
  | .null => true
  | _ => false
def cP : ClassFile.Cond → Int32 → Int32 → Prop
  | .eq, x, y => x = y
  | .ne, x, y => ¬ x = y
  | .lt, x, y => x < y
  | .ge, x, y => y ≤ x
  | .gt, x, y => y < x
  | .le, x, y => x ≤ y
def cN : ClassFile.Cond → Int32 → Int32 → Prop
  | .eq, x, y => ¬ x = y
  | .ne, x, y => x = y
  | .lt, x, y => ¬ x < y
  | .ge, x, y => ¬ y ≤ x
  | .gt, x, y => ¬ y < x
  | .le, x, y => ¬ x ≤ y
/-- the index i is the number j, within n -/
def IX (i : Int32) (n j : Nat) : Prop := i = nI j ∧ j < n ∧ n < 2147483648
/-- a field's row: pool index, kind of object, field, type, 0: own, 1: own and final, 2: a nest mate's, 3: a nest mate's and final -/
abbrev FtE : Type := Nat × Nat × Nat × FieldType × Nat
def ftF : List FtE → Nat → Option (Nat × Nat × FieldType × Nat)
  | [], _ => none
  | (i, x) :: r, n => bif Nat.beq i n then some x else ftF r n
def ctF : List (Nat × Int32) → Nat → Option Int32
  | [], _ => none
  | (i, x) :: r, n => bif Nat.beq i n then some x else ctF r n
def okV : FieldType → Value → Bool
  | .int, .int _ => true
  | .array _, .ref _ => true
  | .array _, .null => true
  | .object _, .ref _ => true
  | .object _, .null => true
  | _, _ => false
/-- may a field of this kind be written here -/
def ptO (ini : Bool) (kd : Nat) : Bool := match kd with
  | 0 => true
  | 1 => ini
  | 2 => true
  | _ => false
def okW (ty : FieldType) (v : Value) : Prop := narrow ty v = v ∧ fits ty v = true
theorem okV_W {ty : FieldType} {v : Value} (h : okV ty v = true) : okW ty v := by
  cases ty <;> cases v <;> first | (cases h; done) | exact ⟨rfl, rfl⟩
/-- what a call asks of the heap, for what must hold behind it -/
abbrev CSpec : Type := List Value → AH → (Option Value → AH → Prop) → Prop
/-- a call's row: pool index, static, how many values it takes, what it asks -/
abbrev CE : Type := Nat × Bool × Nat × CSpec
def ceF : List CE → Nat → Option (Bool × Nat × CSpec)
  | [], _ => none
  | (i, x) :: r, n => bif Nat.beq i n then some x else ceF r n
def pops : Nat → List Value → List Value → Option (List Value × List Value)
  | 0, acc, st => some (acc, st)
  | n + 1, acc, v :: st => pops n (v :: acc) st
  | _ + 1, _, [] => none
def catS : List Value → Nat
  | [] => 0
  | .int _ :: r => catS r + 1
  | .ref _ :: r => catS r + 1
  | .null :: r => catS r + 1
  | _ :: r => catS r + 9
def callP (n : Nat) (sp : CSpec) (st : List Value) (h : AH) (k : List Value → AH → Prop) : Prop := match pops n [] st with
  | some (as, rest) => match Nat.ble (catS rest) 8 with
    | true => sp as h (fun v h' => k (v.toList ++ rest) h')
    | false => False
  | none => False
def step1 (G : GG) (ini : Bool) (ft : List FtE) (ct : List (Nat × Int32)) (ce : List CE) (rt : Option FieldType) (ret : Option Value → AH → Prop) (op : Instr) (v : Int32) (tgt : Nat) (L : LL) (st : List Value) (h : AH) (cont jmp : LL → List Value → AH → Prop) (stop : Prop) : Prop :=
  match op with
  | .iconst _ => cont L (.int v :: st) h
  | .bipush _ => cont L (.int v :: st) h
  | .sipush _ => cont L (.int v :: st) h
  | .ldc i => match ctF ct i with
    | some x => cont L (.int x :: st) h
    | none => stop
  | .ldc_w i => match ctF ct i with
    | some x => cont L (.int x :: st) h
    | none => stop
  | .iload_n _ => match lk L tgt with
    | some (.int x) => cont L (.int x :: st) h
    | _ => False
  | .iload _ => match lk L tgt with
    | some (.int x) => cont L (.int x :: st) h
    | _ => False
  | .aload_n _ => match lk L tgt with
    | some (.ref x) => cont L (.ref x :: st) h
    | some .null => cont L (.null :: st) h
    | _ => False
  | .aload _ => match lk L tgt with
    | some (.ref x) => cont L (.ref x :: st) h
    | some .null => cont L (.null :: st) h
    | _ => False
  | .istore_n _ => match st with
    | .int x :: r => cont (stL L tgt (.int x)) r h
    | _ => False
  | .istore _ => match st with
    | .int x :: r => cont (stL L tgt (.int x)) r h
    | _ => False
  | .astore_n _ => match st with
    | .ref x :: r => cont (stL L tgt (.ref x)) r h
    | .null :: r => cont (stL L tgt .null) r h
    | _ => False
  | .astore _ => match st with
    | .ref x :: r => cont (stL L tgt (.ref x)) r h
    | .null :: r => cont (stL L tgt .null) r h
    | _ => False
  | .iinc _ _ => match lk L tgt with
    | some (.int x) => cont (stL L tgt (.int (x + v))) st h
    | _ => False
  | .iadd => match st with
    | .int y :: .int x :: r => cont L (.int (x + y) :: r) h
    | _ => False
  | .isub => match st with
    | .int y :: .int x :: r => cont L (.int (x - y) :: r) h
    | _ => False
  | .imul => match st with
    | .int y :: .int x :: r => cont L (.int (x * y) :: r) h
    | _ => False
  | .iand => match st with
    | .int y :: .int x :: r => cont L (.int (x &&& y) :: r) h
    | _ => False
  | .ior => match st with
    | .int y :: .int x :: r => cont L (.int (x ||| y) :: r) h
    | _ => False
  | .ixor => match st with
    | .int y :: .int x :: r => cont L (.int (x ^^^ y) :: r) h
    | _ => False
  | .idiv => match st with
    | .int y :: .int x :: r => ¬ y = 0 ∧ cont L (.int (x / y) :: r) h
    | _ => False
  | .irem => match st with
    | .int y :: .int x :: r => ¬ y = 0 ∧ cont L (.int (x - x / y * y) :: r) h
    | _ => False
  | .ineg => match st with
    | .int x :: r => cont L (.int (-x) :: r) h
    | _ => False
  | .ishl => match st with
    | .int y :: .int x :: r => cont L (.int (x <<< (y &&& 31)) :: r) h
    | _ => False
  | .ishr => match st with
    | .int y :: .int x :: r => cont L (.int (x >>> (y &&& 31)) :: r) h
    | _ => False
  | .iushr => match st with
    | .int y :: .int x :: r => cont L (.int (x.toUInt32 >>> (y.toUInt32 &&& Int32.toUInt32 31)).toInt32 :: r) h
    | _ => False
  | .i2b => match st with
    | .int x :: r => cont L (.int x.toInt8.toInt32 :: r) h
    | _ => False
  | .i2c => match st with
    | .int x :: r => cont L (.int (x.toUInt32 % 65536).toInt32 :: r) h
    | _ => False
  | .dup => match st with
    | a :: r => match cat1 a with
      | true => cont L (a :: a :: r) h
      | false => False
    | _ => False
  | .dup_x1 => match st with
    | a :: b :: r => match cat1 a && cat1 b with
      | true => cont L (a :: b :: a :: r) h
      | false => False
    | _ => False
  | .dup2 => match st with
    | a :: b :: r => match cat1 a && cat1 b with
      | true => cont L (a :: b :: a :: b :: r) h
      | false => False
    | _ => False
  | .pop => match st with
    | a :: r => match cat1 a with
      | true => cont L r h
      | false => False
    | _ => False
  | .aconst_null => cont L (.null :: st) h
  | .ifnull _ => match st with
    | .ref _ :: r => cont L r h
    | .null :: r => jmp L r h
    | _ => False
  | .ifnonnull _ => match st with
    | .ref _ :: r => jmp L r h
    | .null :: r => cont L r h
    | _ => False
  | .goto _ => jmp L st h
  | .ifCond c _ => match st with
    | .int x :: r => (cP c x 0 → jmp L r h) ∧ (cN c x 0 → cont L r h)
    | _ => False
  | .if_icmp c _ => match st with
    | .int y :: .int x :: r => (cP c x y → jmp L r h) ∧ (cN c x y → cont L r h)
    | _ => False
  | .getfield i => match ftF ft i with
    | some (ci, k, _, _) => match st with
      | .ref a :: r => ∃ fs : List Value, h a = some (.inr (ci, fs)) ∧ match nthV fs k with
        | some w => cont L (w :: r) h
        | none => False
      | _ => False
    | none => stop
  | .putfield i => match ftF ft i with
    | some (ci, k, ty, kd) => match st with
      | w :: .ref a :: r => match ptO ini kd with
        | true => okW ty w ∧ ∃ fs : List Value, h a = some (.inr (ci, fs)) ∧ k < fs.length ∧ G.2.2.1.size ≤ a ∧ ∀ h', h' = ahU h a (.inr (ci, fs.set k w)) → cont L r h'
        | false => stop
      | _ => False
    | none => stop
  | .iaload => match st with
    | .int i :: .ref a :: r => ∃ (n : Nat) (f : Nat → Int32), h a = some (.inl (G.2.1 0, n, .inl f)) ∧ ∃ j, IX i n j ∧ cont L (.int (f j) :: r) h
    | _ => False
  | .baload => match st with
    | .int i :: .ref a :: r => ∃ (n : Nat) (f : Nat → Int32), h a = some (.inl (G.2.1 1, n, .inl f)) ∧ ∃ j, IX i n j ∧ cont L (.int (f j) :: r) h
    | _ => False
  | .iastore => match st with
    | .int x :: .int i :: .ref a :: r => ∃ (n : Nat) (f : Nat → Int32), h a = some (.inl (G.2.1 0, n, .inl f)) ∧ ∃ j, IX i n j ∧ G.2.2.1.size ≤ a ∧ ∀ h', h' = ahU h a (.inl (G.2.1 0, n, .inl (upd f j x))) → cont L r h'
    | _ => False
  | .bastore => match st with
    | .int x :: .int i :: .ref a :: r => ∃ (n : Nat) (f : Nat → Int32), h a = some (.inl (G.2.1 1, n, .inl f)) ∧ ∃ j, IX i n j ∧ G.2.2.1.size ≤ a ∧ ∀ h', h' = ahU h a (.inl (G.2.1 1, n, .inl (upd f j x.toInt8.toInt32))) → cont L r h'
    | _ => False
  | .aaload => match st with
    | .int i :: .ref a :: r => ∃ (t n : Nat) (f : Nat → Option Nat) (j b : Nat), (t = 2 ∨ t = 3 ∨ t = 4 ∨ t = 5) ∧ h a = some (.inl (G.2.1 t, n, .inr (.inr (.inr (.inr f))))) ∧ IX i n j ∧ f j = some b ∧ cont L (.ref b :: r) h
    | _ => False
  | .arraylength => match st with
    | .ref a :: r => ∃ (t : Nat) (x : vp_A), t < 6 ∧ h a = some (.inl (G.2.1 t, x)) ∧ cont L (.int (nI x.1) :: r) h
    | _ => False
  | .invokevirtual i => match ceF ce i with
    | some (false, n, sp) => callP n sp st h (fun s' h' => cont L s' h')
    | _ => stop
  | .invokestatic i => match ceF ce i with
    | some (true, n, sp) => callP n sp st h (fun s' h' => cont L s' h')
    | _ => stop
  | .ireturn => match rt, st with
    | some .int, [.int x] => ret (some (.int x)) h
    | some .boolean, [.int x] => (x = 0 ∨ x = 1) ∧ ret (some (.int x)) h
    | _, _ => stop
  | .areturn => match rt, st with
    | some (.object _), [.ref a] => ret (some (.ref a)) h
    | some (.object _), [.null] => ret (some .null) h
    | some (.array _), [.ref a] => ret (some (.ref a)) h
    | _, _ => stop
  | .return_ => match rt, st with
    | none, [] => ret none h
    | _, _ => stop
  | _ => stop
/-- an instruction's row: pc, instruction, length, its number, its place or target -/
abbrev IE : Type := Nat × Instr × Nat × Int32 × Nat
def okE (nL : Nat) : IE → Bool
  | (_, .iconst n, l, v, _) => (l == 1) && (Int32.ofInt n == v)
  | (_, .bipush n, l, v, _) => (l == 2) && ((Int8.ofInt n).toInt32 == v)
  | (_, .sipush n, l, v, _) => (l == 3) && ((Int16.ofInt n).toInt32 == v)
  | (_, .ldc _, l, _, _) => l == 2
  | (_, .iload_n k, l, _, t) => (l == 1) && (k.val == t)
  | (_, .aload_n k, l, _, t) => (l == 1) && (k.val == t)
  | (_, .istore_n k, l, _, t) => (l == 1) && (k.val == t) && decide (t < nL)
  | (_, .astore_n k, l, _, t) => (l == 1) && (k.val == t) && decide (t < nL)
  | (_, .iload k, l, _, t) => (l == 2) && (k == t)
  | (_, .aload k, l, _, t) => (l == 2) && (k == t)
  | (_, .istore k, l, _, t) => (l == 2) && (k == t) && decide (t < nL)
  | (_, .astore k, l, _, t) => (l == 2) && (k == t) && decide (t < nL)
  | (_, .iinc k n, l, v, t) => (l == 3) && (k == t) && (Int32.ofInt n == v) && decide (t < nL)
  | (pc, .goto o, l, _, t) => (l == 3) && decide ((pc : Int) + o = (t : Int))
  | (pc, .ifCond _ o, l, _, t) => (l == 3) && decide ((pc : Int) + o = (t : Int))
  | (pc, .if_icmp _ o, l, _, t) => (l == 3) && decide ((pc : Int) + o = (t : Int))
  | (pc, .ifnull o, l, _, t) => (l == 3) && decide ((pc : Int) + o = (t : Int))
  | (pc, .ifnonnull o, l, _, t) => (l == 3) && decide ((pc : Int) + o = (t : Int))
  | (_, .getfield _, l, _, _) => l == 3
  | (_, .putfield _, l, _, _) => l == 3
  | (_, .invokevirtual _, l, _, _) => l == 3
  | (_, .invokestatic _, l, _, _) => l == 3
  | (_, .invokespecial _, _, _, _) => true
  | (_, .invokeinterface _ _, _, _, _) => true
  | (_, .tableswitch _ _ _ _, _, _, _) => true
  | (_, .lookupswitch _ _, _, _, _) => true
  | (_, .new _, _, _, _) => true
  | (_, .newarray _, _, _, _) => true
  | (_, .anewarray _, _, _, _) => true
  | (_, .multianewarray _ _, _, _, _) => true
  | (_, .getstatic _, _, _, _) => true
  | (_, .checkcast _, _, _, _) => true
  | (_, .ldc_w _, l, _, _) => l == 3
  | (_, .if_acmp _ _, _, _, _) => true
  | (_, _, l, _, _) => l == 1
/-- the row just behind begins where this one ends -/
def chE : List IE → Bool
  | [] => true
  | [_] => true
  | a :: b :: r => Nat.beq (a.1 + a.2.2.1) b.1 && chE (b :: r)
def seek : List IE → Nat → List IE
  | [], _ => []
  | a :: r, t => bif Nat.beq a.1 t then a :: r else seek r t
def mem1 : List Nat → Nat → Bool
  | [], _ => false
  | a :: r, t => Nat.beq a t || mem1 r t
def nxB (stops : List Nat) (K : Nat → LL → List Value → AH → Prop) (b : LL → List Value → AH → Prop) : List IE → LL → List Value → AH → Prop
  | (pc2, _) :: _, L, st, h => bif mem1 stops pc2 then K pc2 L st h else b L st h
  | [], _, _, _ => False
/-- runs along the rows; comes to rest at the pcs 'stops', at calls and returns, and when the fuel is out -/
def bk (G : GG) (ini : Bool) (ft : List FtE) (ct : List (Nat × Int32)) (ce : List CE) (rt : Option FieldType) (ret : Option Value → AH → Prop) (pg : List IE) (stops : List Nat) (K : Nat → LL → List Value → AH → Prop) : Nat → List IE → LL → List Value → AH → Prop
  | 0, (pc, _) :: _, L, st, h => K pc L st h
  | _, [], _, _, _ => False
  | n + 1, (pc, op, _, v, t) :: r, L, st, h => step1 G ini ft ct ce rt ret op v t L st h
      (nxB stops K (bk G ini ft ct ce rt ret pg stops K n r) r)
      (fun L st h => bif mem1 stops t then K t L st h else bk G ini ft ct ce rt ret pg stops K n (seek pg t) L st h)
      (K pc L st h)
