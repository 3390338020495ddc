set_option maxRecDepth 100000
/-! LISTS AND TERMS. A term is its code: what is pushed and done, one behind another (0 a number, 1 a fact, 2 .. 8, 10, 11 two of the stack, 9 not). -/
abbrev Code9 : Type := List (Nat × Int32)
def twoC (o : Nat) (x y : Int32) : Int32 := match o with
  | 2 => x + y
  | 3 => x - y
  | 4 => x * y
  | 5 => x / y
  | 6 => bI (decide (x < y))
  | 7 => bI (decide (x = y))
  | 8 => bI (decide (y < x))
  | 10 => x &&& y
  | _ => x ||| y
def stepC (F : Nat → Int32) (o : Nat) (v : Int32) (st : List Int32) : List Int32 := match o with
  | 0 => v :: st
  | 1 => F v.toNatClampNeg :: st
  | 9 => match st with
    | x :: s => (1 - x) :: s
    | [] => []
  | _ => match st with
    | y :: x :: s => twoC o x y :: s
    | _ => []
def runC (F : Nat → Int32) : Code9 → List Int32 → List Int32
  | [], st => st
  | (o, v) :: r, st => runC F r (stepC F o v st)
def evC (F : Nat → Int32) (c : Code9) : Int32 := (runC F c []).headD 0
theorem runC_app (F : Nat → Int32) : ∀ (c d : Code9) (st : List Int32), runC F (c ++ d) st = runC F d (runC F c st)
  | [], _, _ => rfl
  | (o, v) :: r, d, st => by
    show runC F (r ++ d) _ = _
    rw [runC_app F r d]
    rfl
/-- the code leaves one number -/
def One9 (F : Nat → Int32) (c : Code9) : Prop := ∀ st, runC F c st = evC F c :: st
def opHow (o : Nat) : Int32 := match o with
  | 2 => 43
  | 3 => 45
  | 4 => 42
  | 5 => 47
  | 6 => 60
  | 7 => 61
  | 8 => 62
  | 10 => 5
  | _ => 4
def op2 (o : Nat) : Prop := o = 2 ∨ o = 3 ∨ o = 4 ∨ o = 5 ∨ o = 6 ∨ o = 7 ∨ o = 8 ∨ o = 10 ∨ o = 11
theorem one_num (F : Nat → Int32) (v : Int32) : One9 F [(0, v)] := fun _ => rfl
theorem one_fact (F : Nat → Int32) (v : Int32) : One9 F [(1, v)] := fun _ => rfl
theorem one_not {F : Nat → Int32} {c : Code9} (h : One9 F c) : evC F (c ++ [(9, 0)]) = 1 - evC F c ∧ One9 F (c ++ [(9, 0)]) := by
  have e : ∀ st, runC F (c ++ [(9, 0)]) st = (1 - evC F c) :: st := by
    intro st
    rw [runC_app, h st]
    rfl
  have e2 : evC F (c ++ [(9, 0)]) = 1 - evC F c := by
    unfold evC
    rw [e []]
    rfl
  exact ⟨e2, fun st => by rw [e st, e2]⟩
theorem one_two {F : Nat → Int32} {c d : Code9} {o : Nat} (ho : op2 o) (h : One9 F c) (h2 : One9 F d) : evC F (c ++ d ++ [(o, 0)]) = twoC o (evC F c) (evC F d) ∧ One9 F (c ++ d ++ [(o, 0)]) := by
  have e : ∀ st, runC F (c ++ d ++ [(o, 0)]) st = twoC o (evC F c) (evC F d) :: st := by
    intro st
    rw [runC_app, runC_app, h st, h2]
    rcases ho with rfl | rfl | rfl | rfl | rfl | rfl | rfl | rfl | rfl <;> rfl
  have e2 : evC F (c ++ d ++ [(o, 0)]) = twoC o (evC F c) (evC F d) := by
    rw [evC, e []]
    rfl
  exact ⟨e2, fun st => by rw [e st, e2]⟩
/-- the term at a has this code, at most n deep -/
def IsTm (h : AH) : Nat → Nat → Code9 → Prop
  | 0, _, _ => False
  | n + 1, a, c => (∃ v, h a = some (.inr (6, [.int v])) ∧ c = [(0, v)]) ∨ (∃ k : Nat, k < 9 ∧ h a = some (.inr (7, [.int (nI k)])) ∧ c = [(1, nI k)]) ∨
    (∃ t c1, h a = some (.inr (9, [.ref t])) ∧ IsTm h n t c1 ∧ c = c1 ++ [(9, 0)]) ∨
    (∃ t1 t2 o c1 c2, h a = some (.inr (8, [.ref t1, .ref t2, .int (opHow o)])) ∧ op2 o ∧ (o = 5 → ∃ v, c2 = [(0, v)] ∧ ¬ v = 0) ∧ IsTm h n t1 c1 ∧ IsTm h n t2 c2 ∧ c = c1 ++ c2 ++ [(o, 0)])
theorem IsTm.one {h : AH} : ∀ {n a : Nat} {c : Code9} (F : Nat → Int32), IsTm h n a c → One9 F c
  | 0, _, _, _, w => w.elim
  | n + 1, a, c, F, w => by
    rcases w with ⟨v, h1, rfl⟩ | ⟨k, hk, h1, rfl⟩ | ⟨t, c1, h1, h2, rfl⟩ | ⟨t1, t2, o, c1, c2, h1, h2, h3, h4, h5, rfl⟩
    · exact one_num F v
    · exact one_fact F _
    · exact (one_not (IsTm.one F h2)).2
    · exact (one_two h2 (IsTm.one F h4) (IsTm.one F h5)).2
theorem IsTm.mono {h : AH} : ∀ {n a : Nat} {c : Code9}, IsTm h n a c → IsTm h (n + 1) a c
  | 0, _, _, w => w.elim
  | n + 1, a, c, w => by
    rcases w with ⟨v, h1, e⟩ | ⟨k, hk, h1, e⟩ | ⟨t, c1, h1, h2, e⟩ | ⟨t1, t2, o, c1, c2, h1, h2, h3, h4, h5, e⟩
    · exact Or.inl ⟨v, h1, e⟩
    · exact Or.inr (Or.inl ⟨k, hk, h1, e⟩)
    · exact Or.inr (Or.inr (Or.inl ⟨t, c1, h1, IsTm.mono h2, e⟩))
    · exact Or.inr (Or.inr (Or.inr ⟨t1, t2, o, c1, c2, h1, h2, h3, IsTm.mono h4, IsTm.mono h5, e⟩))
/-- cells that nobody writes once they are made: terms, lines, lists and their arrays -/
def isImm : va_E → Bool
  | .inr (ci, _) => Nat.ble 6 ci
  | .inl _ => false
def Imm (h h' : AH) : Prop := ∀ a ci fs, Nat.ble 6 ci = true → h a = some (.inr (ci, fs)) → h' a = some (.inr (ci, fs))
theorem IsTm.imm {h h' : AH} (m : Imm h h') : ∀ {n a : Nat} {c : Code9}, IsTm h n a c → IsTm h' n a c
  | 0, _, _, w => w.elim
  | n + 1, a, c, w => by
    rcases w with ⟨v, h1, e⟩ | ⟨k, hk, h1, e⟩ | ⟨t, c1, h1, h2, e⟩ | ⟨t1, t2, o, c1, c2, h1, h2, h3, h4, h5, e⟩
    · exact Or.inl ⟨v, m _ _ _ rfl h1, e⟩
    · exact Or.inr (Or.inl ⟨k, hk, m _ _ _ rfl h1, e⟩)
    · exact Or.inr (Or.inr (Or.inl ⟨t, c1, m _ _ _ rfl h1, IsTm.imm m h2, e⟩))
    · exact Or.inr (Or.inr (Or.inr ⟨t1, t2, o, c1, c2, m _ _ _ rfl h1, h2, h3, IsTm.imm m h4, IsTm.imm m h5, e⟩))
/-! the facts of the cell that is asked of -/
def factF (S : Nat → Nat → Int32) (k : Nat) : Int32 := match k with
  | 0 => S 2 (S 0 24).toNatClampNeg
  | 1 => S 3 (S 0 24).toNatClampNeg
  | 2 => S 0 14 - S 4 (S 0 24).toNatClampNeg
  | 3 => S 1 (S 0 24).toNatClampNeg
  | 4 => besideN S (S 0 24) 0 64
  | 5 => besideN S (S 0 24) 1 64
  | 6 => S 0 24 - S 0 24 / 8 * 8
  | 7 => S 0 24 / 8
  | _ => S 0 19
def spFact : GG → CSpec := fun G as h Q => match as with
  | [.ref b, .int x] => ∃ (S : Nat → Nat → Int32) (law j k : Nat), IsWood G b S law h ∧ S 0 24 = nI j ∧ j < 64 ∧ x = nI k ∧ k < 9 ∧ Q (some (.int (factF S k))) h
  | _ => False
theorem c_fact : CtS mX1_fact 5 spFact := by
  intro l G d hd as h z Q hs
  match as, hs with
  | [.ref b, .int x], hs =>
    obtain ⟨S, law, j, k, hw, hj, hj64, rfl, hk, hs⟩ := hs
    have hje : (S 0 24).toNatClampNeg = j := by rw [hj]; exact nI_clamp (by omega)
    refine Ct.of rfl (Nat.le_of_ble_eq_true rfl) rfl ?_
    refine X.w wkX1_fact fnil [] 3 rfl ?_
    skip
    match k, hk with
    | 0, _ =>
      refine X.tswIn wkX1_fact.2.2.2 rfl (by decide +kernel) (by decide +kernel) (by decide +kernel) (off := 47) (tgt := 48) (by decide) ?_
      refine X.w wkX1_fact (fcons (ceV c_beside moBeside ckX1_127 rfl rcBeside (by omega) rfl) fnil) [] 7 rfl ?_
      refine gF (by first | assumption | exact hw.obj | exact hw.arr _ rfl) ?_
      refine gF (by first | assumption | exact hw.obj | exact hw.arr _ rfl) ?_
      refine gA (by first | assumption | exact hw.obj | exact hw.arr _ rfl) (ixE hj hj64 (by decide)) ?_
      exact And.intro (hje ▸ hs) rfl
    | 1, _ =>
      refine X.tswIn wkX1_fact.2.2.2 rfl (by decide +kernel) (by decide +kernel) (by decide +kernel) (off := 57) (tgt := 58) (by decide) ?_
      refine X.w wkX1_fact (fcons (ceV c_beside moBeside ckX1_127 rfl rcBeside (by omega) rfl) fnil) [] 7 rfl ?_
      refine gF (by first | assumption | exact hw.obj | exact hw.arr _ rfl) ?_
      refine gF (by first | assumption | exact hw.obj | exact hw.arr _ rfl) ?_
      refine gA (by first | assumption | exact hw.obj | exact hw.arr _ rfl) (ixE hj hj64 (by decide)) ?_
      exact And.intro (hje ▸ hs) rfl
    | 2, _ =>
      refine X.tswIn wkX1_fact.2.2.2 rfl (by decide +kernel) (by decide +kernel) (by decide +kernel) (off := 67) (tgt := 68) (by decide) ?_
      refine X.w wkX1_fact (fcons (ceV c_beside moBeside ckX1_127 rfl rcBeside (by omega) rfl) fnil) [] 10 rfl ?_
      refine gF (by first | assumption | exact hw.obj | exact hw.arr _ rfl) ?_
      refine gF (by first | assumption | exact hw.obj | exact hw.arr _ rfl) ?_
      refine gF (by first | assumption | exact hw.obj | exact hw.arr _ rfl) ?_
      refine gA (by first | assumption | exact hw.obj | exact hw.arr _ rfl) (ixE hj hj64 (by decide)) ?_
      exact And.intro (hje ▸ hs) rfl
    | 3, _ =>
      refine X.tswIn wkX1_fact.2.2.2 rfl (by decide +kernel) (by decide +kernel) (by decide +kernel) (off := 82) (tgt := 83) (by decide) ?_
      refine X.w wkX1_fact (fcons (ceV c_beside moBeside ckX1_127 rfl rcBeside (by omega) rfl) fnil) [] 7 rfl ?_
      refine gF (by first | assumption | exact hw.obj | exact hw.arr _ rfl) ?_
      refine gF (by first | assumption | exact hw.obj | exact hw.arr _ rfl) ?_
      refine gA (by first | assumption | exact hw.obj | exact hw.arr _ rfl) (ixE hj hj64 (by decide)) ?_
      exact And.intro (hje ▸ hs) rfl
    | 4, _ =>
      refine X.tswIn wkX1_fact.2.2.2 rfl (by decide +kernel) (by decide +kernel) (by decide +kernel) (off := 92) (tgt := 93) (by decide) ?_
      refine X.w wkX1_fact (fcons (ceV c_beside moBeside ckX1_127 rfl rcBeside (by omega) rfl) fnil) [] 5 rfl ?_
      refine Exists.intro S (Exists.intro law (Exists.intro j (And.intro hw (And.intro hj (And.intro hj64 ?_)))))
      exact And.intro hs rfl
    | 5, _ =>
      refine X.tswIn wkX1_fact.2.2.2 rfl (by decide +kernel) (by decide +kernel) (by decide +kernel) (off := 98) (tgt := 99) (by decide) ?_
      refine X.w wkX1_fact (fcons (ceV c_beside moBeside ckX1_127 rfl rcBeside (by omega) rfl) fnil) [] 5 rfl ?_
      refine Exists.intro S (Exists.intro law (Exists.intro j (And.intro hw (And.intro hj (And.intro hj64 ?_)))))
      exact And.intro hs rfl
    | 6, _ =>
      refine X.tswIn wkX1_fact.2.2.2 rfl (by decide +kernel) (by decide +kernel) (by decide +kernel) (off := 104) (tgt := 105) (by decide) ?_
      refine X.w wkX1_fact (fcons (ceV c_beside moBeside ckX1_127 rfl rcBeside (by omega) rfl) fnil) [] 6 rfl ?_
      refine gF (by first | assumption | exact hw.obj | exact hw.arr _ rfl) ?_
      refine And.intro (by decide) ?_
      exact And.intro hs rfl
    | 7, _ =>
      refine X.tswIn wkX1_fact.2.2.2 rfl (by decide +kernel) (by decide +kernel) (by decide +kernel) (off := 112) (tgt := 113) (by decide) ?_
      refine X.w wkX1_fact (fcons (ceV c_beside moBeside ckX1_127 rfl rcBeside (by omega) rfl) fnil) [] 6 rfl ?_
      refine gF (by first | assumption | exact hw.obj | exact hw.arr _ rfl) ?_
      refine And.intro (by decide) ?_
      exact And.intro hs rfl
    | 8, _ =>
      refine X.tswOut wkX1_fact.2.2.2 rfl (by decide +kernel) (tgt := 121) (by decide) ?_
      refine X.w wkX1_fact (fcons (ceV c_beside moBeside ckX1_127 rfl rcBeside (by omega) rfl) fnil) [] 4 rfl ?_
      refine gF (by first | assumption | exact hw.obj | exact hw.arr _ rfl) ?_
      exact And.intro hs rfl
theorem moFact {G : GG} : Mono (spFact G) := by
  intro as h Q Q' hQ hs
  unfold spFact at hs ⊢
  split at hs
  · obtain ⟨S, law, j, k, h1, h2, h3, h4, h5, h6⟩ := hs
    exact ⟨S, law, j, k, h1, h2, h3, h4, h5, hQ _ _ h6⟩
  · exact hs.elim
/-! Term.of, of every kind, by the depth -/
def spOf (n : Nat) : GG → CSpec := fun G as h Q => match as with
  | [.ref a, .ref b] => ∃ (S : Nat → Nat → Int32) (law j : Nat) (c : Code9), IsTm h n a c ∧ IsWood G b S law h ∧ S 0 24 = nI j ∧ j < 64 ∧ Q (some (.int (evC (factF S) c))) h
  | _ => False
theorem moOf {n : Nat} {G : GG} : Mono (spOf n G) := by
  intro as h Q Q' hQ hs
  unfold spOf at hs ⊢
  split at hs
  · obtain ⟨S, law, j, c, h1, h2, h3, h4, h5⟩ := hs
    exact ⟨S, law, j, c, h1, h2, h3, h4, hQ _ _ h5⟩
  · exact hs.elim
def mOf (ci : Nat) : Mth := match ci with
  | 6 => mX7_of
  | 7 => mX8_of
  | 8 => mX9_of
  | _ => mX10_of
def OfOk (n : Nat) : Prop := ∀ (l : Launch) (G : GG) (d : Nat), n + 6 ≤ d → ∀ (a b : Nat) (h : AH) (z : Nat) (Q : Option Value → AH → Prop), spOf n G [.ref a, .ref b] h Q → ∃ ci fs, h a = some (.inr (ci, fs)) ∧ (ci = 6 ∨ ci = 7 ∨ ci = 8 ∨ ci = 9) ∧ Ct l G (mOf ci) d 0 0 [.ref a, .ref b] h z (fun v h' z' => Q v h' ∧ z' = z)
def xOf : MethodName := ⟨RX6, "of", "(LLastWordWood$Asker;)I"⟩
theorem ceOf {l : Launch} {G : GG} {M : Mth} {idx n d mc ms : Nat} (c : OfOk n) (hlk : Cond.methodLink M.1.cls idx xOf ∈ lw_all) (hd : n + 7 ≤ d) : CallOk l G M (rmK d mc ms) (idx, false, 2, spOf n G) ∧ Mono (spOf n G) := by
  refine ⟨fun TG cs ss pc z L as rest h hcs hdec hn hcat hs => ?_, moOf⟩
  match as, hs with
  | [.ref a, .ref b], hs =>
    obtain ⟨ci, fs, ha, hci, hct⟩ := c l G (d - 1) (by omega) a b h z (fun v h' => X l G M (rmK d mc ms) TG cs ss (pc + 3) L (v.toList ++ rest) h' z) hs
    have hrest := Nat.le_trans (catS_le rest) hcat
    have hkk : ∀ v h' z', ((fun v h' z' => X l G M (rmK d mc ms) TG cs ss (pc + 3) L (v.toList ++ rest) h' z ∧ z' = z) : Option Value → AH → Nat → Prop) v h' z' → X l G M (rmK d mc ms) TG cs ss (pc + 3) L (v.toList ++ rest) h' z' := by
      intro v h' z' hP
      obtain ⟨hP, rfl⟩ := hP
      exact hP
    rcases hci with rfl | rfl | rfl | rfl
    · exact X.callU0 (M' := mX7_of) (n := 1) (As := [.ref b]) hlk q826 q827 q828 q108 q829 q825 (by decide +kernel) hdec hct ha rfl rfl rfl (by show _ ≤ d; omega) (by show 8 + (2 + 11) + _ ≤ 40 * d; omega) hcs hrest hkk
    · exact X.callU0 (M' := mX8_of) (n := 1) (As := [.ref b]) hlk q826 q859 q834 q109 q835 q825 (by decide +kernel) hdec hct ha rfl rfl rfl (by show _ ≤ d; omega) (by show 8 + (2 + 11) + _ ≤ 40 * d; omega) hcs hrest hkk
    · exact X.callU0 (M' := mX9_of) (n := 1) (As := [.ref b]) hlk q826 q830 q831 q110 q832 q825 (by decide +kernel) hdec hct ha rfl rfl rfl (by show _ ≤ d; omega) (by show 8 + (4 + 11) + _ ≤ 40 * d; omega) hcs hrest hkk
    · exact X.callU0 (M' := mX10_of) (n := 1) (As := [.ref b]) hlk q826 q860 q856 q111 q857 q825 (by decide +kernel) hdec hct ha rfl rfl rfl (by show _ ≤ d; omega) (by show 8 + (2 + 11) + _ ≤ 40 * d; omega) hcs hrest hkk
theorem of_ok : ∀ n, OfOk n := by
  intro n
  induction n with
  | zero =>
    intro l G d hd a b h z Q hs
    obtain ⟨S, law, j, c, h1, h2⟩ := hs
    exact h1.elim
  | succ n ih =>
    intro l G d hd a b h z Q hs
    obtain ⟨S, law, j, c, ht, hw, hj, hj64, hs⟩ := hs
    rcases ht with ⟨v, h1, rfl⟩ | ⟨k, hk, h1, rfl⟩ | ⟨t, c1, h1, h2, rfl⟩ | ⟨t1, t2, o, c1, c2, h1, h2, h3, h4, h5, rfl⟩
    · refine ⟨6, _, h1, Or.inl rfl, ?_⟩
      refine Ct.of rfl (Nat.le_of_ble_eq_true rfl) rfl ?_
      refine X.w wkX7_of fnil [] 4 rfl ?_
      refine gF (by first | assumption | exact h1) ?_
      exact And.intro hs rfl
    · refine ⟨7, _, h1, Or.inr (Or.inl rfl), ?_⟩
      refine Ct.of rfl (Nat.le_of_ble_eq_true rfl) rfl ?_
      refine X.w wkX8_of fnil [] 5 rfl ?_
      refine gF (by first | assumption | exact h1) ?_
      refine X.callF0 (M' := mX1_fact) (x := ⟨"LastWordWood$Asker", "fact", "(I)I"⟩) (n := 1) (d' := 5) (As := [.int (nI k)]) (rest := []) q837 q841 q843 q92 q845 q839 q838 q844 q842 q840 (by decide +kernel) (pg_at wkX8_of.2.2.2 rfl) (c_fact l G 5 (Nat.le_refl _) _ h z (fun v h' => v = some (.int (factF S k)) ∧ h' = h) ⟨S, law, j, k, hw, hj, hj64, rfl, hk, rfl, rfl⟩) hw.obj rfl rfl rfl (by show _ ≤ d; omega) (by show 8 + (2 + 11) + _ ≤ 40 * d; omega) ⟨Nat.zero_le _, Nat.zero_le _⟩ (by decide) ?_
      intro v h' z' hP
      obtain ⟨⟨rfl, rfl⟩, rfl⟩ := hP
      have e : factF S k = evC (factF S) [(1, nI k)] := by
        show _ = factF S (nI k).toNatClampNeg
        rw [nI_clamp (by omega)]
      rw [← e] at hs
      refine X.w wkX8_of fnil [] 2 rfl ?_
      exact And.intro hs rfl
    · refine ⟨9, _, h1, Or.inr (Or.inr (Or.inr rfl)), ?_⟩
      obtain ⟨e1, e2⟩ := one_not (h2.one (factF S))
      rw [e1] at hs
      refine Ct.of rfl (Nat.le_of_ble_eq_true rfl) rfl ?_
      refine X.w wkX10_of (fcons (ceOf ih q858 (by omega)) fnil) [] 8 rfl ?_
      refine gF (by first | assumption | exact h1) ?_
      refine Exists.intro _ (Exists.intro _ (Exists.intro _ (Exists.intro _ (And.intro h2 (And.intro hw (And.intro hj (And.intro hj64 ?_)))))))
      exact And.intro hs rfl
    · refine ⟨8, _, h1, Or.inr (Or.inr (Or.inl rfl)), ?_⟩
      obtain ⟨e1, e2⟩ := one_two h2 (h4.one (factF S)) (h5.one (factF S))
      rw [e1] at hs
      refine Ct.of rfl (Nat.le_of_ble_eq_true rfl) rfl ?_
      refine X.w wkX9_of (fcons (ceOf ih q833 (by omega)) fnil) [] 14 rfl ?_
      refine gF (by first | assumption | exact h1) ?_
      refine Exists.intro _ (Exists.intro _ (Exists.intro _ (Exists.intro _ (And.intro h4 (And.intro hw (And.intro hj (And.intro hj64 ?_)))))))
      refine gF (by first | assumption | exact h1) ?_
      refine Exists.intro _ (Exists.intro _ (Exists.intro _ (Exists.intro _ (And.intro h5 (And.intro hw (And.intro hj (And.intro hj64 ?_)))))))
      refine gF (by first | assumption | exact h1) ?_
      skip
      rcases h2 with rfl | rfl | rfl | rfl | rfl | rfl | rfl | rfl | rfl
      · refine X.lsw wkX9_of.2.2.2 rfl (by decide +kernel) (off := 74) (by decide +kernel) (tgt := 96) (by decide) ?_
        refine X.w wkX9_of fnil [] 5 rfl ?_
        exact And.intro hs rfl
      · refine X.lsw wkX9_of.2.2.2 rfl (by decide +kernel) (off := 78) (by decide +kernel) (tgt := 100) (by decide) ?_
        refine X.w wkX9_of fnil [] 5 rfl ?_
        exact And.intro hs rfl
      · refine X.lsw wkX9_of.2.2.2 rfl (by decide +kernel) (off := 82) (by decide +kernel) (tgt := 104) (by decide) ?_
        refine X.w wkX9_of fnil [] 5 rfl ?_
        exact And.intro hs rfl
      · refine X.lsw wkX9_of.2.2.2 rfl (by decide +kernel) (off := 86) (by decide +kernel) (tgt := 108) (by decide) ?_
        refine X.w wkX9_of fnil [] 5 rfl ?_
        refine And.intro (by obtain ⟨v, rfl, hv⟩ := h3 rfl; exact hv) ?_
        exact And.intro hs rfl
      · refine X.lsw wkX9_of.2.2.2 rfl (by decide +kernel) (off := 90) (by decide +kernel) (tgt := 112) (by decide) ?_
        refine X.w wkX9_of fnil [] 7 rfl ?_
        refine And.intro (fun b114 => ?_) (fun b114 => ?_)
        · simp only [cP, cN, bI_0, Bool.not_eq_false, lt_nle, Decidable.not_not] at b114
          replace hs : Q (some (.int (bI (decide (evC (factF S) c1 < evC (factF S) c2))))) h := hs
          rw [show decide (evC (factF S) c1 < evC (factF S) c2) = false from by simp only [lt_nle, b114, decide_true, decide_false, Bool.and_true, Bool.true_and, Bool.and_false, Bool.false_and, Bool.or_true, Bool.true_or, Bool.or_false, Bool.false_or, not_true_eq_false, not_false_eq_true, Bool.not_true, Bool.not_false, decide_not, if_true, if_false, and_true, true_and, and_false, false_and, or_true, true_or, or_false, false_or, Bool.false_eq_true]] at hs
          exact And.intro hs rfl
        · simp only [cP, cN, bI_0, Bool.not_eq_false, lt_nle, Decidable.not_not] at b114
          replace hs : Q (some (.int (bI (decide (evC (factF S) c1 < evC (factF S) c2))))) h := hs
          rw [show decide (evC (factF S) c1 < evC (factF S) c2) = true from by simp only [lt_nle, b114, decide_true, decide_false, Bool.and_true, Bool.true_and, Bool.and_false, Bool.false_and, Bool.or_true, Bool.true_or, Bool.or_false, Bool.false_or, not_true_eq_false, not_false_eq_true, Bool.not_true, Bool.not_false, decide_not, if_true, if_false, and_true, true_and, and_false, false_and, or_true, true_or, or_false, false_or, Bool.false_eq_true]] at hs
          exact And.intro hs rfl
      · refine X.lsw wkX9_of.2.2.2 rfl (by decide +kernel) (off := 101) (by decide +kernel) (tgt := 123) (by decide) ?_
        refine X.w wkX9_of fnil [] 7 rfl ?_
        refine And.intro (fun b125 => ?_) (fun b125 => ?_)
        · simp only [cP, cN, bI_0, Bool.not_eq_false, lt_nle, Decidable.not_not] at b125
          replace hs : Q (some (.int (bI (decide (evC (factF S) c1 = evC (factF S) c2))))) h := hs
          rw [show decide (evC (factF S) c1 = evC (factF S) c2) = false from by simp only [lt_nle, b125, decide_true, decide_false, Bool.and_true, Bool.true_and, Bool.and_false, Bool.false_and, Bool.or_true, Bool.true_or, Bool.or_false, Bool.false_or, not_true_eq_false, not_false_eq_true, Bool.not_true, Bool.not_false, decide_not, if_true, if_false, and_true, true_and, and_false, false_and, or_true, true_or, or_false, false_or, Bool.false_eq_true]] at hs
          exact And.intro hs rfl
        · simp only [cP, cN, bI_0, Bool.not_eq_false, lt_nle, Decidable.not_not] at b125
          replace hs : Q (some (.int (bI (decide (evC (factF S) c1 = evC (factF S) c2))))) h := hs
          rw [show decide (evC (factF S) c1 = evC (factF S) c2) = true from by simp only [lt_nle, b125, decide_true, decide_false, Bool.and_true, Bool.true_and, Bool.and_false, Bool.false_and, Bool.or_true, Bool.true_or, Bool.or_false, Bool.false_or, not_true_eq_false, not_false_eq_true, Bool.not_true, Bool.not_false, decide_not, if_true, if_false, and_true, true_and, and_false, false_and, or_true, true_or, or_false, false_or, Bool.false_eq_true]] at hs
          exact And.intro hs rfl
      · refine X.lsw wkX9_of.2.2.2 rfl (by decide +kernel) (off := 112) (by decide +kernel) (tgt := 134) (by decide) ?_
        refine X.w wkX9_of fnil [] 7 rfl ?_
        refine And.intro (fun b136 => ?_) (fun b136 => ?_)
        · simp only [cP, cN, bI_0, Bool.not_eq_false, lt_nle, Decidable.not_not] at b136
          replace hs : Q (some (.int (bI (decide (evC (factF S) c2 < evC (factF S) c1))))) h := hs
          rw [show decide (evC (factF S) c2 < evC (factF S) c1) = false from by simp only [lt_nle, b136, decide_true, decide_false, Bool.and_true, Bool.true_and, Bool.and_false, Bool.false_and, Bool.or_true, Bool.true_or, Bool.or_false, Bool.false_or, not_true_eq_false, not_false_eq_true, Bool.not_true, Bool.not_false, decide_not, if_true, if_false, and_true, true_and, and_false, false_and, or_true, true_or, or_false, false_or, Bool.false_eq_true]] at hs
          exact And.intro hs rfl
        · simp only [cP, cN, bI_0, Bool.not_eq_false, lt_nle, Decidable.not_not] at b136
          replace hs : Q (some (.int (bI (decide (evC (factF S) c2 < evC (factF S) c1))))) h := hs
          rw [show decide (evC (factF S) c2 < evC (factF S) c1) = true from by simp only [lt_nle, b136, decide_true, decide_false, Bool.and_true, Bool.true_and, Bool.and_false, Bool.false_and, Bool.or_true, Bool.true_or, Bool.or_false, Bool.false_or, not_true_eq_false, not_false_eq_true, Bool.not_true, Bool.not_false, decide_not, if_true, if_false, and_true, true_and, and_false, false_and, or_true, true_or, or_false, false_or, Bool.false_eq_true]] at hs
          exact And.intro hs rfl
      · refine X.lsw wkX9_of.2.2.2 rfl (by decide +kernel) (off := 123) (by decide +kernel) (tgt := 145) (by decide) ?_
        refine X.w wkX9_of fnil [] 5 rfl ?_
        exact And.intro hs rfl
      · refine X.lsw wkX9_of.2.2.2 rfl (by decide +kernel) (off := 127) (by decide +kernel) (tgt := 149) (by decide) ?_
        refine X.w wkX9_of fnil [] 5 rfl ?_
        exact And.intro hs rfl
