set_option maxRecDepth 100000
/-! codes run on the model's stack; by how much a cap grows -/
theorem up2_set {S : SS} {o t : Nat} {f : Nat → Int32} {x : Int32} : up2 (setF S o f) o t x = setF S o (upd f t x) := by
  funext o'
  unfold up2 setF
  by_cases e : o' = o
  · subst e; simp
  · simp [e]
theorem up2_as {S : SS} {o t : Nat} {x : Int32} : up2 S o t x = setF S o (upd (S o) t x) := rfl
/-- nothing but the cells os has changed -/
def Chg (os : List Nat) (S S' : SS) : Prop := ∀ o, mem1 os o = false → S' o = S o
theorem Chg.rf {os : List Nat} {S : SS} : Chg os S S := fun _ _ => rfl
theorem Chg.tr {os : List Nat} {S S1 S2 : SS} (a : Chg os S S1) (c : Chg os S1 S2) : Chg os S S2 := fun o h => (c o h).trans (a o h)
theorem Chg.up {os : List Nat} {S S1 : SS} {o k : Nat} {x : Int32} (a : Chg os S S1) (h : mem1 os o = true) : Chg os S (up2 S1 o k x) := by
  intro q hq
  have e : q ≠ o := fun e => by rw [e, h] at hq; exact nomatch hq
  show (if q = o then _ else _) = _
  rw [if_neg e]
  exact a q hq
theorem Chg.set {os : List Nat} {S S1 : SS} {o : Nat} {f : Nat → Int32} (a : Chg os S S1) (h : mem1 os o = true) : Chg os S (setF S1 o f) := by
  intro q hq
  have e : q ≠ o := fun e => by rw [e, h] at hq; exact nomatch hq
  rw [setF_n e]
  exact a q hq
theorem mem1_sub {os ps : List Nat} (h : os.all (mem1 ps) = true) {o : Nat} (ho : mem1 ps o = false) : mem1 os o = false := by
  induction os with
  | nil => rfl
  | cons a r ih =>
    rw [List.all_cons, Bool.and_eq_true] at h
    unfold mem1
    rw [ih h.2, Bool.or_false]
    cases e : Nat.beq a o with
    | false => rfl
    | true =>
      have e2 := Nat.eq_of_beq_eq_true e
      subst e2
      rw [h.1] at ho
      exact nomatch ho
theorem Chg.sub {os ps : List Nat} {S S1 : SS} (a : Chg os S S1) (h : os.all (mem1 ps) = true) : Chg ps S S1 := fun o ho => a o (mem1_sub h ho)
theorem CodeAt.eq {M M' : SS} {a : Nat} {c : Code9} (h : CodeAt M a c) (h1 : M' 13 = M 13) (h2 : M' 14 = M 14) : CodeAt M' a c := by
  intro j o v hj
  rw [h1, h2]
  exact h j o v hj
theorem LineAt.chg {M M' : SS} {i : Nat} {q : Line9} (h : LineAt M i q) (h1 : M' 13 = M 13) (h2 : M' 14 = M 14) (h3 : M' 10 = M 10) (h4 : M' 11 = M 11) (h5 : M' 12 = M 12) : LineAt M' i q := by
  obtain ⟨a, b, c, e1, e2, e3, e4, e5, e6, e7, e8⟩ := h
  refine ⟨a, b, c, by rw [h4]; exact e1, by rw [h3]; exact e2, by rw [h5]; exact e3, e4, e5, e6.eq h1 h2, e7, ?_⟩
  obtain ⟨g, w⟩ := q
  cases w with
  | none => exact e8
  | some w => exact ⟨e8.1, e8.2.1.eq h1 h2, e8.2.2⟩
theorem LawR.chg {L : List Line9} {M M' : SS} (h : LawR L M) (h0 : M' 0 26 = M 0 26) (h1 : M' 13 = M 13) (h2 : M' 14 = M 14) (h3 : M' 10 = M 10) (h4 : M' 11 = M 11) (h5 : M' 12 = M 12) : LawR L M' :=
  ⟨by rw [h0]; exact h.1, h.2.1, fun i q hq => (h.2.2 i q hq).chg h1 h2 h3 h4 h5⟩
theorem CodeAt.l {M : SS} {a : Nat} {c d : Code9} (h : CodeAt M a (c ++ d)) : CodeAt M a c := by
  intro j o v hj
  have hl : j < c.length := (List.getElem?_eq_some_iff.mp hj).1
  exact h j o v (by rw [List.getElem?_append_left hl]; exact hj)
theorem CodeAt.r {M : SS} {a : Nat} {c d : Code9} (h : CodeAt M a (c ++ d)) : CodeAt M (a + c.length) d := by
  intro j o v hj
  have := h (c.length + j) o v (by rw [List.getElem?_append_right (by omega)]; rw [show c.length + j - c.length = j from by omega]; exact hj)
  rw [show a + c.length + j = a + (c.length + j) from by omega]
  exact this
theorem CodeAt.hd {M : SS} {a : Nat} {o : Nat} {v : Int32} {d : Code9} (h : CodeAt M a ((o, v) :: d)) : M 13 a = nI o ∧ M 14 a = v := h 0 o v rfl
theorem ar_one {F : Nat → Int32} : ∀ {n : Nat} {c : Code9}, Ar9 n c → One9 F c
  | 0, _, w => w.elim
  | n + 1, c, w => by
    rcases w with ⟨v, rfl⟩ | ⟨k, hk, rfl⟩ | ⟨o, c1, c2, ho, h2, h3, h4, rfl⟩
    · exact one_num F v
    · exact one_fact F _
    · exact (one_two (by unfold op2; omega) (ar_one h3) (ar_one h4)).2
theorem cd_one {F : Nat → Int32} : ∀ {n : Nat} {c : Code9}, Cd9 n c → One9 F c ∧ (evC F c = 0 ∨ evC F c = 1)
  | 0, _, w => w.elim
  | n + 1, c, w => by
    rcases w with ⟨c1, h1, rfl⟩ | ⟨o, c1, c2, ho, h3, h4, rfl⟩ | ⟨o, c1, c2, ho, h3, h4, rfl⟩
    · have ih := cd_one (F := F) h1
      refine ⟨(one_not ih.1).2, ?_⟩
      rw [(one_not ih.1).1]
      rcases ih.2 with e | e <;> rw [e] <;> decide
    · have h := one_two (F := F) (c := c1) (d := c2) (o := o) (by unfold op2; omega) (ar_one h3) (ar_one h4)
      refine ⟨h.2, ?_⟩
      rw [h.1]
      rcases ho with rfl | rfl | rfl <;> exact bI_01 _
    · have i1 := cd_one (F := F) h3
      have i2 := cd_one (F := F) h4
      have h := one_two (F := F) (c := c1) (d := c2) (o := o) (by unfold op2; omega) i1.1 i2.1
      refine ⟨h.2, ?_⟩
      rw [h.1]
      rcases i1.2 with e | e <;> rcases i2.2 with e' | e' <;> rw [e, e'] <;> rcases ho with rfl | rfl <;> decide
theorem twoM_ar {o : Nat} (ho : o = 2 ∨ o = 3 ∨ o = 4 ∨ o = 5 ∨ o = 6 ∨ o = 7 ∨ o = 8) (x y : Int32) : twoM (nI o) x y = twoC o x y := by
  rcases ho with rfl | rfl | rfl | rfl | rfl | rfl | rfl <;> rfl
theorem twoM_cd {o : Nat} (ho : o = 10 ∨ o = 11) {x y : Int32} (hx : x = 0 ∨ x = 1) (hy : y = 0 ∨ y = 1) : twoM (nI o) x y = twoC o x y := by
  rcases hx with rfl | rfl <;> rcases hy with rfl | rfl <;> rcases ho with rfl | rfl <;> decide
theorem ar_len : ∀ {n : Nat} {c : Code9}, Ar9 n c → 1 ≤ c.length
  | 0, _, w => w.elim
  | n + 1, c, w => by
    rcases w with ⟨v, rfl⟩ | ⟨k, hk, rfl⟩ | ⟨o, c1, c2, ho, h2, h3, h4, rfl⟩ <;> simp <;> omega
theorem cd_len : ∀ {n : Nat} {c : Code9}, Cd9 n c → 1 ≤ c.length
  | 0, _, w => w.elim
  | n + 1, c, w => by
    rcases w with ⟨c1, h1, rfl⟩ | ⟨o, c1, c2, ho, h3, h4, rfl⟩ | ⟨o, c1, c2, ho, h3, h4, rfl⟩ <;> simp <;> omega
theorem k_runs : CtS mX3_runs 2 (mW2 (fun (a : Nat × Code9) u w S => u = nI a.1 ∧ w = nI (a.1 + a.2.length) ∧ a.1 + a.2.length ≤ 400 ∧ CodeAt S a.1 a.2 ∧ (Ar9 DEP a.2 ∨ Cd9 DEP a.2)) (fun (a : Nat × Code9) u w S v S' => v = evC (S 16) a.2 ∧ ∃ f, S' = setF S 17 f)) := by
  intro l G d hd as h z Q hs
  match as, hs with
  | [.ref b, .int u, .int w], hs =>
    obtain ⟨S, a, hm, hp, hs⟩ := hs
    replace hp : u = nI a.1 ∧ w = nI (a.1 + a.2.length) ∧ a.1 + a.2.length ≤ 400 ∧ CodeAt S a.1 a.2 ∧ (Ar9 DEP a.2 ∨ Cd9 DEP a.2) := hp
    replace hs : ∀ v S' h', (v = evC (S 16) a.2 ∧ ∃ f, S' = setF S 17 f) → IsMod G b S' h' → FrM b h h' → Q (some (.int v)) h' := hs
    have hf : FrM b h h := FrM.rf
    refine Ct.of rfl (Nat.le_of_ble_eq_true rfl) rfl ?_
    obtain ⟨p0, c0⟩ := a
    dsimp only at hp hs
    obtain ⟨hu, rfl, hle, hcode, hwf⟩ := hp
    generalize he : p0 + c0.length = e at hle ⊢
    have iN : ∀ (p t : Nat) (tt pp : Int32) (f : Nat → Int32) (h1 : AH) (x : Int32), tt = nI (t) → pp = nI p → p < e → t + 2 ≤ 420 → S 13 p = 0 → S 14 p = x → IsMod G b (setF S 17 f) h1 → FrM b h h1 → (∀ (t2 p2 : Int32) (h2 : AH), t2 = nI (t + 1) → p2 = nI (p + 1) → IsMod G b (setF S 17 (upd f t (x))) h2 → FrM b h h2 → X l G mX3_runs (rmK d 0 0) (TGm G (fun v h' z' => Q v h' ∧ z' = z) 0 0) 0 0 5 [(0, .ref b), (1, .int u), (2, .int (nI e)), (3, .int t2), (4, .int p2)] [] h2 z) → X l G mX3_runs (rmK d 0 0) (TGm G (fun v h' z' => Q v h' ∧ z' = z) 0 0) 0 0 5 [(0, .ref b), (1, .int u), (2, .int (nI e)), (3, .int tt), (4, .int pp)] [] h1 z := by
      intro p t tt pp f h1 x ht hpp hlt ht4 ho hx hm hf kk
      subst ht
      subst hpp
      refine X.w wkX3_runs (fcons (ceV k_twoOf mmR3 ckX3_246 rfl mrR3 (by omega) rfl) fnil) [5] 31 rfl ?_
      refine And.intro (fun b8 => ?_) (fun b8 => ?_)
      · simp only [cP, cN, bI_0, Bool.not_eq_false, lt_nle, Decidable.not_not] at b8
        exact absurd ((nI_leI (by omega) (by omega)).mp b8) (by omega)
      · simp only [cP, cN, bI_0, Bool.not_eq_false, lt_nle, Decidable.not_not] at b8
        refine gF (by first | assumption | exact hm.obj | exact hm.arr _ rfl) ?_
        refine gA (by first | assumption | exact hm.obj | exact hm.arr _ rfl) (ixN (by omega) (by decide)) ?_
        refine And.intro (fun b18 => ?_) (fun b18 => ?_)
        · simp only [cP, cN, bI_0, Bool.not_eq_false, lt_nle, Decidable.not_not] at b18
          refine gF (by first | assumption | exact hm.obj | exact hm.arr _ rfl) ?_
          refine gF (by first | assumption | exact hm.obj | exact hm.arr _ rfl) ?_
          refine gA (by first | assumption | exact hm.obj | exact hm.arr _ rfl) (ixN (by omega) (by decide)) ?_
          refine And.intro (fun b44 => ?_) (fun b44 => ?_)
          · simp only [cP, cN, bI_0, Bool.not_eq_false, lt_nle, Decidable.not_not] at b44
            exact absurd ho b44
          · simp only [cP, cN, bI_0, Bool.not_eq_false, lt_nle, Decidable.not_not] at b44
            subst hx
            refine gF (by first | assumption | exact hm.obj | exact hm.arr _ rfl) ?_
            refine gA (by first | assumption | exact hm.obj | exact hm.arr _ rfl) (ixN (by omega) (by decide)) ?_
            refine sA (by first | assumption | exact hm.obj | exact hm.arr _ rfl) (ixN (by omega) (by decide)) (by first | exact hm.N | exact hm.No _) ?_
            intro h69 e69
            have hm := hm.uA e69 rfl; have hf := hf.uA e69 (by decide)
            rw [up2_set] at hm
            exact kk _ _ _ (nI_1 t) (nI_1 p) hm hf
        · simp only [cP, cN, bI_0, Bool.not_eq_false, lt_nle, Decidable.not_not] at b18
          exact absurd ho b18
    have iF : ∀ (p t : Nat) (tt pp : Int32) (f : Nat → Int32) (h1 : AH) (k : Nat), tt = nI (t) → pp = nI p → p < e → t + 2 ≤ 420 → S 13 p = 1 → S 14 p = nI k → k < 9 → IsMod G b (setF S 17 f) h1 → FrM b h h1 → (∀ (t2 p2 : Int32) (h2 : AH), t2 = nI (t + 1) → p2 = nI (p + 1) → IsMod G b (setF S 17 (upd f t (S 16 k))) h2 → FrM b h h2 → X l G mX3_runs (rmK d 0 0) (TGm G (fun v h' z' => Q v h' ∧ z' = z) 0 0) 0 0 5 [(0, .ref b), (1, .int u), (2, .int (nI e)), (3, .int t2), (4, .int p2)] [] h2 z) → X l G mX3_runs (rmK d 0 0) (TGm G (fun v h' z' => Q v h' ∧ z' = z) 0 0) 0 0 5 [(0, .ref b), (1, .int u), (2, .int (nI e)), (3, .int tt), (4, .int pp)] [] h1 z := by
      intro p t tt pp f h1 k ht hpp hlt ht4 ho hx hk hm hf kk
      subst ht
      subst hpp
      refine X.w wkX3_runs (fcons (ceV k_twoOf mmR3 ckX3_246 rfl mrR3 (by omega) rfl) fnil) [5] 39 rfl ?_
      refine And.intro (fun b8 => ?_) (fun b8 => ?_)
      · simp only [cP, cN, bI_0, Bool.not_eq_false, lt_nle, Decidable.not_not] at b8
        exact absurd ((nI_leI (by omega) (by omega)).mp b8) (by omega)
      · simp only [cP, cN, bI_0, Bool.not_eq_false, lt_nle, Decidable.not_not] at b8
        refine gF (by first | assumption | exact hm.obj | exact hm.arr _ rfl) ?_
        refine gA (by first | assumption | exact hm.obj | exact hm.arr _ rfl) (ixN (by omega) (by decide)) ?_
        refine And.intro (fun b18 => ?_) (fun b18 => ?_)
        · simp only [cP, cN, bI_0, Bool.not_eq_false, lt_nle, Decidable.not_not] at b18
          exact absurd (ho.symm.trans b18) (by decide)
        · simp only [cP, cN, bI_0, Bool.not_eq_false, lt_nle, Decidable.not_not] at b18
          refine gF (by first | assumption | exact hm.obj | exact hm.arr _ rfl) ?_
          refine gA (by first | assumption | exact hm.obj | exact hm.arr _ rfl) (ixN (by omega) (by decide)) ?_
          refine And.intro (fun b29 => ?_) (fun b29 => ?_)
          · simp only [cP, cN, bI_0, Bool.not_eq_false, lt_nle, Decidable.not_not] at b29
            exact absurd ho b29
          · simp only [cP, cN, bI_0, Bool.not_eq_false, lt_nle, Decidable.not_not] at b29
            refine gF (by first | assumption | exact hm.obj | exact hm.arr _ rfl) ?_
            refine gF (by first | assumption | exact hm.obj | exact hm.arr _ rfl) ?_
            refine gA (by first | assumption | exact hm.obj | exact hm.arr _ rfl) (ixN (by omega) (by decide)) ?_
            refine And.intro (fun b44 => ?_) (fun b44 => ?_)
            · simp only [cP, cN, bI_0, Bool.not_eq_false, lt_nle, Decidable.not_not] at b44
              refine gF (by first | assumption | exact hm.obj | exact hm.arr _ rfl) ?_
              refine gF (by first | assumption | exact hm.obj | exact hm.arr _ rfl) ?_
              refine gA (by first | assumption | exact hm.obj | exact hm.arr _ rfl) (ixN (by omega) (by decide)) ?_
              refine gA (by first | assumption | exact hm.obj | exact hm.arr _ rfl) (ixE hx hk (by decide)) ?_
              refine sA (by first | assumption | exact hm.obj | exact hm.arr _ rfl) (ixN (by omega) (by decide)) (by first | exact hm.N | exact hm.No _) ?_
              intro h69 e69
              have hm := hm.uA e69 rfl; have hf := hf.uA e69 (by decide)
              rw [up2_set] at hm
              exact kk _ _ _ (nI_1 t) (nI_1 p) hm hf
            · simp only [cP, cN, bI_0, Bool.not_eq_false, lt_nle, Decidable.not_not] at b44
              exact absurd (ho.symm.trans b44) (by decide)
    have iT : ∀ (p t : Nat) (tt pp : Int32) (f : Nat → Int32) (h1 : AH) , tt = nI (t + 1) → pp = nI p → p < e → t + 2 ≤ 420 → S 13 p = 9 → IsMod G b (setF S 17 f) h1 → FrM b h h1 → (∀ (t2 p2 : Int32) (h2 : AH), t2 = nI (t + 1) → p2 = nI (p + 1) → IsMod G b (setF S 17 (upd f t (1 - f t))) h2 → FrM b h h2 → X l G mX3_runs (rmK d 0 0) (TGm G (fun v h' z' => Q v h' ∧ z' = z) 0 0) 0 0 5 [(0, .ref b), (1, .int u), (2, .int (nI e)), (3, .int t2), (4, .int p2)] [] h2 z) → X l G mX3_runs (rmK d 0 0) (TGm G (fun v h' z' => Q v h' ∧ z' = z) 0 0) 0 0 5 [(0, .ref b), (1, .int u), (2, .int (nI e)), (3, .int tt), (4, .int pp)] [] h1 z := by
      intro p t tt pp f h1  ht hpp hlt ht4 ho hm hf kk
      subst ht
      subst hpp
      refine X.w wkX3_runs (fcons (ceV k_twoOf mmR3 ckX3_246 rfl mrR3 (by omega) rfl) fnil) [5] 39 rfl ?_
      refine And.intro (fun b8 => ?_) (fun b8 => ?_)
      · simp only [cP, cN, bI_0, Bool.not_eq_false, lt_nle, Decidable.not_not] at b8
        exact absurd ((nI_leI (by omega) (by omega)).mp b8) (by omega)
      · simp only [cP, cN, bI_0, Bool.not_eq_false, lt_nle, Decidable.not_not] at b8
        refine gF (by first | assumption | exact hm.obj | exact hm.arr _ rfl) ?_
        refine gA (by first | assumption | exact hm.obj | exact hm.arr _ rfl) (ixN (by omega) (by decide)) ?_
        refine And.intro (fun b18 => ?_) (fun b18 => ?_)
        · simp only [cP, cN, bI_0, Bool.not_eq_false, lt_nle, Decidable.not_not] at b18
          exact absurd (ho.symm.trans b18) (by decide)
        · simp only [cP, cN, bI_0, Bool.not_eq_false, lt_nle, Decidable.not_not] at b18
          refine gF (by first | assumption | exact hm.obj | exact hm.arr _ rfl) ?_
          refine gA (by first | assumption | exact hm.obj | exact hm.arr _ rfl) (ixN (by omega) (by decide)) ?_
          refine And.intro (fun b29 => ?_) (fun b29 => ?_)
          · simp only [cP, cN, bI_0, Bool.not_eq_false, lt_nle, Decidable.not_not] at b29
            refine gF (by first | assumption | exact hm.obj | exact hm.arr _ rfl) ?_
            refine gA (by first | assumption | exact hm.obj | exact hm.arr _ rfl) (ixN (by omega) (by decide)) ?_
            refine And.intro (fun b86 => ?_) (fun b86 => ?_)
            · simp only [cP, cN, bI_0, Bool.not_eq_false, lt_nle, Decidable.not_not] at b86
              exact absurd ho b86
            · simp only [cP, cN, bI_0, Bool.not_eq_false, lt_nle, Decidable.not_not] at b86
              refine gF (by first | assumption | exact hm.obj | exact hm.arr _ rfl) ?_
              refine gF (by first | assumption | exact hm.obj | exact hm.arr _ rfl) ?_
              refine gA (by first | assumption | exact hm.obj | exact hm.arr _ rfl) (ixE (nI_pred t) (by omega) (by decide)) ?_
              refine sA (by first | assumption | exact hm.obj | exact hm.arr _ rfl) (ixE (nI_pred t) (by omega) (by decide)) (by first | exact hm.N | exact hm.No _) ?_
              intro h106 e106
              have hm := hm.uA e106 rfl; have hf := hf.uA e106 (by decide)
              rw [up2_set] at hm
              exact kk _ _ _ rfl (nI_1 p) hm hf
          · simp only [cP, cN, bI_0, Bool.not_eq_false, lt_nle, Decidable.not_not] at b29
            exact absurd (ho.symm.trans b29) (by decide)
    have iB : ∀ (p t : Nat) (tt pp : Int32) (f : Nat → Int32) (h1 : AH) (o : Nat), tt = nI (t + 1 + 1) → pp = nI p → p < e → t + 2 ≤ 420 → S 13 p = nI o → op2 o → (o = 5 → ¬ f (t + 1) = 0) → IsMod G b (setF S 17 f) h1 → FrM b h h1 → (∀ (t2 p2 : Int32) (h2 : AH), t2 = nI (t + 1) → p2 = nI (p + 1) → IsMod G b (setF S 17 (upd f t (twoM (nI o) (f t) (f (t + 1))))) h2 → FrM b h h2 → X l G mX3_runs (rmK d 0 0) (TGm G (fun v h' z' => Q v h' ∧ z' = z) 0 0) 0 0 5 [(0, .ref b), (1, .int u), (2, .int (nI e)), (3, .int t2), (4, .int p2)] [] h2 z) → X l G mX3_runs (rmK d 0 0) (TGm G (fun v h' z' => Q v h' ∧ z' = z) 0 0) 0 0 5 [(0, .ref b), (1, .int u), (2, .int (nI e)), (3, .int tt), (4, .int pp)] [] h1 z := by
      intro p t tt pp f h1 o ht hpp hlt ht4 ho ho2 ho5 hm hf kk
      subst ht
      subst hpp
      refine X.w wkX3_runs (fcons (ceV k_twoOf mmR3 ckX3_246 rfl mrR3 (by omega) rfl) fnil) [5] 50 rfl ?_
      refine And.intro (fun b8 => ?_) (fun b8 => ?_)
      · simp only [cP, cN, bI_0, Bool.not_eq_false, lt_nle, Decidable.not_not] at b8
        exact absurd ((nI_leI (by omega) (by omega)).mp b8) (by omega)
      · simp only [cP, cN, bI_0, Bool.not_eq_false, lt_nle, Decidable.not_not] at b8
        refine gF (by first | assumption | exact hm.obj | exact hm.arr _ rfl) ?_
        refine gA (by first | assumption | exact hm.obj | exact hm.arr _ rfl) (ixN (by omega) (by decide)) ?_
        refine And.intro (fun b18 => ?_) (fun b18 => ?_)
        · simp only [cP, cN, bI_0, Bool.not_eq_false, lt_nle, Decidable.not_not] at b18
          exact absurd (ho.symm.trans b18) (by rcases ho2 with rfl | rfl | rfl | rfl | rfl | rfl | rfl | rfl | rfl <;> decide)
        · simp only [cP, cN, bI_0, Bool.not_eq_false, lt_nle, Decidable.not_not] at b18
          refine gF (by first | assumption | exact hm.obj | exact hm.arr _ rfl) ?_
          refine gA (by first | assumption | exact hm.obj | exact hm.arr _ rfl) (ixN (by omega) (by decide)) ?_
          refine And.intro (fun b29 => ?_) (fun b29 => ?_)
          · simp only [cP, cN, bI_0, Bool.not_eq_false, lt_nle, Decidable.not_not] at b29
            refine gF (by first | assumption | exact hm.obj | exact hm.arr _ rfl) ?_
            refine gA (by first | assumption | exact hm.obj | exact hm.arr _ rfl) (ixN (by omega) (by decide)) ?_
            refine And.intro (fun b86 => ?_) (fun b86 => ?_)
            · simp only [cP, cN, bI_0, Bool.not_eq_false, lt_nle, Decidable.not_not] at b86
              refine gF (by first | assumption | exact hm.obj | exact hm.arr _ rfl) ?_
              refine gF (by first | assumption | exact hm.obj | exact hm.arr _ rfl) ?_
              refine gA (by first | assumption | exact hm.obj | exact hm.arr _ rfl) (ixN (by omega) (by decide)) ?_
              refine gF (by first | assumption | exact hm.obj | exact hm.arr _ rfl) ?_
              refine gA (by first | assumption | exact hm.obj | exact hm.arr _ rfl) (ixE (by rw [nI_pred, nI_pred]) (by omega) (by decide)) ?_
              refine gF (by first | assumption | exact hm.obj | exact hm.arr _ rfl) ?_
              refine gA (by first | assumption | exact hm.obj | exact hm.arr _ rfl) (ixE (nI_pred (t + 1)) (by omega) (by decide)) ?_
              refine Exists.intro _ (Exists.intro () (And.intro hm (And.intro (fun q => ho5 (by rw [show setF S 17 f 13 p = S 13 p from rfl, ho] at q; rcases ho2 with rfl | rfl | rfl | rfl | rfl | rfl | rfl | rfl | rfl <;> first | rfl | exact absurd q (by decide))) ?_)))
              intro v143 e143
              (try dsimp only at e143)
              replace e143 : v143 = twoM (S 13 p) (f t) (f (t + 1)) := e143
              rw [ho] at e143
              subst e143
              refine sA (by first | assumption | exact hm.obj | exact hm.arr _ rfl) (ixE (by rw [nI_pred, nI_pred]) (by omega) (by decide)) (by first | exact hm.N | exact hm.No _) ?_
              intro h146 e146
              have hm := hm.uA e146 rfl; have hf := hf.uA e146 (by decide)
              rw [up2_set] at hm
              exact kk _ _ _ (nI_pred (t + 1)) (nI_1 p) hm hf
            · simp only [cP, cN, bI_0, Bool.not_eq_false, lt_nle, Decidable.not_not] at b86
              exact absurd (ho.symm.trans b86) (by rcases ho2 with rfl | rfl | rfl | rfl | rfl | rfl | rfl | rfl | rfl <;> decide)
          · simp only [cP, cN, bI_0, Bool.not_eq_false, lt_nle, Decidable.not_not] at b29
            exact absurd (ho.symm.trans b29) (by rcases ho2 with rfl | rfl | rfl | rfl | rfl | rfl | rfl | rfl | rfl <;> decide)
    have segA : ∀ (n : Nat) (c : Code9), Ar9 n c → ∀ (p t : Nat) (tt pp : Int32) (f : Nat → Int32) (h1 : AH), tt = nI t → pp = nI p → p + c.length ≤ e → t + c.length + 1 ≤ 420 → CodeAt S p c → IsMod G b (setF S 17 f) h1 → FrM b h h1 → (∀ (t2 p2 : Int32) (f2 : Nat → Int32) (h2 : AH), t2 = nI (t + 1) → p2 = nI (p + c.length) → (∀ j, j < t → f2 j = f j) → f2 t = evC (S 16) c → IsMod G b (setF S 17 f2) h2 → FrM b h h2 → X l G mX3_runs (rmK d 0 0) (TGm G (fun v h' z' => Q v h' ∧ z' = z) 0 0) 0 0 5 [(0, .ref b), (1, .int u), (2, .int (nI e)), (3, .int t2), (4, .int p2)] [] h2 z) → X l G mX3_runs (rmK d 0 0) (TGm G (fun v h' z' => Q v h' ∧ z' = z) 0 0) 0 0 5 [(0, .ref b), (1, .int u), (2, .int (nI e)), (3, .int tt), (4, .int pp)] [] h1 z := by
      intro n
      induction n with
      | zero => intro c w; exact w.elim
      | succ n ih =>
      intro c w p t tt pp f h1 htt hpp hle ht4 hcode hm hf kk
      rcases w with ⟨v, rfl⟩ | ⟨k, hk, rfl⟩ | ⟨o, c1, c2, ho, h5, h3, h4, rfl⟩
      · refine iN p t tt pp f h1 v htt hpp (by have h9 := hle; simp at h9; omega) (by simp at ht4; omega) hcode.hd.1 hcode.hd.2 hm hf ?_
        intro t2 p2 h2 ht2 hp2 hm hf
        exact kk t2 p2 _ h2 ht2 hp2 (fun j hj => pk_un (by omega)) (by rw [pk_us]; rfl) hm hf
      · refine iF p t tt pp f h1 k htt hpp (by have h9 := hle; simp at h9; omega) (by simp at ht4; omega) hcode.hd.1 hcode.hd.2 hk hm hf ?_
        intro t2 p2 h2 ht2 hp2 hm hf
        exact kk t2 p2 _ h2 ht2 hp2 (fun j hj => pk_un (by omega)) (by rw [pk_us]; show _ = S 16 (nI k).toNatClampNeg; rw [nI_clamp (by omega)]) hm hf
      · have l1 := ar_len h3
        have l2 := ar_len h4
        have q1 : (c1 ++ c2 ++ [(o, (0 : Int32))]).length = c1.length + c2.length + 1 := by rw [List.length_append, List.length_append]; rfl
        rw [q1] at hle ht4 kk
        refine ih c1 h3 p t tt pp f h1 htt hpp (by omega) (by omega) hcode.l.l hm hf ?_
        intro t2 p2 f2 h2 ht2 hp2 hf2 hv2 hm hf
        refine ih c2 h4 (p + c1.length) (t + 1) t2 p2 f2 h2 ht2 hp2 (by omega) (by omega) hcode.l.r hm hf ?_
        intro t3 p3 f3 h3' ht3 hp3 hf3 hv3 hm hf
        have hop := hcode.r.hd
        rw [show (c1 ++ c2).length = c1.length + c2.length from by simp, show p + (c1.length + c2.length) = p + c1.length + c2.length from by omega] at hop
        have hw1 : f3 t = evC (S 16) c1 := by rw [hf3 t (by omega)]; exact hv2
        refine iB (p + c1.length + c2.length) t t3 p3 f3 h3' o ht3 hp3 (by omega) (by omega) hop.1 (by unfold op2; omega) (fun q => by obtain ⟨v, rfl, hv⟩ := h5 q; rw [hv3]; exact hv) hm hf ?_
        intro t4 p4 h4' ht4' hp4 hm hf
        refine kk t4 p4 _ h4' ht4' (by rw [hp4]; congr 1 <;> omega) ?_ ?_ hm hf
        · intro j hj
          rw [pk_un (by omega), hf3 j (by omega), hf2 j hj]
        · rw [pk_us, hw1, hv3, twoM_ar (by omega)]
          exact ((one_two (by unfold op2; omega) (ar_one h3) (ar_one h4)).1).symm
    have segC : ∀ (n : Nat) (c : Code9), Cd9 n c → ∀ (p t : Nat) (tt pp : Int32) (f : Nat → Int32) (h1 : AH), tt = nI t → pp = nI p → p + c.length ≤ e → t + c.length + 1 ≤ 420 → CodeAt S p c → IsMod G b (setF S 17 f) h1 → FrM b h h1 → (∀ (t2 p2 : Int32) (f2 : Nat → Int32) (h2 : AH), t2 = nI (t + 1) → p2 = nI (p + c.length) → (∀ j, j < t → f2 j = f j) → f2 t = evC (S 16) c → IsMod G b (setF S 17 f2) h2 → FrM b h h2 → X l G mX3_runs (rmK d 0 0) (TGm G (fun v h' z' => Q v h' ∧ z' = z) 0 0) 0 0 5 [(0, .ref b), (1, .int u), (2, .int (nI e)), (3, .int t2), (4, .int p2)] [] h2 z) → X l G mX3_runs (rmK d 0 0) (TGm G (fun v h' z' => Q v h' ∧ z' = z) 0 0) 0 0 5 [(0, .ref b), (1, .int u), (2, .int (nI e)), (3, .int tt), (4, .int pp)] [] h1 z := by
      intro n
      induction n with
      | zero => intro c w; exact w.elim
      | succ n ih =>
      intro c w p t tt pp f h1 htt hpp hle ht4 hcode hm hf kk
      rcases w with ⟨c1, h3, rfl⟩ | ⟨o, c1, c2, ho, h3, h4, rfl⟩ | ⟨o, c1, c2, ho, h3, h4, rfl⟩
      · have l1 := cd_len h3
        have q1 : (c1 ++ [(9, (0 : Int32))]).length = c1.length + 1 := by simp
        rw [q1] at hle ht4 kk
        refine ih c1 h3 p t tt pp f h1 htt hpp (by omega) (by omega) hcode.l hm hf ?_
        intro t2 p2 f2 h2 ht2 hp2 hf2 hv2 hm hf
        refine iT (p + c1.length) t t2 p2 f2 h2 ht2 hp2 (by omega) (by omega) hcode.r.hd.1 hm hf ?_
        intro t4 p4 h4' ht4' hp4 hm hf
        refine kk t4 p4 _ h4' ht4' (by rw [hp4]; congr 1 <;> omega) ?_ ?_ hm hf
        · intro j hj
          rw [pk_un (by omega), hf2 j hj]
        · rw [pk_us, hv2]
          exact ((one_not (cd_one h3).1).1).symm
      · have l1 := ar_len h3
        have l2 := ar_len h4
        have q1 : (c1 ++ c2 ++ [(o, (0 : Int32))]).length = c1.length + c2.length + 1 := by rw [List.length_append, List.length_append]; rfl
        rw [q1] at hle ht4 kk
        refine segA n c1 h3 p t tt pp f h1 htt hpp (by omega) (by omega) hcode.l.l hm hf ?_
        intro t2 p2 f2 h2 ht2 hp2 hf2 hv2 hm hf
        refine segA n c2 h4 (p + c1.length) (t + 1) t2 p2 f2 h2 ht2 hp2 (by omega) (by omega) hcode.l.r hm hf ?_
        intro t3 p3 f3 h3' ht3 hp3 hf3 hv3 hm hf
        have hop := hcode.r.hd
        rw [show (c1 ++ c2).length = c1.length + c2.length from by simp, show p + (c1.length + c2.length) = p + c1.length + c2.length from by omega] at hop
        have hw1 : f3 t = evC (S 16) c1 := by rw [hf3 t (by omega)]; exact hv2
        refine iB (p + c1.length + c2.length) t t3 p3 f3 h3' o ht3 hp3 (by omega) (by omega) hop.1 (by unfold op2; omega) (fun q => by omega) hm hf ?_
        intro t4 p4 h4' ht4' hp4 hm hf
        refine kk t4 p4 _ h4' ht4' (by rw [hp4]; congr 1 <;> omega) ?_ ?_ hm hf
        · intro j hj
          rw [pk_un (by omega), hf3 j (by omega), hf2 j hj]
        · rw [pk_us, hw1, hv3, twoM_ar (by omega)]
          exact ((one_two (by unfold op2; omega) (ar_one h3) (ar_one h4)).1).symm
      · have l1 := cd_len h3
        have l2 := cd_len h4
        have q1 : (c1 ++ c2 ++ [(o, (0 : Int32))]).length = c1.length + c2.length + 1 := by rw [List.length_append, List.length_append]; rfl
        rw [q1] at hle ht4 kk
        refine ih c1 h3 p t tt pp f h1 htt hpp (by omega) (by omega) hcode.l.l hm hf ?_
        intro t2 p2 f2 h2 ht2 hp2 hf2 hv2 hm hf
        refine ih c2 h4 (p + c1.length) (t + 1) t2 p2 f2 h2 ht2 hp2 (by omega) (by omega) hcode.l.r hm hf ?_
        intro t3 p3 f3 h3' ht3 hp3 hf3 hv3 hm hf
        have hop := hcode.r.hd
        rw [show (c1 ++ c2).length = c1.length + c2.length from by simp, show p + (c1.length + c2.length) = p + c1.length + c2.length from by omega] at hop
        have hw1 : f3 t = evC (S 16) c1 := by rw [hf3 t (by omega)]; exact hv2
        refine iB (p + c1.length + c2.length) t t3 p3 f3 h3' o ht3 hp3 (by omega) (by omega) hop.1 (by unfold op2; omega) (fun q => by omega) hm hf ?_
        intro t4 p4 h4' ht4' hp4 hm hf
        refine kk t4 p4 _ h4' ht4' (by rw [hp4]; congr 1 <;> omega) ?_ ?_ hm hf
        · intro j hj
          rw [pk_un (by omega), hf3 j (by omega), hf2 j hj]
        · rw [pk_us, hw1, hv3, twoM_cd ho (cd_one h3).2 (cd_one h4).2]
          exact ((one_two (by unfold op2; omega) (cd_one h3).1 (cd_one h4).1).1).symm
    have fin : ∀ (t2 p2 : Int32) (f2 : Nat → Int32) (h2 : AH), t2 = nI (0 + 1) → p2 = nI (p0 + c0.length) → (∀ j, j < 0 → f2 j = S 17 j) → f2 0 = evC (S 16) c0 → IsMod G b (setF S 17 f2) h2 → FrM b h h2 → X l G mX3_runs (rmK d 0 0) (TGm G (fun v h' z' => Q v h' ∧ z' = z) 0 0) 0 0 5 [(0, .ref b), (1, .int u), (2, .int (nI e)), (3, .int t2), (4, .int p2)] [] h2 z := by
      intro t2 p2 f2 h2 ht2 hp2 hf2 hv2 hm hf
      subst hp2
      refine X.w wkX3_runs (fcons (ceV k_twoOf mmR3 ckX3_246 rfl mrR3 (by omega) rfl) fnil) [5] 9 rfl ?_
      refine And.intro (fun b8 => ?_) (fun b8 => ?_)
      · simp only [cP, cN, bI_0, Bool.not_eq_false, lt_nle, Decidable.not_not] at b8
        refine gF (by first | assumption | exact hm.obj | exact hm.arr _ rfl) ?_
        refine gA (by first | assumption | exact hm.obj | exact hm.arr _ rfl) (ixE (j := 0) rfl (by decide) (by decide)) ?_
        exact And.intro (hs _ _ _ ⟨hv2, f2, rfl⟩ hm hf) rfl
      · simp only [cP, cN, bI_0, Bool.not_eq_false, lt_nle, Decidable.not_not] at b8
        exact absurd (by rw [he]; exact Int32.le_refl _) b8
    have hm0 : IsMod G b (setF S 17 (S 17)) h := by rw [setF_self]; exact hm
    refine X.w wkX3_runs (fcons (ceV k_twoOf mmR3 ckX3_246 rfl mrR3 (by omega) rfl) fnil) [5] 6 rfl ?_
    rcases hwf with w | w
    · exact segA DEP c0 w p0 0 _ _ _ _ rfl hu (by omega) (by omega) hcode hm0 hf fin
    · exact segC DEP c0 w p0 0 _ _ _ _ rfl hu (by omega) (by omega) hcode hm0 hf fin
