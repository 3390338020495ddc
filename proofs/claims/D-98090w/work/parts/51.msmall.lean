set_option maxRecDepth 100000
/-! the model's small methods -/
theorem neg0 (x : Int32) : -x = 0 - x := by
  apply Int32.toBitVec_inj.mp
  simp
theorem ixz {c n : Nat} (h : c < n) (hn : n < 2147483648) : IX (0 + nI c) n c := ⟨by simp, h, hn⟩
theorem ixa {x : Int32} {a c n : Nat} (hx : x = nI a) (h : a + c < n) (hn : n < 2147483648) : IX (x + nI c) n (a + c) := ⟨by rw [hx]; exact nI_add a c, h, hn⟩
theorem ixa3 {x y : Int32} {a c e n : Nat} (hx : x = nI a) (hy : y = nI c) (h : a + c + e < n) (hn : n < 2147483648) : IX (x + y + nI e) n (a + c + e) := ⟨by rw [hx, hy, nI_add]; exact nI_add _ e, h, hn⟩
theorem k_isIn : CtS mX3_isIn 1 (mR3 (fun (a : Unit) v lo hi S => True) (fun (a : Unit) v lo hi S => bI (isInB v lo hi))) := by
  intro l G d hd as h z Q hs
  match as, hs with
  | [.ref b, .int v, .int lo, .int hi], hs =>
    obtain ⟨S, a, hm, hp, hs⟩ := hs
    replace hp : True := hp
    replace hs : ∀ r9, r9 = bI (isInB v lo hi) → Q (some (.int r9)) h := hs
    have hf : FrM b h h := FrM.rf
    refine Ct.of rfl (Nat.le_of_ble_eq_true rfl) rfl ?_
    refine X.w wkX3_isIn fnil [] 10 rfl ?_
    refine And.intro (fun b2 => ?_) (fun b2 => ?_)
    · simp only [cP, cN, bI_0, Bool.not_eq_false, lt_nle, Decidable.not_not] at b2
      refine And.intro (by first | exact Or.inl rfl | exact Or.inr rfl | exact bI_01 _) ?_
      exact And.intro (hs _ (by rw [show (isInB v lo hi) = false from by simp only [isInB, lt_nle, b2, decide_true, decide_false, Bool.and_true, Bool.true_and, Bool.and_false, Bool.false_and, Bool.or_true, Bool.true_or, Bool.or_false, Bool.false_or, not_true_eq_false, not_false_eq_true, Bool.not_true, Bool.not_false, decide_not, if_true, if_false, and_true, true_and, and_false, false_and, or_true, true_or, or_false, false_or, Bool.false_eq_true]]; rfl)) rfl
    · simp only [cP, cN, bI_0, Bool.not_eq_false, lt_nle, Decidable.not_not] at b2
      refine And.intro (fun b7 => ?_) (fun b7 => ?_)
      · simp only [cP, cN, bI_0, Bool.not_eq_false, lt_nle, Decidable.not_not] at b7
        refine And.intro (by first | exact Or.inl rfl | exact Or.inr rfl | exact bI_01 _) ?_
        exact And.intro (hs _ (by rw [show (isInB v lo hi) = false from by simp only [isInB, lt_nle, b2, b7, decide_true, decide_false, Bool.and_true, Bool.true_and, Bool.and_false, Bool.false_and, Bool.or_true, Bool.true_or, Bool.or_false, Bool.false_or, not_true_eq_false, not_false_eq_true, Bool.not_true, Bool.not_false, decide_not, if_true, if_false, and_true, true_and, and_false, false_and, or_true, true_or, or_false, false_or, Bool.false_eq_true]]; rfl)) rfl
      · simp only [cP, cN, bI_0, Bool.not_eq_false, lt_nle, Decidable.not_not] at b7
        refine And.intro (by first | exact Or.inl rfl | exact Or.inr rfl | exact bI_01 _) ?_
        exact And.intro (hs _ (by rw [show (isInB v lo hi) = true from by simp only [isInB, lt_nle, b2, b7, decide_true, decide_false, Bool.and_true, Bool.true_and, Bool.and_false, Bool.false_and, Bool.or_true, Bool.true_or, Bool.or_false, Bool.false_or, not_true_eq_false, not_false_eq_true, Bool.not_true, Bool.not_false, decide_not, if_true, if_false, and_true, true_and, and_false, false_and, or_true, true_or, or_false, false_or, Bool.false_eq_true]]; rfl)) rfl
theorem k_without : CtS mX3_without 1 (mR1 (fun (a : Unit) u S => True) (fun (a : Unit) u S => absI u)) := by
  intro l G d hd as h z Q hs
  match as, hs with
  | [.ref b, .int u], hs =>
    obtain ⟨S, a, hm, hp, hs⟩ := hs
    replace hp : True := hp
    replace hs : ∀ r9, r9 = absI u → Q (some (.int r9)) h := hs
    have hf : FrM b h h := FrM.rf
    refine Ct.of rfl (Nat.le_of_ble_eq_true rfl) rfl ?_
    refine X.w wkX3_without fnil [] 7 rfl ?_
    refine And.intro (fun b1 => ?_) (fun b1 => ?_)
    · simp only [cP, cN, bI_0, Bool.not_eq_false, lt_nle, Decidable.not_not] at b1
      exact And.intro (hs _ (by unfold absI; rw [if_pos b1])) rfl
    · simp only [cP, cN, bI_0, Bool.not_eq_false, lt_nle, Decidable.not_not] at b1
      exact And.intro (hs _ (by unfold absI; rw [if_neg b1]; exact neg0 u)) rfl
def isCellM (S : SS) (c : Int32) : Bool := decide (0 ≤ c) && (decide (c - c / 8 * 8 < S 0 5) && decide (c / 8 < S 0 6))
theorem k_isCell : CtS mX3_isCell 1 (mR1 (fun (a : Unit) c S => True) (fun (a : Unit) c S => bI (isCellM S c))) := by
  intro l G d hd as h z Q hs
  match as, hs with
  | [.ref b, .int c], hs =>
    obtain ⟨S, a, hm, hp, hs⟩ := hs
    replace hp : True := hp
    replace hs : ∀ r9, r9 = bI (isCellM S c) → Q (some (.int r9)) h := hs
    have hf : FrM b h h := FrM.rf
    refine Ct.of rfl (Nat.le_of_ble_eq_true rfl) rfl ?_
    refine X.w wkX3_isCell fnil [] 18 rfl ?_
    refine And.intro (fun b1 => ?_) (fun b1 => ?_)
    · simp only [cP, cN, bI_0, Bool.not_eq_false, lt_nle, Decidable.not_not] at b1
      refine And.intro (by first | exact Or.inl rfl | exact Or.inr rfl | exact bI_01 _) ?_
      exact And.intro (hs _ (by rw [show (isCellM S c) = false from by simp only [isCellM, lt_nle, b1, decide_true, decide_false, Bool.and_true, Bool.true_and, Bool.and_false, Bool.false_and, Bool.or_true, Bool.true_or, Bool.or_false, Bool.false_or, not_true_eq_false, not_false_eq_true, Bool.not_true, Bool.not_false, decide_not, if_true, if_false, and_true, true_and, and_false, false_and, or_true, true_or, or_false, false_or, Bool.false_eq_true]]; rfl)) rfl
    · simp only [cP, cN, bI_0, Bool.not_eq_false, lt_nle, Decidable.not_not] at b1
      refine And.intro (by decide) ?_
      refine gF (by first | assumption | exact hm.obj | exact hm.arr _ rfl) ?_
      refine And.intro (fun b12 => ?_) (fun b12 => ?_)
      · simp only [cP, cN, bI_0, Bool.not_eq_false, lt_nle, Decidable.not_not] at b12
        refine And.intro (by first | exact Or.inl rfl | exact Or.inr rfl | exact bI_01 _) ?_
        exact And.intro (hs _ (by rw [show (isCellM S c) = false from by simp only [isCellM, lt_nle, b1, b12, decide_true, decide_false, Bool.and_true, Bool.true_and, Bool.and_false, Bool.false_and, Bool.or_true, Bool.true_or, Bool.or_false, Bool.false_or, not_true_eq_false, not_false_eq_true, Bool.not_true, Bool.not_false, decide_not, if_true, if_false, and_true, true_and, and_false, false_and, or_true, true_or, or_false, false_or, Bool.false_eq_true]]; rfl)) rfl
      · simp only [cP, cN, bI_0, Bool.not_eq_false, lt_nle, Decidable.not_not] at b12
        refine And.intro (by decide) ?_
        refine gF (by first | assumption | exact hm.obj | exact hm.arr _ rfl) ?_
        refine And.intro (fun b23 => ?_) (fun b23 => ?_)
        · simp only [cP, cN, bI_0, Bool.not_eq_false, lt_nle, Decidable.not_not] at b23
          refine And.intro (by first | exact Or.inl rfl | exact Or.inr rfl | exact bI_01 _) ?_
          exact And.intro (hs _ (by rw [show (isCellM S c) = false from by simp only [isCellM, lt_nle, b1, b12, b23, decide_true, decide_false, Bool.and_true, Bool.true_and, Bool.and_false, Bool.false_and, Bool.or_true, Bool.true_or, Bool.or_false, Bool.false_or, not_true_eq_false, not_false_eq_true, Bool.not_true, Bool.not_false, decide_not, if_true, if_false, and_true, true_and, and_false, false_and, or_true, true_or, or_false, false_or, Bool.false_eq_true]]; rfl)) rfl
        · simp only [cP, cN, bI_0, Bool.not_eq_false, lt_nle, Decidable.not_not] at b23
          refine And.intro (by first | exact Or.inl rfl | exact Or.inr rfl | exact bI_01 _) ?_
          exact And.intro (hs _ (by rw [show (isCellM S c) = true from by simp only [isCellM, lt_nle, b1, b12, b23, decide_true, decide_false, Bool.and_true, Bool.true_and, Bool.and_false, Bool.false_and, Bool.or_true, Bool.true_or, Bool.or_false, Bool.false_or, not_true_eq_false, not_false_eq_true, Bool.not_true, Bool.not_false, decide_not, if_true, if_false, and_true, true_and, and_false, false_and, or_true, true_or, or_false, false_or, Bool.false_eq_true]]; rfl)) rfl
def wnB (S : SS) (w : Int32) : Bool := decide (0 ≤ w) && decide (w < S 0 8)
theorem k_isWordNumber : CtS mX3_isWordNumber 1 (mR1 (fun (a : Unit) w S => True) (fun (a : Unit) w S => bI (wnB S w))) := by
  intro l G d hd as h z Q hs
  match as, hs with
  | [.ref b, .int w], hs =>
    obtain ⟨S, a, hm, hp, hs⟩ := hs
    replace hp : True := hp
    replace hs : ∀ r9, r9 = bI (wnB S w) → Q (some (.int r9)) h := hs
    have hf : FrM b h h := FrM.rf
    refine Ct.of rfl (Nat.le_of_ble_eq_true rfl) rfl ?_
    refine X.w wkX3_isWordNumber fnil [] 10 rfl ?_
    refine And.intro (fun b1 => ?_) (fun b1 => ?_)
    · simp only [cP, cN, bI_0, Bool.not_eq_false, lt_nle, Decidable.not_not] at b1
      refine And.intro (by first | exact Or.inl rfl | exact Or.inr rfl | exact bI_01 _) ?_
      exact And.intro (hs _ (by rw [show (wnB S w) = false from by simp only [wnB, lt_nle, b1, decide_true, decide_false, Bool.and_true, Bool.true_and, Bool.and_false, Bool.false_and, Bool.or_true, Bool.true_or, Bool.or_false, Bool.false_or, not_true_eq_false, not_false_eq_true, Bool.not_true, Bool.not_false, decide_not, if_true, if_false, and_true, true_and, and_false, false_and, or_true, true_or, or_false, false_or, Bool.false_eq_true]]; rfl)) rfl
    · simp only [cP, cN, bI_0, Bool.not_eq_false, lt_nle, Decidable.not_not] at b1
      refine gF (by first | assumption | exact hm.obj | exact hm.arr _ rfl) ?_
      refine And.intro (fun b9 => ?_) (fun b9 => ?_)
      · simp only [cP, cN, bI_0, Bool.not_eq_false, lt_nle, Decidable.not_not] at b9
        refine And.intro (by first | exact Or.inl rfl | exact Or.inr rfl | exact bI_01 _) ?_
        exact And.intro (hs _ (by rw [show (wnB S w) = false from by simp only [wnB, lt_nle, b1, b9, decide_true, decide_false, Bool.and_true, Bool.true_and, Bool.and_false, Bool.false_and, Bool.or_true, Bool.true_or, Bool.or_false, Bool.false_or, not_true_eq_false, not_false_eq_true, Bool.not_true, Bool.not_false, decide_not, if_true, if_false, and_true, true_and, and_false, false_and, or_true, true_or, or_false, false_or, Bool.false_eq_true]]; rfl)) rfl
      · simp only [cP, cN, bI_0, Bool.not_eq_false, lt_nle, Decidable.not_not] at b9
        refine And.intro (by first | exact Or.inl rfl | exact Or.inr rfl | exact bI_01 _) ?_
        exact And.intro (hs _ (by rw [show (wnB S w) = true from by simp only [wnB, lt_nle, b1, b9, decide_true, decide_false, Bool.and_true, Bool.true_and, Bool.and_false, Bool.false_and, Bool.or_true, Bool.true_or, Bool.or_false, Bool.false_or, not_true_eq_false, not_false_eq_true, Bool.not_true, Bool.not_false, decide_not, if_true, if_false, and_true, true_and, and_false, false_and, or_true, true_or, or_false, false_or, Bool.false_eq_true]]; rfl)) rfl
def psB (S : SS) (q : Int32) : Bool := decide (0 ≤ q) && decide (q < S 0 12)
theorem k_isPerson : CtS mX3_isPerson 1 (mR1 (fun (a : Unit) q S => True) (fun (a : Unit) q S => bI (psB S q))) := by
  intro l G d hd as h z Q hs
  match as, hs with
  | [.ref b, .int q], hs =>
    obtain ⟨S, a, hm, hp, hs⟩ := hs
    replace hp : True := hp
    replace hs : ∀ r9, r9 = bI (psB S q) → Q (some (.int r9)) h := hs
    have hf : FrM b h h := FrM.rf
    refine Ct.of rfl (Nat.le_of_ble_eq_true rfl) rfl ?_
    refine X.w wkX3_isPerson fnil [] 10 rfl ?_
    refine And.intro (fun b1 => ?_) (fun b1 => ?_)
    · simp only [cP, cN, bI_0, Bool.not_eq_false, lt_nle, Decidable.not_not] at b1
      refine And.intro (by first | exact Or.inl rfl | exact Or.inr rfl | exact bI_01 _) ?_
      exact And.intro (hs _ (by rw [show (psB S q) = false from by simp only [psB, lt_nle, b1, decide_true, decide_false, Bool.and_true, Bool.true_and, Bool.and_false, Bool.false_and, Bool.or_true, Bool.true_or, Bool.or_false, Bool.false_or, not_true_eq_false, not_false_eq_true, Bool.not_true, Bool.not_false, decide_not, if_true, if_false, and_true, true_and, and_false, false_and, or_true, true_or, or_false, false_or, Bool.false_eq_true]]; rfl)) rfl
    · simp only [cP, cN, bI_0, Bool.not_eq_false, lt_nle, Decidable.not_not] at b1
      refine gF (by first | assumption | exact hm.obj | exact hm.arr _ rfl) ?_
      refine And.intro (fun b9 => ?_) (fun b9 => ?_)
      · simp only [cP, cN, bI_0, Bool.not_eq_false, lt_nle, Decidable.not_not] at b9
        refine And.intro (by first | exact Or.inl rfl | exact Or.inr rfl | exact bI_01 _) ?_
        exact And.intro (hs _ (by rw [show (psB S q) = false from by simp only [psB, lt_nle, b1, b9, decide_true, decide_false, Bool.and_true, Bool.true_and, Bool.and_false, Bool.false_and, Bool.or_true, Bool.true_or, Bool.or_false, Bool.false_or, not_true_eq_false, not_false_eq_true, Bool.not_true, Bool.not_false, decide_not, if_true, if_false, and_true, true_and, and_false, false_and, or_true, true_or, or_false, false_or, Bool.false_eq_true]]; rfl)) rfl
      · simp only [cP, cN, bI_0, Bool.not_eq_false, lt_nle, Decidable.not_not] at b9
        refine And.intro (by first | exact Or.inl rfl | exact Or.inr rfl | exact bI_01 _) ?_
        exact And.intro (hs _ (by rw [show (psB S q) = true from by simp only [psB, lt_nle, b1, b9, decide_true, decide_false, Bool.and_true, Bool.true_and, Bool.and_false, Bool.false_and, Bool.or_true, Bool.true_or, Bool.or_false, Bool.false_or, not_true_eq_false, not_false_eq_true, Bool.not_true, Bool.not_false, decide_not, if_true, if_false, and_true, true_and, and_false, false_and, or_true, true_or, or_false, false_or, Bool.false_eq_true]]; rfl)) rfl
theorem k_farOf : CtS mX3_farOf 2 (mR2 (fun (a : Unit) p q S => True) (fun (a : Unit) p q S => farI p q)) := by
  intro l G d hd as h z Q hs
  match as, hs with
  | [.ref b, .int p, .int q], hs =>
    obtain ⟨S, a, hm, hp, hs⟩ := hs
    replace hp : True := hp
    replace hs : ∀ r9, r9 = farI p q → Q (some (.int r9)) h := hs
    have hf : FrM b h h := FrM.rf
    refine Ct.of rfl (Nat.le_of_ble_eq_true rfl) rfl ?_
    refine X.w wkX3_farOf (fcons (ceV k_without mmR1 ckX3_103 rfl mrR1 (by omega) rfl) fnil) [] 21 rfl ?_
    refine And.intro (by decide) ?_
    refine And.intro (by decide) ?_
    refine Exists.intro _ (Exists.intro () (And.intro hm (And.intro trivial ?_)))
    intro v10 e10
    subst e10
    refine And.intro (by decide) ?_
    refine And.intro (by decide) ?_
    refine Exists.intro _ (Exists.intro () (And.intro hm (And.intro trivial ?_)))
    intro v23 e23
    subst e23
    exact And.intro (hs _ (rfl)) rfl
theorem k_draw : CtS mX3_draw 1 (mW1 (fun (a : Unit) m S => ¬ m = 0) (fun (a : Unit) m S v S' => v = drawR (S 0 4) m ∧ S' = up2 S 0 4 (drawS (S 0 4)))) := by
  intro l G d hd as h z Q hs
  match as, hs with
  | [.ref b, .int m], hs =>
    obtain ⟨S, a, hm, hp, hs⟩ := hs
    replace hp : ¬ m = 0 := hp
    replace hs : ∀ v S' h', (v = drawR (S 0 4) m ∧ S' = up2 S 0 4 (drawS (S 0 4))) → IsMod G b S' h' → FrM b h h' → Q (some (.int v)) h' := hs
    have hf : FrM b h h := FrM.rf
    refine Ct.of rfl (Nat.le_of_ble_eq_true rfl) rfl ?_
    refine X.w wkX3_draw fnil [] 16 rfl ?_
    refine gF (by first | assumption | exact hm.obj | exact hm.arr _ rfl) ?_
    refine pF0 (okV_W rfl) (by first | assumption | exact hm.obj | exact hm.arr _ rfl) (Nat.le_of_ble_eq_true rfl) (by first | exact hm.N | exact hm.No _) ?_
    intro h11 e11
    have hm := hm.u0 e11 rfl; have hf := hf.u0 e11
    refine gF (by first | assumption | exact hm.obj | exact hm.arr _ rfl) ?_
    refine And.intro hp ?_
    exact And.intro (hs _ _ _ ⟨rfl, rfl⟩ hm hf) rfl
def rawM (S : SS) (k : Nat) : Int32 := if nI k < S 0 20 then S 8 k else -1
theorem k_raw : CtS mX3_raw 1 (mR1 (fun (a : Nat) u S => u = nI a ∧ (∃ n, S 0 20 = nI n ∧ n ≤ 400) ∧ a ≤ 400) (fun (a : Nat) u S => rawM S a)) := by
  intro l G d hd as h z Q hs
  match as, hs with
  | [.ref b, .int u], hs =>
    obtain ⟨S, a, hm, hp, hs⟩ := hs
    replace hp : u = nI a ∧ (∃ n, S 0 20 = nI n ∧ n ≤ 400) ∧ a ≤ 400 := hp
    replace hs : ∀ r9, r9 = rawM S a → Q (some (.int r9)) h := hs
    have hf : FrM b h h := FrM.rf
    refine Ct.of rfl (Nat.le_of_ble_eq_true rfl) rfl ?_
    obtain ⟨rfl, ⟨n, hn, hn4⟩, ha⟩ := hp
    refine X.w wkX3_raw fnil [] 11 rfl ?_
    refine gF (by first | assumption | exact hm.obj | exact hm.arr _ rfl) ?_
    refine And.intro (fun b5 => ?_) (fun b5 => ?_)
    · simp only [cP, cN, bI_0, Bool.not_eq_false, lt_nle, Decidable.not_not] at b5
      exact And.intro (hs _ (by unfold rawM; rw [if_neg (by rw [lt_nle, Decidable.not_not]; exact b5)])) rfl
    · simp only [cP, cN, bI_0, Bool.not_eq_false, lt_nle, Decidable.not_not] at b5
      refine gF (by first | assumption | exact hm.obj | exact hm.arr _ rfl) ?_
      refine gA (by first | assumption | exact hm.obj | exact hm.arr _ rfl) (by have h8 : a < n := nle64 (k := n) (by rw [← hn]; exact b5) (by omega) (by omega); exact ixN (by omega) (by decide)) ?_
      exact And.intro (hs _ (by unfold rawM; rw [if_pos (lt_nle.mpr b5)])) rfl
def letB (c : Int32) : Bool := isInB c 97 122 || isInB c 65 90
theorem k_isLetter : CtS mX3_isLetter 2 (mR1 (fun (a : Unit) c S => True) (fun (a : Unit) c S => bI (letB c))) := by
  intro l G d hd as h z Q hs
  match as, hs with
  | [.ref b, .int c], hs =>
    obtain ⟨S, a, hm, hp, hs⟩ := hs
    replace hp : True := hp
    replace hs : ∀ r9, r9 = bI (letB c) → Q (some (.int r9)) h := hs
    have hf : FrM b h h := FrM.rf
    refine Ct.of rfl (Nat.le_of_ble_eq_true rfl) rfl ?_
    refine X.w wkX3_isLetter (fcons (ceV k_isIn mmR3 ckX3_107 rfl mrR3 (by omega) rfl) fnil) [] 16 rfl ?_
    refine Exists.intro _ (Exists.intro () (And.intro hm (And.intro trivial ?_)))
    intro v6 e6
    subst e6
    refine And.intro (fun b9 => ?_) (fun b9 => ?_)
    · simp only [cP, cN, bI_0, Bool.not_eq_false, lt_nle, Decidable.not_not] at b9
      refine And.intro (by first | exact Or.inl rfl | exact Or.inr rfl | exact bI_01 _) ?_
      exact And.intro (hs _ (by rw [show (letB c) = true from by simp only [letB, lt_nle, b9, decide_true, decide_false, Bool.and_true, Bool.true_and, Bool.and_false, Bool.false_and, Bool.or_true, Bool.true_or, Bool.or_false, Bool.false_or, not_true_eq_false, not_false_eq_true, Bool.not_true, Bool.not_false, decide_not, if_true, if_false, and_true, true_and, and_false, false_and, or_true, true_or, or_false, false_or, Bool.false_eq_true]]; rfl)) rfl
    · simp only [cP, cN, bI_0, Bool.not_eq_false, lt_nle, Decidable.not_not] at b9
      refine Exists.intro _ (Exists.intro () (And.intro hm (And.intro trivial ?_)))
      intro v18 e18
      subst e18
      refine And.intro (fun b21 => ?_) (fun b21 => ?_)
      · simp only [cP, cN, bI_0, Bool.not_eq_false, lt_nle, Decidable.not_not] at b21
        refine And.intro (by first | exact Or.inl rfl | exact Or.inr rfl | exact bI_01 _) ?_
        exact And.intro (hs _ (by rw [show (letB c) = false from by simp only [letB, lt_nle, b9, b21, decide_true, decide_false, Bool.and_true, Bool.true_and, Bool.and_false, Bool.false_and, Bool.or_true, Bool.true_or, Bool.or_false, Bool.false_or, not_true_eq_false, not_false_eq_true, Bool.not_true, Bool.not_false, decide_not, if_true, if_false, and_true, true_and, and_false, false_and, or_true, true_or, or_false, false_or, Bool.false_eq_true]]; rfl)) rfl
      · simp only [cP, cN, bI_0, Bool.not_eq_false, lt_nle, Decidable.not_not] at b21
        refine And.intro (by first | exact Or.inl rfl | exact Or.inr rfl | exact bI_01 _) ?_
        exact And.intro (hs _ (by rw [show (letB c) = true from by simp only [letB, lt_nle, b9, b21, decide_true, decide_false, Bool.and_true, Bool.true_and, Bool.and_false, Bool.false_and, Bool.or_true, Bool.true_or, Bool.or_false, Bool.false_or, not_true_eq_false, not_false_eq_true, Bool.not_true, Bool.not_false, decide_not, if_true, if_false, and_true, true_and, and_false, false_and, or_true, true_or, or_false, false_or, Bool.false_eq_true]]; rfl)) rfl
def digB (c : Int32) : Bool := isInB c 48 57
theorem k_isDigit : CtS mX3_isDigit 2 (mR1 (fun (a : Unit) c S => True) (fun (a : Unit) c S => bI (digB c))) := by
  intro l G d hd as h z Q hs
  match as, hs with
  | [.ref b, .int c], hs =>
    obtain ⟨S, a, hm, hp, hs⟩ := hs
    replace hp : True := hp
    replace hs : ∀ r9, r9 = bI (digB c) → Q (some (.int r9)) h := hs
    have hf : FrM b h h := FrM.rf
    refine Ct.of rfl (Nat.le_of_ble_eq_true rfl) rfl ?_
    refine X.w wkX3_isDigit (fcons (ceV k_isIn mmR3 ckX3_107 rfl mrR3 (by omega) rfl) fnil) [] 7 rfl ?_
    refine Exists.intro _ (Exists.intro () (And.intro hm (And.intro trivial ?_)))
    intro v6 e6
    subst e6
    refine And.intro (by first | exact Or.inl rfl | exact Or.inr rfl | exact bI_01 _) ?_
    exact And.intro (hs _ rfl) rfl
def markB (c : Int32) : Bool := decide (c = 59) || (decide (c = 43) || (decide (c = 45) || (decide (c = 42) || (decide (c = 47) || (decide (c = 40) || (decide (c = 41) || (decide (c = 60) || (decide (c = 61) || decide (c = 62)))))))))
theorem k_isMarkSign : CtS mX3_isMarkSign 1 (mR1 (fun (a : Unit) c S => True) (fun (a : Unit) c S => bI (markB c))) := by
  intro l G d hd as h z Q hs
  match as, hs with
  | [.ref b, .int c], hs =>
    obtain ⟨S, a, hm, hp, hs⟩ := hs
    replace hp : True := hp
    replace hs : ∀ r9, r9 = bI (markB c) → Q (some (.int r9)) h := hs
    have hf : FrM b h h := FrM.rf
    refine Ct.of rfl (Nat.le_of_ble_eq_true rfl) rfl ?_
    refine X.w wkX3_isMarkSign fnil [] 34 rfl ?_
    refine And.intro (fun b3 => ?_) (fun b3 => ?_)
    · simp only [cP, cN, bI_0, Bool.not_eq_false, lt_nle, Decidable.not_not] at b3
      refine And.intro (by first | exact Or.inl rfl | exact Or.inr rfl | exact bI_01 _) ?_
      exact And.intro (hs _ (by rw [show (markB c) = true from by simp only [markB, lt_nle, b3, decide_true, decide_false, Bool.and_true, Bool.true_and, Bool.and_false, Bool.false_and, Bool.or_true, Bool.true_or, Bool.or_false, Bool.false_or, not_true_eq_false, not_false_eq_true, Bool.not_true, Bool.not_false, decide_not, if_true, if_false, and_true, true_and, and_false, false_and, or_true, true_or, or_false, false_or, Bool.false_eq_true]]; rfl)) rfl
    · simp only [cP, cN, bI_0, Bool.not_eq_false, lt_nle, Decidable.not_not] at b3
      refine And.intro (fun b9 => ?_) (fun b9 => ?_)
      · simp only [cP, cN, bI_0, Bool.not_eq_false, lt_nle, Decidable.not_not] at b9
        refine And.intro (by first | exact Or.inl rfl | exact Or.inr rfl | exact bI_01 _) ?_
        exact And.intro (hs _ (by rw [show (markB c) = true from by simp only [markB, lt_nle, b3, b9, decide_true, decide_false, Bool.and_true, Bool.true_and, Bool.and_false, Bool.false_and, Bool.or_true, Bool.true_or, Bool.or_false, Bool.false_or, not_true_eq_false, not_false_eq_true, Bool.not_true, Bool.not_false, decide_not, if_true, if_false, and_true, true_and, and_false, false_and, or_true, true_or, or_false, false_or, Bool.false_eq_true]]; rfl)) rfl
      · simp only [cP, cN, bI_0, Bool.not_eq_false, lt_nle, Decidable.not_not] at b9
        refine And.intro (fun b15 => ?_) (fun b15 => ?_)
        · simp only [cP, cN, bI_0, Bool.not_eq_false, lt_nle, Decidable.not_not] at b15
          refine And.intro (by first | exact Or.inl rfl | exact Or.inr rfl | exact bI_01 _) ?_
          exact And.intro (hs _ (by rw [show (markB c) = true from by simp only [markB, lt_nle, b3, b9, b15, decide_true, decide_false, Bool.and_true, Bool.true_and, Bool.and_false, Bool.false_and, Bool.or_true, Bool.true_or, Bool.or_false, Bool.false_or, not_true_eq_false, not_false_eq_true, Bool.not_true, Bool.not_false, decide_not, if_true, if_false, and_true, true_and, and_false, false_and, or_true, true_or, or_false, false_or, Bool.false_eq_true]]; rfl)) rfl
        · simp only [cP, cN, bI_0, Bool.not_eq_false, lt_nle, Decidable.not_not] at b15
          refine And.intro (fun b21 => ?_) (fun b21 => ?_)
          · simp only [cP, cN, bI_0, Bool.not_eq_false, lt_nle, Decidable.not_not] at b21
            refine And.intro (by first | exact Or.inl rfl | exact Or.inr rfl | exact bI_01 _) ?_
            exact And.intro (hs _ (by rw [show (markB c) = true from by simp only [markB, lt_nle, b3, b9, b15, b21, decide_true, decide_false, Bool.and_true, Bool.true_and, Bool.and_false, Bool.false_and, Bool.or_true, Bool.true_or, Bool.or_false, Bool.false_or, not_true_eq_false, not_false_eq_true, Bool.not_true, Bool.not_false, decide_not, if_true, if_false, and_true, true_and, and_false, false_and, or_true, true_or, or_false, false_or, Bool.false_eq_true]]; rfl)) rfl
          · simp only [cP, cN, bI_0, Bool.not_eq_false, lt_nle, Decidable.not_not] at b21
            refine And.intro (fun b27 => ?_) (fun b27 => ?_)
            · simp only [cP, cN, bI_0, Bool.not_eq_false, lt_nle, Decidable.not_not] at b27
              refine And.intro (by first | exact Or.inl rfl | exact Or.inr rfl | exact bI_01 _) ?_
              exact And.intro (hs _ (by rw [show (markB c) = true from by simp only [markB, lt_nle, b3, b9, b15, b21, b27, decide_true, decide_false, Bool.and_true, Bool.true_and, Bool.and_false, Bool.false_and, Bool.or_true, Bool.true_or, Bool.or_false, Bool.false_or, not_true_eq_false, not_false_eq_true, Bool.not_true, Bool.not_false, decide_not, if_true, if_false, and_true, true_and, and_false, false_and, or_true, true_or, or_false, false_or, Bool.false_eq_true]]; rfl)) rfl
            · simp only [cP, cN, bI_0, Bool.not_eq_false, lt_nle, Decidable.not_not] at b27
              refine And.intro (fun b33 => ?_) (fun b33 => ?_)
              · simp only [cP, cN, bI_0, Bool.not_eq_false, lt_nle, Decidable.not_not] at b33
                refine And.intro (by first | exact Or.inl rfl | exact Or.inr rfl | exact bI_01 _) ?_
                exact And.intro (hs _ (by rw [show (markB c) = true from by simp only [markB, lt_nle, b3, b9, b15, b21, b27, b33, decide_true, decide_false, Bool.and_true, Bool.true_and, Bool.and_false, Bool.false_and, Bool.or_true, Bool.true_or, Bool.or_false, Bool.false_or, not_true_eq_false, not_false_eq_true, Bool.not_true, Bool.not_false, decide_not, if_true, if_false, and_true, true_and, and_false, false_and, or_true, true_or, or_false, false_or, Bool.false_eq_true]]; rfl)) rfl
              · simp only [cP, cN, bI_0, Bool.not_eq_false, lt_nle, Decidable.not_not] at b33
                refine And.intro (fun b39 => ?_) (fun b39 => ?_)
                · simp only [cP, cN, bI_0, Bool.not_eq_false, lt_nle, Decidable.not_not] at b39
                  refine And.intro (by first | exact Or.inl rfl | exact Or.inr rfl | exact bI_01 _) ?_
                  exact And.intro (hs _ (by rw [show (markB c) = true from by simp only [markB, lt_nle, b3, b9, b15, b21, b27, b33, b39, decide_true, decide_false, Bool.and_true, Bool.true_and, Bool.and_false, Bool.false_and, Bool.or_true, Bool.true_or, Bool.or_false, Bool.false_or, not_true_eq_false, not_false_eq_true, Bool.not_true, Bool.not_false, decide_not, if_true, if_false, and_true, true_and, and_false, false_and, or_true, true_or, or_false, false_or, Bool.false_eq_true]]; rfl)) rfl
                · simp only [cP, cN, bI_0, Bool.not_eq_false, lt_nle, Decidable.not_not] at b39
                  refine And.intro (fun b45 => ?_) (fun b45 => ?_)
                  · simp only [cP, cN, bI_0, Bool.not_eq_false, lt_nle, Decidable.not_not] at b45
                    refine And.intro (by first | exact Or.inl rfl | exact Or.inr rfl | exact bI_01 _) ?_
                    exact And.intro (hs _ (by rw [show (markB c) = true from by simp only [markB, lt_nle, b3, b9, b15, b21, b27, b33, b39, b45, decide_true, decide_false, Bool.and_true, Bool.true_and, Bool.and_false, Bool.false_and, Bool.or_true, Bool.true_or, Bool.or_false, Bool.false_or, not_true_eq_false, not_false_eq_true, Bool.not_true, Bool.not_false, decide_not, if_true, if_false, and_true, true_and, and_false, false_and, or_true, true_or, or_false, false_or, Bool.false_eq_true]]; rfl)) rfl
                  · simp only [cP, cN, bI_0, Bool.not_eq_false, lt_nle, Decidable.not_not] at b45
                    refine And.intro (fun b51 => ?_) (fun b51 => ?_)
                    · simp only [cP, cN, bI_0, Bool.not_eq_false, lt_nle, Decidable.not_not] at b51
                      refine And.intro (by first | exact Or.inl rfl | exact Or.inr rfl | exact bI_01 _) ?_
                      exact And.intro (hs _ (by rw [show (markB c) = true from by simp only [markB, lt_nle, b3, b9, b15, b21, b27, b33, b39, b45, b51, decide_true, decide_false, Bool.and_true, Bool.true_and, Bool.and_false, Bool.false_and, Bool.or_true, Bool.true_or, Bool.or_false, Bool.false_or, not_true_eq_false, not_false_eq_true, Bool.not_true, Bool.not_false, decide_not, if_true, if_false, and_true, true_and, and_false, false_and, or_true, true_or, or_false, false_or, Bool.false_eq_true]]; rfl)) rfl
                    · simp only [cP, cN, bI_0, Bool.not_eq_false, lt_nle, Decidable.not_not] at b51
                      refine And.intro (fun b57 => ?_) (fun b57 => ?_)
                      · simp only [cP, cN, bI_0, Bool.not_eq_false, lt_nle, Decidable.not_not] at b57
                        refine And.intro (by first | exact Or.inl rfl | exact Or.inr rfl | exact bI_01 _) ?_
                        exact And.intro (hs _ (by rw [show (markB c) = false from by simp only [markB, lt_nle, b3, b9, b15, b21, b27, b33, b39, b45, b51, b57, decide_true, decide_false, Bool.and_true, Bool.true_and, Bool.and_false, Bool.false_and, Bool.or_true, Bool.true_or, Bool.or_false, Bool.false_or, not_true_eq_false, not_false_eq_true, Bool.not_true, Bool.not_false, decide_not, if_true, if_false, and_true, true_and, and_false, false_and, or_true, true_or, or_false, false_or, Bool.false_eq_true]]; rfl)) rfl
                      · simp only [cP, cN, bI_0, Bool.not_eq_false, lt_nle, Decidable.not_not] at b57
                        refine And.intro (by first | exact Or.inl rfl | exact Or.inr rfl | exact bI_01 _) ?_
                        exact And.intro (hs _ (by rw [show (markB c) = true from by simp only [markB, lt_nle, b3, b9, b15, b21, b27, b33, b39, b45, b51, b57, decide_true, decide_false, Bool.and_true, Bool.true_and, Bool.and_false, Bool.false_and, Bool.or_true, Bool.true_or, Bool.or_false, Bool.false_or, not_true_eq_false, not_false_eq_true, Bool.not_true, Bool.not_false, decide_not, if_true, if_false, and_true, true_and, and_false, false_and, or_true, true_or, or_false, false_or, Bool.false_eq_true]]; rfl)) rfl
theorem k_errs : CtS mX3_errs 1 (mW1 (fun (a : Unit) e S => True) (fun (a : Unit) e S v S' => v = -1 ∧ S' = up2 (up2 S 0 36 e) 0 37 (S 0 22))) := by
  intro l G d hd as h z Q hs
  match as, hs with
  | [.ref b, .int e], hs =>
    obtain ⟨S, a, hm, hp, hs⟩ := hs
    replace hp : True := hp
    replace hs : ∀ v S' h', (v = -1 ∧ S' = up2 (up2 S 0 36 e) 0 37 (S 0 22)) → IsMod G b S' h' → FrM b h h' → Q (some (.int v)) h' := hs
    have hf : FrM b h h := FrM.rf
    refine Ct.of rfl (Nat.le_of_ble_eq_true rfl) rfl ?_
    refine X.w wkX3_errs fnil [] 10 rfl ?_
    refine pF0 (okV_W rfl) (by first | assumption | exact hm.obj | exact hm.arr _ rfl) (Nat.le_of_ble_eq_true rfl) (by first | exact hm.N | exact hm.No _) ?_
    intro h2 e2
    have hm := hm.u0 e2 rfl; have hf := hf.u0 e2
    refine gF (by first | assumption | exact hm.obj | exact hm.arr _ rfl) ?_
    refine pF0 (okV_W rfl) (by first | assumption | exact hm.obj | exact hm.arr _ rfl) (Nat.le_of_ble_eq_true rfl) (by first | exact hm.N | exact hm.No _) ?_
    intro h10 e10
    have hm := hm.u0 e10 rfl; have hf := hf.u0 e10
    exact And.intro (hs _ _ _ ⟨rfl, rfl⟩ hm hf) rfl
def wordM (S : SS) (w : Int32) : Bool := decide (S 0 23 = 2) && decide (S 0 24 = w)
theorem k_isWord : CtS mX3_isWord 1 (mR1 (fun (a : Unit) w S => True) (fun (a : Unit) w S => bI (wordM S w))) := by
  intro l G d hd as h z Q hs
  match as, hs with
  | [.ref b, .int w], hs =>
    obtain ⟨S, a, hm, hp, hs⟩ := hs
    replace hp : True := hp
    replace hs : ∀ r9, r9 = bI (wordM S w) → Q (some (.int r9)) h := hs
    have hf : FrM b h h := FrM.rf
    refine Ct.of rfl (Nat.le_of_ble_eq_true rfl) rfl ?_
    refine X.w wkX3_isWord fnil [] 12 rfl ?_
    refine gF (by first | assumption | exact hm.obj | exact hm.arr _ rfl) ?_
    refine And.intro (fun b5 => ?_) (fun b5 => ?_)
    · simp only [cP, cN, bI_0, Bool.not_eq_false, lt_nle, Decidable.not_not] at b5
      refine And.intro (by first | exact Or.inl rfl | exact Or.inr rfl | exact bI_01 _) ?_
      exact And.intro (hs _ (by rw [show (wordM S w) = false from by simp only [wordM, lt_nle, b5, decide_true, decide_false, Bool.and_true, Bool.true_and, Bool.and_false, Bool.false_and, Bool.or_true, Bool.true_or, Bool.or_false, Bool.false_or, not_true_eq_false, not_false_eq_true, Bool.not_true, Bool.not_false, decide_not, if_true, if_false, and_true, true_and, and_false, false_and, or_true, true_or, or_false, false_or, Bool.false_eq_true]]; rfl)) rfl
    · simp only [cP, cN, bI_0, Bool.not_eq_false, lt_nle, Decidable.not_not] at b5
      refine gF (by first | assumption | exact hm.obj | exact hm.arr _ rfl) ?_
      refine And.intro (fun b13 => ?_) (fun b13 => ?_)
      · simp only [cP, cN, bI_0, Bool.not_eq_false, lt_nle, Decidable.not_not] at b13
        refine And.intro (by first | exact Or.inl rfl | exact Or.inr rfl | exact bI_01 _) ?_
        exact And.intro (hs _ (by rw [show (wordM S w) = false from by simp only [wordM, lt_nle, b5, b13, decide_true, decide_false, Bool.and_true, Bool.true_and, Bool.and_false, Bool.false_and, Bool.or_true, Bool.true_or, Bool.or_false, Bool.false_or, not_true_eq_false, not_false_eq_true, Bool.not_true, Bool.not_false, decide_not, if_true, if_false, and_true, true_and, and_false, false_and, or_true, true_or, or_false, false_or, Bool.false_eq_true]]; rfl)) rfl
      · simp only [cP, cN, bI_0, Bool.not_eq_false, lt_nle, Decidable.not_not] at b13
        refine And.intro (by first | exact Or.inl rfl | exact Or.inr rfl | exact bI_01 _) ?_
        exact And.intro (hs _ (by rw [show (wordM S w) = true from by simp only [wordM, lt_nle, b5, b13, decide_true, decide_false, Bool.and_true, Bool.true_and, Bool.and_false, Bool.false_and, Bool.or_true, Bool.true_or, Bool.or_false, Bool.false_or, not_true_eq_false, not_false_eq_true, Bool.not_true, Bool.not_false, decide_not, if_true, if_false, and_true, true_and, and_false, false_and, or_true, true_or, or_false, false_or, Bool.false_eq_true]]; rfl)) rfl
def signM (S : SS) (w : Int32) : Bool := decide (S 0 23 = 4) && decide (S 0 24 = w)
theorem k_isSign : CtS mX3_isSign 1 (mR1 (fun (a : Unit) w S => True) (fun (a : Unit) w S => bI (signM S w))) := by
  intro l G d hd as h z Q hs
  match as, hs with
  | [.ref b, .int w], hs =>
    obtain ⟨S, a, hm, hp, hs⟩ := hs
    replace hp : True := hp
    replace hs : ∀ r9, r9 = bI (signM S w) → Q (some (.int r9)) h := hs
    have hf : FrM b h h := FrM.rf
    refine Ct.of rfl (Nat.le_of_ble_eq_true rfl) rfl ?_
    refine X.w wkX3_isSign fnil [] 12 rfl ?_
    refine gF (by first | assumption | exact hm.obj | exact hm.arr _ rfl) ?_
    refine And.intro (fun b5 => ?_) (fun b5 => ?_)
    · simp only [cP, cN, bI_0, Bool.not_eq_false, lt_nle, Decidable.not_not] at b5
      refine And.intro (by first | exact Or.inl rfl | exact Or.inr rfl | exact bI_01 _) ?_
      exact And.intro (hs _ (by rw [show (signM S w) = false from by simp only [signM, lt_nle, b5, decide_true, decide_false, Bool.and_true, Bool.true_and, Bool.and_false, Bool.false_and, Bool.or_true, Bool.true_or, Bool.or_false, Bool.false_or, not_true_eq_false, not_false_eq_true, Bool.not_true, Bool.not_false, decide_not, if_true, if_false, and_true, true_and, and_false, false_and, or_true, true_or, or_false, false_or, Bool.false_eq_true]]; rfl)) rfl
    · simp only [cP, cN, bI_0, Bool.not_eq_false, lt_nle, Decidable.not_not] at b5
      refine gF (by first | assumption | exact hm.obj | exact hm.arr _ rfl) ?_
      refine And.intro (fun b13 => ?_) (fun b13 => ?_)
      · simp only [cP, cN, bI_0, Bool.not_eq_false, lt_nle, Decidable.not_not] at b13
        refine And.intro (by first | exact Or.inl rfl | exact Or.inr rfl | exact bI_01 _) ?_
        exact And.intro (hs _ (by rw [show (signM S w) = false from by simp only [signM, lt_nle, b5, b13, decide_true, decide_false, Bool.and_true, Bool.true_and, Bool.and_false, Bool.false_and, Bool.or_true, Bool.true_or, Bool.or_false, Bool.false_or, not_true_eq_false, not_false_eq_true, Bool.not_true, Bool.not_false, decide_not, if_true, if_false, and_true, true_and, and_false, false_and, or_true, true_or, or_false, false_or, Bool.false_eq_true]]; rfl)) rfl
      · simp only [cP, cN, bI_0, Bool.not_eq_false, lt_nle, Decidable.not_not] at b13
        refine And.intro (by first | exact Or.inl rfl | exact Or.inr rfl | exact bI_01 _) ?_
        exact And.intro (hs _ (by rw [show (signM S w) = true from by simp only [signM, lt_nle, b5, b13, decide_true, decide_false, Bool.and_true, Bool.true_and, Bool.and_false, Bool.false_and, Bool.or_true, Bool.true_or, Bool.or_false, Bool.false_or, not_true_eq_false, not_false_eq_true, Bool.not_true, Bool.not_false, decide_not, if_true, if_false, and_true, true_and, and_false, false_and, or_true, true_or, or_false, false_or, Bool.false_eq_true]]; rfl)) rfl
def emF (S : SS) (n : Nat) (o x : Int32) : SS := up2 (up2 (up2 S 13 (400 + n) o) 14 (400 + n) x) 0 32 (nI n + 1)
theorem k_emits : CtS mX3_emits 1 (mV2 (fun (a : Nat) o x S => S 0 32 = nI a ∧ a < 400) (fun (a : Nat) o x S S' => S' = emF S a o x)) := by
  intro l G d hd as h z Q hs
  match as, hs with
  | [.ref b, .int o, .int x], hs =>
    obtain ⟨S, a, hm, hp, hs⟩ := hs
    replace hp : S 0 32 = nI a ∧ a < 400 := hp
    replace hs : ∀ S' h', (S' = emF S a o x) → IsMod G b S' h' → FrM b h h' → Q none h' := hs
    have hf : FrM b h h := FrM.rf
    refine Ct.of rfl (Nat.le_of_ble_eq_true rfl) rfl ?_
    obtain ⟨hn, ha⟩ := hp
    refine X.w wkX3_emits fnil [] 24 rfl ?_
    refine gF (by first | assumption | exact hm.obj | exact hm.arr _ rfl) ?_
    refine gF (by first | assumption | exact hm.obj | exact hm.arr _ rfl) ?_
    refine sA (by first | assumption | exact hm.obj | exact hm.arr _ rfl) (by first | (rw [show up2 S 13 (400 + a) o 0 32 = S 0 32 from rfl, hn]; exact ixa (a := 400) rfl (by omega) (by decide)) | (rw [hn]; exact ixa (a := 400) rfl (by omega) (by decide))) (by first | exact hm.N | exact hm.No _) ?_
    intro h13 e13
    have hm := hm.uA e13 rfl; have hf := hf.uA e13 (by decide)
    refine gF (by first | assumption | exact hm.obj | exact hm.arr _ rfl) ?_
    refine gF (by first | assumption | exact hm.obj | exact hm.arr _ rfl) ?_
    refine sA (by first | assumption | exact hm.obj | exact hm.arr _ rfl) (by first | (rw [show up2 S 13 (400 + a) o 0 32 = S 0 32 from rfl, hn]; exact ixa (a := 400) rfl (by omega) (by decide)) | (rw [hn]; exact ixa (a := 400) rfl (by omega) (by decide))) (by first | exact hm.N | exact hm.No _) ?_
    intro h27 e27
    have hm := hm.uA e27 rfl; have hf := hf.uA e27 (by decide)
    refine gF (by first | assumption | exact hm.obj | exact hm.arr _ rfl) ?_
    refine pF0 (okV_W rfl) (by first | assumption | exact hm.obj | exact hm.arr _ rfl) (Nat.le_of_ble_eq_true rfl) (by first | exact hm.N | exact hm.No _) ?_
    intro h35 e35
    have hm := hm.u0 e35 rfl; have hf := hf.u0 e35
    refine And.intro (hs _ _ ?_ hm hf) rfl
    unfold emF; rw [← hn]; rfl
theorem k_waits : CtS mX3_waits 1 (mV1 (fun (a : Nat) o S => S 0 35 = nI a ∧ a < 40) (fun (a : Nat) o S S' => S' = up2 (up2 S 15 a o) 0 35 (nI a + 1))) := by
  intro l G d hd as h z Q hs
  match as, hs with
  | [.ref b, .int o], hs =>
    obtain ⟨S, a, hm, hp, hs⟩ := hs
    replace hp : S 0 35 = nI a ∧ a < 40 := hp
    replace hs : ∀ S' h', (S' = up2 (up2 S 15 a o) 0 35 (nI a + 1)) → IsMod G b S' h' → FrM b h h' → Q none h' := hs
    have hf : FrM b h h := FrM.rf
    refine Ct.of rfl (Nat.le_of_ble_eq_true rfl) rfl ?_
    obtain ⟨hn, ha⟩ := hp
    refine X.w wkX3_waits fnil [] 14 rfl ?_
    refine gF (by first | assumption | exact hm.obj | exact hm.arr _ rfl) ?_
    refine gF (by first | assumption | exact hm.obj | exact hm.arr _ rfl) ?_
    refine sA (by first | assumption | exact hm.obj | exact hm.arr _ rfl) (ixE hn ha (by decide)) (by first | exact hm.N | exact hm.No _) ?_
    intro h9 e9
    have hm := hm.uA e9 rfl; have hf := hf.uA e9 (by decide)
    refine gF (by first | assumption | exact hm.obj | exact hm.arr _ rfl) ?_
    refine pF0 (okV_W rfl) (by first | assumption | exact hm.obj | exact hm.arr _ rfl) (Nat.le_of_ble_eq_true rfl) (by first | exact hm.N | exact hm.No _) ?_
    intro h17 e17
    have hm := hm.u0 e17 rfl; have hf := hf.u0 e17
    refine And.intro (hs _ _ ?_ hm hf) rfl
    rw [← hn]; rfl
def twoM (o x y : Int32) : Int32 := if o = 2 then x + y else if o = 3 then x - y else if o = 4 then x * y else if o = 5 then x / y else if o = 6 then bI (decide (x < y)) else if o = 7 then bI (decide (x = y)) else if o = 8 then bI (decide (y < x)) else if o = 10 then x * y else bI (decide (0 < x + y))
theorem k_twoOf : CtS mX3_twoOf 1 (mR3 (fun (a : Unit) o x y S => o = 5 → ¬ y = 0) (fun (a : Unit) o x y S => twoM o x y)) := by
  intro l G d hd as h z Q hs
  match as, hs with
  | [.ref b, .int o, .int x, .int y], hs =>
    obtain ⟨S, a, hm, hp, hs⟩ := hs
    replace hp : o = 5 → ¬ y = 0 := hp
    replace hs : ∀ r9, r9 = twoM o x y → Q (some (.int r9)) h := hs
    have hf : FrM b h h := FrM.rf
    refine Ct.of rfl (Nat.le_of_ble_eq_true rfl) rfl ?_
    refine X.w wkX3_twoOf fnil [] 32 rfl ?_
    refine And.intro (fun b2 => ?_) (fun b2 => ?_)
    · simp only [cP, cN, bI_0, Bool.not_eq_false, lt_nle, Decidable.not_not] at b2
      refine And.intro (fun b11 => ?_) (fun b11 => ?_)
      · simp only [cP, cN, bI_0, Bool.not_eq_false, lt_nle, Decidable.not_not] at b11
        refine And.intro (fun b20 => ?_) (fun b20 => ?_)
        · simp only [cP, cN, bI_0, Bool.not_eq_false, lt_nle, Decidable.not_not] at b20
          refine And.intro (fun b29 => ?_) (fun b29 => ?_)
          · simp only [cP, cN, bI_0, Bool.not_eq_false, lt_nle, Decidable.not_not] at b29
            refine And.intro (fun b39 => ?_) (fun b39 => ?_)
            · simp only [cP, cN, bI_0, Bool.not_eq_false, lt_nle, Decidable.not_not] at b39
              refine And.intro (fun b56 => ?_) (fun b56 => ?_)
              · simp only [cP, cN, bI_0, Bool.not_eq_false, lt_nle, Decidable.not_not] at b56
                refine And.intro (fun b73 => ?_) (fun b73 => ?_)
                · simp only [cP, cN, bI_0, Bool.not_eq_false, lt_nle, Decidable.not_not] at b73
                  refine And.intro (fun b90 => ?_) (fun b90 => ?_)
                  · simp only [cP, cN, bI_0, Bool.not_eq_false, lt_nle, Decidable.not_not] at b90
                    refine And.intro (fun b102 => ?_) (fun b102 => ?_)
                    · simp only [cP, cN, bI_0, Bool.not_eq_false, lt_nle, Decidable.not_not] at b102
                      exact And.intro (hs _ (by unfold twoM; rw [if_neg b2, if_neg b11, if_neg b20, if_neg b29, if_neg b39, if_neg b56, if_neg b73, if_neg b90]; simp only [b102, lt_nle, decide_true, decide_false, Bool.and_true, Bool.true_and, Bool.and_false, Bool.false_and, Bool.or_true, Bool.true_or, Bool.or_false, Bool.false_or, not_true_eq_false, not_false_eq_true, Bool.not_true, Bool.not_false, decide_not, if_true, if_false, and_true, true_and, and_false, false_and, or_true, true_or, or_false, false_or, Bool.false_eq_true, bI, cond_true, cond_false])) rfl
                    · simp only [cP, cN, bI_0, Bool.not_eq_false, lt_nle, Decidable.not_not] at b102
                      exact And.intro (hs _ (by unfold twoM; rw [if_neg b2, if_neg b11, if_neg b20, if_neg b29, if_neg b39, if_neg b56, if_neg b73, if_neg b90]; simp only [b102, lt_nle, decide_true, decide_false, Bool.and_true, Bool.true_and, Bool.and_false, Bool.false_and, Bool.or_true, Bool.true_or, Bool.or_false, Bool.false_or, not_true_eq_false, not_false_eq_true, Bool.not_true, Bool.not_false, decide_not, if_true, if_false, and_true, true_and, and_false, false_and, or_true, true_or, or_false, false_or, Bool.false_eq_true, bI, cond_true, cond_false])) rfl
                  · simp only [cP, cN, bI_0, Bool.not_eq_false, lt_nle, Decidable.not_not] at b90
                    exact And.intro (hs _ (by unfold twoM; rw [if_neg b2, if_neg b11, if_neg b20, if_neg b29, if_neg b39, if_neg b56, if_neg b73, if_pos b90])) rfl
                · simp only [cP, cN, bI_0, Bool.not_eq_false, lt_nle, Decidable.not_not] at b73
                  refine And.intro (fun b78 => ?_) (fun b78 => ?_)
                  · simp only [cP, cN, bI_0, Bool.not_eq_false, lt_nle, Decidable.not_not] at b78
                    exact And.intro (hs _ (by unfold twoM; rw [if_neg b2, if_neg b11, if_neg b20, if_neg b29, if_neg b39, if_neg b56, if_pos b73]; simp only [b78, lt_nle, decide_true, decide_false, Bool.and_true, Bool.true_and, Bool.and_false, Bool.false_and, Bool.or_true, Bool.true_or, Bool.or_false, Bool.false_or, not_true_eq_false, not_false_eq_true, Bool.not_true, Bool.not_false, decide_not, if_true, if_false, and_true, true_and, and_false, false_and, or_true, true_or, or_false, false_or, Bool.false_eq_true, bI, cond_true, cond_false])) rfl
                  · simp only [cP, cN, bI_0, Bool.not_eq_false, lt_nle, Decidable.not_not] at b78
                    exact And.intro (hs _ (by unfold twoM; rw [if_neg b2, if_neg b11, if_neg b20, if_neg b29, if_neg b39, if_neg b56, if_pos b73]; simp only [b78, lt_nle, decide_true, decide_false, Bool.and_true, Bool.true_and, Bool.and_false, Bool.false_and, Bool.or_true, Bool.true_or, Bool.or_false, Bool.false_or, not_true_eq_false, not_false_eq_true, Bool.not_true, Bool.not_false, decide_not, if_true, if_false, and_true, true_and, and_false, false_and, or_true, true_or, or_false, false_or, Bool.false_eq_true, bI, cond_true, cond_false])) rfl
              · simp only [cP, cN, bI_0, Bool.not_eq_false, lt_nle, Decidable.not_not] at b56
                refine And.intro (fun b61 => ?_) (fun b61 => ?_)
                · simp only [cP, cN, bI_0, Bool.not_eq_false, lt_nle, Decidable.not_not] at b61
                  exact And.intro (hs _ (by unfold twoM; rw [if_neg b2, if_neg b11, if_neg b20, if_neg b29, if_neg b39, if_pos b56]; simp only [b61, lt_nle, decide_true, decide_false, Bool.and_true, Bool.true_and, Bool.and_false, Bool.false_and, Bool.or_true, Bool.true_or, Bool.or_false, Bool.false_or, not_true_eq_false, not_false_eq_true, Bool.not_true, Bool.not_false, decide_not, if_true, if_false, and_true, true_and, and_false, false_and, or_true, true_or, or_false, false_or, Bool.false_eq_true, bI, cond_true, cond_false])) rfl
                · simp only [cP, cN, bI_0, Bool.not_eq_false, lt_nle, Decidable.not_not] at b61
                  exact And.intro (hs _ (by unfold twoM; rw [if_neg b2, if_neg b11, if_neg b20, if_neg b29, if_neg b39, if_pos b56]; simp only [b61, lt_nle, decide_true, decide_false, Bool.and_true, Bool.true_and, Bool.and_false, Bool.false_and, Bool.or_true, Bool.true_or, Bool.or_false, Bool.false_or, not_true_eq_false, not_false_eq_true, Bool.not_true, Bool.not_false, decide_not, if_true, if_false, and_true, true_and, and_false, false_and, or_true, true_or, or_false, false_or, Bool.false_eq_true, bI, cond_true, cond_false])) rfl
            · simp only [cP, cN, bI_0, Bool.not_eq_false, lt_nle, Decidable.not_not] at b39
              refine And.intro (fun b44 => ?_) (fun b44 => ?_)
              · simp only [cP, cN, bI_0, Bool.not_eq_false, lt_nle, Decidable.not_not] at b44
                exact And.intro (hs _ (by unfold twoM; rw [if_neg b2, if_neg b11, if_neg b20, if_neg b29, if_pos b39]; simp only [b44, lt_nle, decide_true, decide_false, Bool.and_true, Bool.true_and, Bool.and_false, Bool.false_and, Bool.or_true, Bool.true_or, Bool.or_false, Bool.false_or, not_true_eq_false, not_false_eq_true, Bool.not_true, Bool.not_false, decide_not, if_true, if_false, and_true, true_and, and_false, false_and, or_true, true_or, or_false, false_or, Bool.false_eq_true, bI, cond_true, cond_false])) rfl
              · simp only [cP, cN, bI_0, Bool.not_eq_false, lt_nle, Decidable.not_not] at b44
                exact And.intro (hs _ (by unfold twoM; rw [if_neg b2, if_neg b11, if_neg b20, if_neg b29, if_pos b39]; simp only [b44, lt_nle, decide_true, decide_false, Bool.and_true, Bool.true_and, Bool.and_false, Bool.false_and, Bool.or_true, Bool.true_or, Bool.or_false, Bool.false_or, not_true_eq_false, not_false_eq_true, Bool.not_true, Bool.not_false, decide_not, if_true, if_false, and_true, true_and, and_false, false_and, or_true, true_or, or_false, false_or, Bool.false_eq_true, bI, cond_true, cond_false])) rfl
          · simp only [cP, cN, bI_0, Bool.not_eq_false, lt_nle, Decidable.not_not] at b29
            refine And.intro (hp (by assumption)) ?_
            exact And.intro (hs _ (by unfold twoM; rw [if_neg b2, if_neg b11, if_neg b20, if_pos b29])) rfl
        · simp only [cP, cN, bI_0, Bool.not_eq_false, lt_nle, Decidable.not_not] at b20
          exact And.intro (hs _ (by unfold twoM; rw [if_neg b2, if_neg b11, if_pos b20])) rfl
      · simp only [cP, cN, bI_0, Bool.not_eq_false, lt_nle, Decidable.not_not] at b11
        exact And.intro (hs _ (by unfold twoM; rw [if_neg b2, if_pos b11])) rfl
    · simp only [cP, cN, bI_0, Bool.not_eq_false, lt_nle, Decidable.not_not] at b2
      exact And.intro (hs _ (by unfold twoM; rw [if_pos b2])) rfl
