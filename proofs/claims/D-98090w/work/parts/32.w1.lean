set_option maxRecDepth 100000
/-! static helpers and the wood's small methods -/
def isInB (v a b : Int32) : Bool := decide (a ≤ v) && decide (v ≤ b)
theorem i32_nlt {x y : Int32} : ¬ x < y ↔ y ≤ x := Int32.not_lt
theorem i32_nle {x y : Int32} : ¬ x ≤ y ↔ y < x := Int32.not_le
theorem isInB_t {v a b : Int32} : isInB v a b = true ↔ a ≤ v ∧ v ≤ b := by simp [isInB]
theorem isInB_f {v a b : Int32} : isInB v a b = false ↔ v < a ∨ b < v := by
  rw [isInB, Bool.and_eq_false_iff, decide_eq_false_iff_not, decide_eq_false_iff_not, i32_nle, i32_nle]
theorem c_isIn : CtS mX0_isIn 1 (sp3 (fun v a b => bI (isInB v a b))) := by
  intro l G d hd as h z Q hs
  match as, hs with
  | [.int v, .int a, .int b], hs =>
    replace hs : Q (some (.int (bI (isInB v a b)))) h := hs
    refine Ct.of rfl (Nat.le_of_ble_eq_true rfl) rfl ?_
    refine X.w wkX0_isIn fnil [] 10 rfl ?_
    refine And.intro (fun b2 => ?_) (fun b2 => ?_)
    · simp only [cP, cN, bI_0, Bool.not_eq_false, lt_nle, Decidable.not_not] at b2
      refine And.intro (by first | exact Or.inl rfl | exact Or.inr rfl | exact bI_01 _) ?_
      rw [show isInB v a b = false from by simp only [isInB, lt_nle, b2, decide_true, decide_false, Bool.and_true, Bool.true_and, Bool.and_false, Bool.false_and, Bool.or_true, Bool.true_or, Bool.or_false, Bool.false_or, not_true_eq_false, not_false_eq_true, Bool.not_true, Bool.not_false, decide_not, if_true, if_false, and_true, true_and, and_false, false_and, or_true, true_or, or_false, false_or, Bool.false_eq_true]] at hs; exact And.intro hs rfl
    · simp only [cP, cN, bI_0, Bool.not_eq_false, lt_nle, Decidable.not_not] at b2
      refine And.intro (fun b7 => ?_) (fun b7 => ?_)
      · simp only [cP, cN, bI_0, Bool.not_eq_false, lt_nle, Decidable.not_not] at b7
        refine And.intro (by first | exact Or.inl rfl | exact Or.inr rfl | exact bI_01 _) ?_
        rw [show isInB v a b = false from by simp only [isInB, lt_nle, b2, b7, decide_true, decide_false, Bool.and_true, Bool.true_and, Bool.and_false, Bool.false_and, Bool.or_true, Bool.true_or, Bool.or_false, Bool.false_or, not_true_eq_false, not_false_eq_true, Bool.not_true, Bool.not_false, decide_not, if_true, if_false, and_true, true_and, and_false, false_and, or_true, true_or, or_false, false_or, Bool.false_eq_true]] at hs; exact And.intro hs rfl
      · simp only [cP, cN, bI_0, Bool.not_eq_false, lt_nle, Decidable.not_not] at b7
        refine And.intro (by first | exact Or.inl rfl | exact Or.inr rfl | exact bI_01 _) ?_
        rw [show isInB v a b = true from by simp only [isInB, lt_nle, b2, b7, decide_true, decide_false, Bool.and_true, Bool.true_and, Bool.and_false, Bool.false_and, Bool.or_true, Bool.true_or, Bool.or_false, Bool.false_or, not_true_eq_false, not_false_eq_true, Bool.not_true, Bool.not_false, decide_not, if_true, if_false, and_true, true_and, and_false, false_and, or_true, true_or, or_false, false_or, Bool.false_eq_true]] at hs; exact And.intro hs rfl
def farI (a b : Int32) : Int32 := absI ((a - a / 8 * 8) - (b - b / 8 * 8)) + absI (a / 8 - b / 8)
theorem c_far : CtS mX0_far 2 (sp2 farI) := by
  intro l G d hd as h z Q hs
  match as, hs with
  | [.int v, .int w], hs =>
    replace hs : Q (some (.int (farI v w))) h := hs
    refine Ct.of rfl (Nat.le_of_ble_eq_true rfl) rfl ?_
    refine X.w wkX0_far (fcons (ceAbs ckX0_84 q853 (by omega)) fnil) [] 19 rfl ?_
    refine And.intro (by decide) ?_
    refine And.intro (by decide) ?_
    refine And.intro (by decide) ?_
    refine And.intro (by decide) ?_
    exact And.intro hs rfl
/-! the wood: one object's facts for a call -/
theorem wood_recv {G : GG} {b law : Nat} {S : Nat → Nat → Int32} {h : AH} (w : IsWood G b S law h) : ∃ fs, h b = some (.inr (1, fs)) := ⟨_, w.obj⟩
/-- a method of a wood that changes nothing -/
def spW0 (f : (Nat → Nat → Int32) → Int32) : GG → CSpec := fun G as h Q => match as with
  | [.ref b] => ∃ (S : Nat → Nat → Int32) (law : Nat), IsWood G b S law h ∧ ∀ v, v = f S → Q (some (.int v)) h
  | _ => False
def spW1 (f : (Nat → Nat → Int32) → Int32 → Int32) : GG → CSpec := fun G as h Q => match as with
  | [.ref b, .int x] => ∃ (S : Nat → Nat → Int32) (law : Nat), IsWood G b S law h ∧ Q (some (.int (f S x))) h
  | _ => False
theorem moW0 {f : (Nat → Nat → Int32) → Int32} {G : GG} : Mono (spW0 f G) := by
  intro as h Q Q' hQ hs
  unfold spW0 at hs ⊢
  split at hs
  · obtain ⟨S, law, h1, h2⟩ := hs
    exact ⟨S, law, h1, fun v e => hQ _ _ (h2 v e)⟩
  · exact hs.elim
theorem moW1 {f : (Nat → Nat → Int32) → Int32 → Int32} {G : GG} : Mono (spW1 f G) := by
  intro as h Q Q' hQ hs
  unfold spW1 at hs ⊢
  split at hs
  · obtain ⟨S, law, h1, h2⟩ := hs
    exact ⟨S, law, h1, hQ _ _ h2⟩
  · exact hs.elim
theorem rcW0 {f : (Nat → Nat → Int32) → Int32} {G : GG} : ∀ as h Q, as.length = 0 + 1 → spW0 f G as h Q → ∃ b as', as = .ref b :: as' ∧ ∃ fs, h b = some (.inr (1, fs)) := by
  intro as h Q _ hs
  unfold spW0 at hs
  split at hs
  · obtain ⟨S, law, h1, h2⟩ := hs
    exact ⟨_, _, rfl, wood_recv h1⟩
  · exact hs.elim
theorem rcW1 {f : (Nat → Nat → Int32) → Int32 → Int32} {G : GG} : ∀ as h Q, as.length = 1 + 1 → spW1 f G as h Q → ∃ b as', as = .ref b :: as' ∧ ∃ fs, h b = some (.inr (1, fs)) := by
  intro as h Q _ hs
  unfold spW1 at hs
  split at hs
  · obtain ⟨S, law, h1, h2⟩ := hs
    exact ⟨_, _, rfl, wood_recv h1⟩
  · exact hs.elim
/-- a cell of the wood; a cap on it -/
def isCellB (S : Nat → Nat → Int32) (c : Int32) : Bool := isInB c 0 63 && (decide (c - c / 8 * 8 < S 0 12) && decide (c / 8 < S 0 13))
theorem c_isCell : CtS mX1_isCell 2 (spW1 (fun S c => bI (isCellB S c))) := by
  intro l G d hd as h z Q hs
  match as, hs with
  | [.ref b, .int c], hs =>
    obtain ⟨S, law, hw, hs⟩ := hs
    replace hs : Q (some (.int (bI (isCellB S c)))) h := hs
    refine Ct.of rfl (Nat.le_of_ble_eq_true rfl) rfl ?_
    refine X.w wkX1_isCell (fcons (ceS c_isIn mo3 ckX1_109 (by omega) rfl) fnil) [] 21 rfl ?_
    refine And.intro (fun b7 => ?_) (fun b7 => ?_)
    · simp only [cP, cN, bI_0, Bool.not_eq_false, lt_nle, Decidable.not_not] at b7
      refine And.intro (by first | exact Or.inl rfl | exact Or.inr rfl | exact bI_01 _) ?_
      rw [show isCellB S c = false from by simp only [isCellB, lt_nle, b7, decide_true, decide_false, Bool.and_true, Bool.true_and, Bool.and_false, Bool.false_and, Bool.or_true, Bool.true_or, Bool.or_false, Bool.false_or, not_true_eq_false, not_false_eq_true, Bool.not_true, Bool.not_false, decide_not, if_true, if_false, and_true, true_and, and_false, false_and, or_true, true_or, or_false, false_or, Bool.false_eq_true]] at hs; exact And.intro hs rfl
    · simp only [cP, cN, bI_0, Bool.not_eq_false, lt_nle, Decidable.not_not] at b7
      refine And.intro (by decide) ?_
      refine gF (by first | assumption | exact hw.obj) ?_
      refine And.intro (fun b18 => ?_) (fun b18 => ?_)
      · simp only [cP, cN, bI_0, Bool.not_eq_false, lt_nle, Decidable.not_not] at b18
        refine And.intro (by first | exact Or.inl rfl | exact Or.inr rfl | exact bI_01 _) ?_
        rw [show isCellB S c = false from by simp only [isCellB, lt_nle, b7, b18, decide_true, decide_false, Bool.and_true, Bool.true_and, Bool.and_false, Bool.false_and, Bool.or_true, Bool.true_or, Bool.or_false, Bool.false_or, not_true_eq_false, not_false_eq_true, Bool.not_true, Bool.not_false, decide_not, if_true, if_false, and_true, true_and, and_false, false_and, or_true, true_or, or_false, false_or, Bool.false_eq_true]] at hs; exact And.intro hs rfl
      · simp only [cP, cN, bI_0, Bool.not_eq_false, lt_nle, Decidable.not_not] at b18
        refine And.intro (by decide) ?_
        refine gF (by first | assumption | exact hw.obj) ?_
        refine And.intro (fun b29 => ?_) (fun b29 => ?_)
        · simp only [cP, cN, bI_0, Bool.not_eq_false, lt_nle, Decidable.not_not] at b29
          refine And.intro (by first | exact Or.inl rfl | exact Or.inr rfl | exact bI_01 _) ?_
          rw [show isCellB S c = false from by simp only [isCellB, lt_nle, b7, b18, b29, decide_true, decide_false, Bool.and_true, Bool.true_and, Bool.and_false, Bool.false_and, Bool.or_true, Bool.true_or, Bool.or_false, Bool.false_or, not_true_eq_false, not_false_eq_true, Bool.not_true, Bool.not_false, decide_not, if_true, if_false, and_true, true_and, and_false, false_and, or_true, true_or, or_false, false_or, Bool.false_eq_true]] at hs; exact And.intro hs rfl
        · simp only [cP, cN, bI_0, Bool.not_eq_false, lt_nle, Decidable.not_not] at b29
          refine And.intro (by first | exact Or.inl rfl | exact Or.inr rfl | exact bI_01 _) ?_
          rw [show isCellB S c = true from by simp only [isCellB, lt_nle, b7, b18, b29, decide_true, decide_false, Bool.and_true, Bool.true_and, Bool.and_false, Bool.false_and, Bool.or_true, Bool.true_or, Bool.or_false, Bool.false_or, not_true_eq_false, not_false_eq_true, Bool.not_true, Bool.not_false, decide_not, if_true, if_false, and_true, true_and, and_false, false_and, or_true, true_or, or_false, false_or, Bool.false_eq_true]] at hs; exact And.intro hs rfl
def capB (S : Nat → Nat → Int32) (c : Int32) : Bool := isCellB S c && !(decide (S 2 c.toNatClampNeg = -1))
theorem isIn_nI {x : Int32} {n : Nat} (h : isInB x 0 (nI n) = true) (hn : n < 2147483648) : ∃ j, x = nI j ∧ j ≤ n := by
  rw [isInB_t] at h
  obtain ⟨j, h1, h2⟩ := nI_of2 (nI_toInt hn) (i32_nlt.mpr h.1) h.2
  exact ⟨j, h2, h1⟩
theorem isCell_nI {S : Nat → Nat → Int32} {c : Int32} (h : isCellB S c = true) : ∃ j, c = nI j ∧ j < 64 := by
  unfold isCellB at h
  rw [Bool.and_eq_true] at h
  obtain ⟨j, h1, h2⟩ := isIn_nI (n := 63) h.1 (by decide)
  exact ⟨j, h1, by omega⟩
theorem isCell_IX {S : Nat → Nat → Int32} {c : Int32} (h : isCellB S c = true) : IX c 64 c.toNatClampNeg := by
  obtain ⟨j, rfl, hj⟩ := isCell_nI h
  rw [nI_clamp (by omega)]
  exact ⟨rfl, hj, by decide⟩
theorem c_hasCap : CtS mX1_hasCap 3 (spW1 (fun S c => bI (capB S c))) := by
  intro l G d hd as h z Q hs
  match as, hs with
  | [.ref b, .int c], hs =>
    obtain ⟨S, law, hw, hs⟩ := hs
    replace hs : Q (some (.int (bI (capB S c)))) h := hs
    refine Ct.of rfl (Nat.le_of_ble_eq_true rfl) rfl ?_
    refine X.w wkX1_hasCap (fcons (ceV c_isCell moW1 ckX1_113 rfl rcW1 (by omega) rfl) fnil) [] 14 rfl ?_
    refine Exists.intro S (Exists.intro law (And.intro hw ?_))
    refine And.intro (fun b5 => ?_) (fun b5 => ?_)
    · simp only [cP, cN, bI_0, Bool.not_eq_false, lt_nle, Decidable.not_not] at b5
      refine And.intro (by first | exact Or.inl rfl | exact Or.inr rfl | exact bI_01 _) ?_
      rw [show capB S c = false from by simp only [capB, lt_nle, b5, decide_true, decide_false, Bool.and_true, Bool.true_and, Bool.and_false, Bool.false_and, Bool.or_true, Bool.true_or, Bool.or_false, Bool.false_or, not_true_eq_false, not_false_eq_true, Bool.not_true, Bool.not_false, decide_not, if_true, if_false, and_true, true_and, and_false, false_and, or_true, true_or, or_false, false_or, Bool.false_eq_true]] at hs; exact And.intro hs rfl
    · simp only [cP, cN, bI_0, Bool.not_eq_false, lt_nle, Decidable.not_not] at b5
      refine gF (by first | assumption | exact hw.obj | exact hw.arr _ rfl) ?_
      refine gA (by first | assumption | exact hw.obj | exact hw.arr _ rfl) (isCell_IX b5) ?_
      refine And.intro (fun b15 => ?_) (fun b15 => ?_)
      · simp only [cP, cN, bI_0, Bool.not_eq_false, lt_nle, Decidable.not_not] at b15
        refine And.intro (by first | exact Or.inl rfl | exact Or.inr rfl | exact bI_01 _) ?_
        rw [show capB S c = false from by simp only [capB, lt_nle, b5, b15, decide_true, decide_false, Bool.and_true, Bool.true_and, Bool.and_false, Bool.false_and, Bool.or_true, Bool.true_or, Bool.or_false, Bool.false_or, not_true_eq_false, not_false_eq_true, Bool.not_true, Bool.not_false, decide_not, if_true, if_false, and_true, true_and, and_false, false_and, or_true, true_or, or_false, false_or, Bool.false_eq_true]] at hs; exact And.intro hs rfl
      · simp only [cP, cN, bI_0, Bool.not_eq_false, lt_nle, Decidable.not_not] at b15
        refine And.intro (by first | exact Or.inl rfl | exact Or.inr rfl | exact bI_01 _) ?_
        rw [show capB S c = true from by simp only [capB, lt_nle, b5, b15, decide_true, decide_false, Bool.and_true, Bool.true_and, Bool.and_false, Bool.false_and, Bool.or_true, Bool.true_or, Bool.or_false, Bool.false_or, not_true_eq_false, not_false_eq_true, Bool.not_true, Bool.not_false, decide_not, if_true, if_false, and_true, true_and, and_false, false_and, or_true, true_or, or_false, false_or, Bool.false_eq_true]] at hs; exact And.intro hs rfl
