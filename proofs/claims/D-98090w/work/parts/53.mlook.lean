set_option maxRecDepth 100000
/-! looking: sums over the cells -/
def tl (S : SS) : SS := up2 S 0 0 0
def foldN (p : Nat → Bool) (g : Nat → Int32 → Int32) (x : Int32) : Nat → Int32
  | 0 => x
  | k + 1 => if p k = true then g k (foldN p g x k) else foldN p g x k
theorem foldN_t {p : Nat → Bool} {g : Nat → Int32 → Int32} {x : Int32} {k : Nat} (h : p k = true) : foldN p g x (k + 1) = g k (foldN p g x k) := if_pos h
theorem foldN_f {p : Nat → Bool} {g : Nat → Int32 → Int32} {x : Int32} {k : Nat} (h : p k = false) : foldN p g x (k + 1) = foldN p g x k := if_neg (by rw [h]; decide)
theorem foldN_congr {p q : Nat → Bool} {g g' : Nat → Int32 → Int32} {x : Int32} : ∀ {n : Nat}, (∀ k, k < n → p k = q k) → (∀ k, k < n → p k = true → ∀ y, g k y = g' k y) → foldN p g x n = foldN q g' x n
  | 0, _, _ => rfl
  | n + 1, h1, h2 => by
    have ih := foldN_congr (x := x) (n := n) (fun k hk => h1 k (by omega)) (fun k hk => h2 k (by omega))
    unfold foldN
    rw [ih, ← h1 n (by omega)]
    by_cases e : p n = true
    · rw [if_pos e, if_pos e, h2 n (by omega) e]
    · rw [if_neg e, if_neg e]
theorem sub1 {x : Int32} {k : Nat} (h : x - 1 = nI k) : x - 1 = nI k := h
def capM (S : SS) (c : Nat) : Bool := decide (0 < S 1 c)
def capsM (S : SS) : Int32 := foldN (capM S) (fun _ x => x + 1) 0 64
theorem k_caps : CtS mX3_caps 1 (mR0 (fun (a : Unit) S => True) (fun (a : Unit) S => capsM S)) := by
  intro l G d hd as h z Q hs
  match as, hs with
  | [.ref b], hs =>
    obtain ⟨S, a, hm, hp, hs⟩ := hs
    replace hp : True := hp
    replace hs : ∀ r9, r9 = capsM S → Q (some (.int r9)) h := hs
    have hf : FrM b h h := FrM.rf
    refine Ct.of rfl (Nat.le_of_ble_eq_true rfl) rfl ?_
    have loop : ∀ (n c : Nat) (i : Int32) (v : Int32), c + n = 64 → i = nI c → (v = foldN (capM S) (fun _ x => x + 1) 0 c) → X l G mX3_caps (rmK d 0 0) (TGm G (fun v h' z' => Q v h' ∧ z' = z) 0 0) 0 0 4 [(0, .ref b), (1, .int v), (2, .int i)] [] h z := by
      intro  n
      induction n using Nat.strongRecOn with
      | _ n ih =>
      intro c i v  hc hi hv
      subst hi
      refine X.w wkX3_caps fnil [4] 18 rfl ?_
      refine And.intro (fun b7 => ?_) (fun b7 => ?_)
      · simp only [cP, cN, bI_0, Bool.not_eq_false, lt_nle, Decidable.not_not] at b7
        have hc2 : 64 ≤ c := (le64 (by omega) (by omega)).mp b7
        obtain rfl : c = 64 := by omega
        exact And.intro (hs _ hv) rfl
      · simp only [cP, cN, bI_0, Bool.not_eq_false, lt_nle, Decidable.not_not] at b7
        have hc2 : c < 64 := nle64 b7 (by omega) (by omega)
        refine gF (by first | assumption | exact hm.obj | exact hm.arr _ rfl) ?_
        refine gA (by first | assumption | exact hm.obj | exact hm.arr _ rfl) (by first | exact ixN (by omega) (by decide) | exact ixz (by omega) (by decide) | exact ixa (a := 64) rfl (by omega) (by decide) | exact ixa (a := 128) rfl (by omega) (by decide) | exact ixa (a := 192) rfl (by omega) (by decide) | exact ixa (a := 256) rfl (by omega) (by decide) | exact ixa (a := 262) rfl (by omega) (by decide) | exact ixa (a := 268) rfl (by omega) (by decide) | exact ixa (a := 274) rfl (by omega) (by decide) | exact ixa (a := 348) rfl (by omega) (by decide) | exact ixa (a := 400) rfl (by omega) (by decide)) ?_
        refine And.intro (fun b18 => ?_) (fun b18 => ?_)
        · simp only [cP, cN, bI_0, Bool.not_eq_false, lt_nle, Decidable.not_not] at b18
          refine ih (n - 1) (by omega) (c + 1) _ _ (by omega) (nI_1 c) ?_
          rw [hv, foldN_f (show capM S c = false from by simp only [capM, lt_nle, b7, b18, decide_true, decide_false, Bool.and_true, Bool.true_and, Bool.and_false, Bool.false_and, Bool.or_true, Bool.true_or, Bool.or_false, Bool.false_or, not_true_eq_false, not_false_eq_true, Bool.not_true, Bool.not_false, decide_not, if_true, if_false, and_true, true_and, and_false, false_and, or_true, true_or, or_false, false_or, Bool.false_eq_true])]
        · simp only [cP, cN, bI_0, Bool.not_eq_false, lt_nle, Decidable.not_not] at b18
          refine ih (n - 1) (by omega) (c + 1) _ _ (by omega) (nI_1 c) ?_
          rw [hv, foldN_t (show capM S c = true from by simp only [capM, lt_nle, b7, b18, decide_true, decide_false, Bool.and_true, Bool.true_and, Bool.and_false, Bool.false_and, Bool.or_true, Bool.true_or, Bool.or_false, Bool.false_or, not_true_eq_false, not_false_eq_true, Bool.not_true, Bool.not_false, decide_not, if_true, if_false, and_true, true_and, and_false, false_and, or_true, true_or, or_false, false_or, Bool.false_eq_true])]
    refine X.w wkX3_caps fnil [4] 6 rfl ?_
    exact loop 64 0 _ _ rfl rfl rfl
def cbM (S : SS) (c : Nat) (w : Int32) (k : Nat) : Bool := capM S k && (decide (farI (nI k) (nI c) = 1) && (decide (w = 0) || decide (S 1 k = w)))
def cbsM (S : SS) (c : Nat) (w : Int32) : Int32 := foldN (cbM S c w) (fun _ x => x + 1) 0 64
theorem k_capsBeside : CtS mX3_capsBeside 3 (mR2 (fun (a : Nat) u w S => u = nI a) (fun (a : Nat) u w S => cbsM S a w)) := by
  intro l G d hd as h z Q hs
  match as, hs with
  | [.ref b, .int u, .int w], hs =>
    obtain ⟨S, a, hm, hp, hs⟩ := hs
    replace hp : u = nI a := hp
    replace hs : ∀ r9, r9 = cbsM S a w → Q (some (.int r9)) h := hs
    have hf : FrM b h h := FrM.rf
    refine Ct.of rfl (Nat.le_of_ble_eq_true rfl) rfl ?_
    subst hp
    have loop : ∀ (n c : Nat) (i : Int32) (v : Int32), c + n = 64 → i = nI c → (v = foldN (cbM S a w) (fun _ x => x + 1) 0 c) → X l G mX3_capsBeside (rmK d 0 0) (TGm G (fun v h' z' => Q v h' ∧ z' = z) 0 0) 0 0 5 [(0, .ref b), (1, .int (nI a)), (2, .int w), (3, .int v), (4, .int i)] [] h z := by
      intro  n
      induction n using Nat.strongRecOn with
      | _ n ih =>
      intro c i v  hc hi hv
      subst hi
      refine X.w wkX3_capsBeside (fcons (ceV k_farOf mmR2 ckX3_253 rfl mrR2 (by omega) rfl) fnil) [5] 34 rfl ?_
      refine And.intro (fun b9 => ?_) (fun b9 => ?_)
      · simp only [cP, cN, bI_0, Bool.not_eq_false, lt_nle, Decidable.not_not] at b9
        have hc2 : 64 ≤ c := (le64 (by omega) (by omega)).mp b9
        obtain rfl : c = 64 := by omega
        exact And.intro (hs _ hv) rfl
      · simp only [cP, cN, bI_0, Bool.not_eq_false, lt_nle, Decidable.not_not] at b9
        have hc2 : c < 64 := nle64 b9 (by omega) (by omega)
        refine gF (by first | assumption | exact hm.obj | exact hm.arr _ rfl) ?_
        refine gA (by first | assumption | exact hm.obj | exact hm.arr _ rfl) (by first | exact ixN (by omega) (by decide) | exact ixz (by omega) (by decide) | exact ixa (a := 64) rfl (by omega) (by decide) | exact ixa (a := 128) rfl (by omega) (by decide) | exact ixa (a := 192) rfl (by omega) (by decide) | exact ixa (a := 256) rfl (by omega) (by decide) | exact ixa (a := 262) rfl (by omega) (by decide) | exact ixa (a := 268) rfl (by omega) (by decide) | exact ixa (a := 274) rfl (by omega) (by decide) | exact ixa (a := 348) rfl (by omega) (by decide) | exact ixa (a := 400) rfl (by omega) (by decide)) ?_
        refine And.intro (fun b21 => ?_) (fun b21 => ?_)
        · simp only [cP, cN, bI_0, Bool.not_eq_false, lt_nle, Decidable.not_not] at b21
          refine ih (n - 1) (by omega) (c + 1) _ _ (by omega) (nI_1 c) ?_
          rw [hv, foldN_f (show cbM S a w c = false from by simp only [cbM, capM, lt_nle, b9, b21, decide_true, decide_false, Bool.and_true, Bool.true_and, Bool.and_false, Bool.false_and, Bool.or_true, Bool.true_or, Bool.or_false, Bool.false_or, not_true_eq_false, not_false_eq_true, Bool.not_true, Bool.not_false, decide_not, if_true, if_false, and_true, true_and, and_false, false_and, or_true, true_or, or_false, false_or, Bool.false_eq_true])]
        · simp only [cP, cN, bI_0, Bool.not_eq_false, lt_nle, Decidable.not_not] at b21
          refine Exists.intro _ (Exists.intro () (And.intro hm (And.intro trivial ?_)))
          intro v28 e28
          subst e28
          refine And.intro (fun b32 => ?_) (fun b32 => ?_)
          · simp only [cP, cN, bI_0, Bool.not_eq_false, lt_nle, Decidable.not_not] at b32
            refine ih (n - 1) (by omega) (c + 1) _ _ (by omega) (nI_1 c) ?_
            rw [hv, foldN_f (show cbM S a w c = false from by simp only [cbM, capM, lt_nle, b9, b21, b32, decide_true, decide_false, Bool.and_true, Bool.true_and, Bool.and_false, Bool.false_and, Bool.or_true, Bool.true_or, Bool.or_false, Bool.false_or, not_true_eq_false, not_false_eq_true, Bool.not_true, Bool.not_false, decide_not, if_true, if_false, and_true, true_and, and_false, false_and, or_true, true_or, or_false, false_or, Bool.false_eq_true])]
          · simp only [cP, cN, bI_0, Bool.not_eq_false, lt_nle, Decidable.not_not] at b32
            refine And.intro (fun b36 => ?_) (fun b36 => ?_)
            · simp only [cP, cN, bI_0, Bool.not_eq_false, lt_nle, Decidable.not_not] at b36
              refine ih (n - 1) (by omega) (c + 1) _ _ (by omega) (nI_1 c) ?_
              rw [hv, foldN_t (show cbM S a w c = true from by simp only [cbM, capM, lt_nle, b9, b21, b32, b36, decide_true, decide_false, Bool.and_true, Bool.true_and, Bool.and_false, Bool.false_and, Bool.or_true, Bool.true_or, Bool.or_false, Bool.false_or, not_true_eq_false, not_false_eq_true, Bool.not_true, Bool.not_false, decide_not, if_true, if_false, and_true, true_and, and_false, false_and, or_true, true_or, or_false, false_or, Bool.false_eq_true])]
            · simp only [cP, cN, bI_0, Bool.not_eq_false, lt_nle, Decidable.not_not] at b36
              refine gF (by first | assumption | exact hm.obj | exact hm.arr _ rfl) ?_
              refine gA (by first | assumption | exact hm.obj | exact hm.arr _ rfl) (by first | exact ixN (by omega) (by decide) | exact ixz (by omega) (by decide) | exact ixa (a := 64) rfl (by omega) (by decide) | exact ixa (a := 128) rfl (by omega) (by decide) | exact ixa (a := 192) rfl (by omega) (by decide) | exact ixa (a := 256) rfl (by omega) (by decide) | exact ixa (a := 262) rfl (by omega) (by decide) | exact ixa (a := 268) rfl (by omega) (by decide) | exact ixa (a := 274) rfl (by omega) (by decide) | exact ixa (a := 348) rfl (by omega) (by decide) | exact ixa (a := 400) rfl (by omega) (by decide)) ?_
              refine And.intro (fun b49 => ?_) (fun b49 => ?_)
              · simp only [cP, cN, bI_0, Bool.not_eq_false, lt_nle, Decidable.not_not] at b49
                refine ih (n - 1) (by omega) (c + 1) _ _ (by omega) (nI_1 c) ?_
                rw [hv, foldN_f (show cbM S a w c = false from by simp only [cbM, capM, lt_nle, b9, b21, b32, b36, b49, decide_true, decide_false, Bool.and_true, Bool.true_and, Bool.and_false, Bool.false_and, Bool.or_true, Bool.true_or, Bool.or_false, Bool.false_or, not_true_eq_false, not_false_eq_true, Bool.not_true, Bool.not_false, decide_not, if_true, if_false, and_true, true_and, and_false, false_and, or_true, true_or, or_false, false_or, Bool.false_eq_true])]
              · simp only [cP, cN, bI_0, Bool.not_eq_false, lt_nle, Decidable.not_not] at b49
                refine ih (n - 1) (by omega) (c + 1) _ _ (by omega) (nI_1 c) ?_
                rw [hv, foldN_t (show cbM S a w c = true from by have b2 := b21; rw [b49] at b2; simp only [cbM, capM, lt_nle, b2, b9, b21, b32, b36, b49, decide_true, decide_false, Bool.and_true, Bool.true_and, Bool.and_false, Bool.false_and, Bool.or_true, Bool.true_or, Bool.or_false, Bool.false_or, not_true_eq_false, not_false_eq_true, Bool.not_true, Bool.not_false, decide_not, if_true, if_false, and_true, true_and, and_false, false_and, or_true, true_or, or_false, false_or, Bool.false_eq_true])]
    refine X.w wkX3_capsBeside (fcons (ceV k_farOf mmR2 ckX3_253 rfl mrR2 (by omega) rfl) fnil) [5] 6 rfl ?_
    exact loop 64 0 _ _ rfl rfl rfl
def arM (S : SS) (c r : Int32) : Bool := isCellM S c && isInB r 0 14
theorem k_isAround : CtS mX3_isAround 2 (mR2 (fun (a : Unit) c r S => True) (fun (a : Unit) c r S => bI (arM S c r))) := by
  intro l G d hd as h z Q hs
  match as, hs with
  | [.ref b, .int c, .int r], hs =>
    obtain ⟨S, a, hm, hp, hs⟩ := hs
    replace hp : True := hp
    replace hs : ∀ r9, r9 = bI (arM S c r) → Q (some (.int r9)) h := hs
    have hf : FrM b h h := FrM.rf
    refine Ct.of rfl (Nat.le_of_ble_eq_true rfl) rfl ?_
    refine X.w wkX3_isAround (fcons (ceV k_isIn mmR3 ckX3_107 rfl mrR3 (by omega) rfl) (fcons (ceV k_isCell mmR1 ckX3_129 rfl mrR1 (by omega) rfl) fnil)) [] 14 rfl ?_
    refine Exists.intro _ (Exists.intro () (And.intro hm (And.intro trivial ?_)))
    intro v2 e2
    subst e2
    refine And.intro (fun b5 => ?_) (fun b5 => ?_)
    · simp only [cP, cN, bI_0, Bool.not_eq_false, lt_nle, Decidable.not_not] at b5
      refine And.intro (by first | exact Or.inl rfl | exact Or.inr rfl | exact bI_01 _) ?_
      exact And.intro (hs _ (by rw [show (arM S c r) = false from by simp only [arM, lt_nle, b5, decide_true, decide_false, Bool.and_true, Bool.true_and, Bool.and_false, Bool.false_and, Bool.or_true, Bool.true_or, Bool.or_false, Bool.false_or, not_true_eq_false, not_false_eq_true, Bool.not_true, Bool.not_false, decide_not, if_true, if_false, and_true, true_and, and_false, false_and, or_true, true_or, or_false, false_or, Bool.false_eq_true]]; rfl)) rfl
    · simp only [cP, cN, bI_0, Bool.not_eq_false, lt_nle, Decidable.not_not] at b5
      refine Exists.intro _ (Exists.intro () (And.intro hm (And.intro trivial ?_)))
      intro v13 e13
      subst e13
      refine And.intro (fun b16 => ?_) (fun b16 => ?_)
      · simp only [cP, cN, bI_0, Bool.not_eq_false, lt_nle, Decidable.not_not] at b16
        refine And.intro (by first | exact Or.inl rfl | exact Or.inr rfl | exact bI_01 _) ?_
        exact And.intro (hs _ (by rw [show (arM S c r) = false from by simp only [arM, lt_nle, b5, b16, decide_true, decide_false, Bool.and_true, Bool.true_and, Bool.and_false, Bool.false_and, Bool.or_true, Bool.true_or, Bool.or_false, Bool.false_or, not_true_eq_false, not_false_eq_true, Bool.not_true, Bool.not_false, decide_not, if_true, if_false, and_true, true_and, and_false, false_and, or_true, true_or, or_false, false_or, Bool.false_eq_true]]; rfl)) rfl
      · simp only [cP, cN, bI_0, Bool.not_eq_false, lt_nle, Decidable.not_not] at b16
        refine And.intro (by first | exact Or.inl rfl | exact Or.inr rfl | exact bI_01 _) ?_
        exact And.intro (hs _ (by rw [show (arM S c r) = true from by simp only [arM, lt_nle, b5, b16, decide_true, decide_false, Bool.and_true, Bool.true_and, Bool.and_false, Bool.false_and, Bool.or_true, Bool.true_or, Bool.or_false, Bool.false_or, not_true_eq_false, not_false_eq_true, Bool.not_true, Bool.not_false, decide_not, if_true, if_false, and_true, true_and, and_false, false_and, or_true, true_or, or_false, false_or, Bool.false_eq_true]]; rfl)) rfl
def craM (S : SS) (ce0 r : Int32) (c : Nat) : Bool := capM S c && decide (farI (nI c) ce0 ≤ r)
theorem k_isCapAround : CtS mX3_isCapAround 3 (mR3 (fun (a : Nat) u ce0 r S => u = nI a ∧ a < 64) (fun (a : Nat) u ce0 r S => bI (craM S ce0 r a))) := by
  intro l G d hd as h z Q hs
  match as, hs with
  | [.ref b, .int u, .int ce0, .int r], hs =>
    obtain ⟨S, a, hm, hp, hs⟩ := hs
    replace hp : u = nI a ∧ a < 64 := hp
    replace hs : ∀ r9, r9 = bI (craM S ce0 r a) → Q (some (.int r9)) h := hs
    have hf : FrM b h h := FrM.rf
    refine Ct.of rfl (Nat.le_of_ble_eq_true rfl) rfl ?_
    obtain ⟨rfl, ha⟩ := hp
    refine X.w wkX3_isCapAround (fcons (ceV k_farOf mmR2 ckX3_253 rfl mrR2 (by omega) rfl) fnil) [] 17 rfl ?_
    refine gF (by first | assumption | exact hm.obj | exact hm.arr _ rfl) ?_
    refine gA (by first | assumption | exact hm.obj | exact hm.arr _ rfl) (by first | exact ixN (by omega) (by decide) | exact ixz (by omega) (by decide) | exact ixa (a := 64) rfl (by omega) (by decide) | exact ixa (a := 128) rfl (by omega) (by decide) | exact ixa (a := 192) rfl (by omega) (by decide) | exact ixa (a := 256) rfl (by omega) (by decide) | exact ixa (a := 262) rfl (by omega) (by decide) | exact ixa (a := 268) rfl (by omega) (by decide) | exact ixa (a := 274) rfl (by omega) (by decide) | exact ixa (a := 348) rfl (by omega) (by decide) | exact ixa (a := 400) rfl (by omega) (by decide)) ?_
    refine And.intro (fun b8 => ?_) (fun b8 => ?_)
    · simp only [cP, cN, bI_0, Bool.not_eq_false, lt_nle, Decidable.not_not] at b8
      refine And.intro (by first | exact Or.inl rfl | exact Or.inr rfl | exact bI_01 _) ?_
      exact And.intro (hs _ (by rw [show craM S ce0 r a = false from by simp only [craM, capM, lt_nle, b8, decide_true, decide_false, Bool.and_true, Bool.true_and, Bool.and_false, Bool.false_and, Bool.or_true, Bool.true_or, Bool.or_false, Bool.false_or, not_true_eq_false, not_false_eq_true, Bool.not_true, Bool.not_false, decide_not, if_true, if_false, and_true, true_and, and_false, false_and, or_true, true_or, or_false, false_or, Bool.false_eq_true]]; rfl)) rfl
    · simp only [cP, cN, bI_0, Bool.not_eq_false, lt_nle, Decidable.not_not] at b8
      refine Exists.intro _ (Exists.intro () (And.intro hm (And.intro trivial ?_)))
      intro v14 e14
      subst e14
      refine And.intro (fun b18 => ?_) (fun b18 => ?_)
      · simp only [cP, cN, bI_0, Bool.not_eq_false, lt_nle, Decidable.not_not] at b18
        refine And.intro (by first | exact Or.inl rfl | exact Or.inr rfl | exact bI_01 _) ?_
        exact And.intro (hs _ (by rw [show craM S ce0 r a = false from by simp only [craM, capM, lt_nle, b8, b18, decide_true, decide_false, Bool.and_true, Bool.true_and, Bool.and_false, Bool.false_and, Bool.or_true, Bool.true_or, Bool.or_false, Bool.false_or, not_true_eq_false, not_false_eq_true, Bool.not_true, Bool.not_false, decide_not, if_true, if_false, and_true, true_and, and_false, false_and, or_true, true_or, or_false, false_or, Bool.false_eq_true]]; rfl)) rfl
      · simp only [cP, cN, bI_0, Bool.not_eq_false, lt_nle, Decidable.not_not] at b18
        refine And.intro (by first | exact Or.inl rfl | exact Or.inr rfl | exact bI_01 _) ?_
        exact And.intro (hs _ (by rw [show craM S ce0 r a = true from by simp only [craM, capM, lt_nle, b8, b18, decide_true, decide_false, Bool.and_true, Bool.true_and, Bool.and_false, Bool.false_and, Bool.or_true, Bool.true_or, Bool.or_false, Bool.false_or, not_true_eq_false, not_false_eq_true, Bool.not_true, Bool.not_false, decide_not, if_true, if_false, and_true, true_and, and_false, false_and, or_true, true_or, or_false, false_or, Bool.false_eq_true]]; rfl)) rfl
def unsM (S : SS) (ce0 r : Int32) : Int32 := if arM S ce0 r = true then foldN (craM S ce0 r) (fun c x => x ||| (1 : Int32) <<< ((S 1 c - 1) &&& 31)) 0 64 else -1
theorem k_unsaid : CtS mX3_unsaid 4 (mW2 (fun (a : Unit) ce0 r S => True) (fun (a : Unit) ce0 r S v S' => v = unsM (tl S) ce0 r ∧ S' = tl S)) := by
  intro l G d hd as h z Q hs
  match as, hs with
  | [.ref b, .int ce0, .int r], hs =>
    obtain ⟨S, a, hm, hp, hs⟩ := hs
    replace hp : True := hp
    replace hs : ∀ v S' h', (v = unsM (tl S) ce0 r ∧ S' = tl S) → IsMod G b S' h' → FrM b h h' → Q (some (.int v)) h' := hs
    have hf : FrM b h h := FrM.rf
    refine Ct.of rfl (Nat.le_of_ble_eq_true rfl) rfl ?_
    refine X.w wkX3_unsaid (fcons (ceV k_isCapAround mmR3 ckX3_301 rfl mrR3 (by omega) rfl) (fcons (ceV k_isAround mmR2 ckX3_297 rfl mrR2 (by omega) rfl) fnil)) [5] 5 rfl ?_
    refine pF0 (okV_W rfl) (by first | assumption | exact hm.obj | exact hm.arr _ rfl) (Nat.le_of_ble_eq_true rfl) (by first | exact hm.N | exact hm.No _) ?_
    intro h2 e2
    have hm := hm.u0 e2 rfl; have hf := hf.u0 e2
    replace hm : IsMod G b (tl S) h2 := hm
    generalize tl S = S at hm hs hp
    replace hs : ∀ v h', v = unsM S ce0 r → IsMod G b S h' → FrM b h h' → Q (some (.int v)) h' := fun v h' e => hs v S h' ⟨e, rfl⟩
    have loop : ∀ (n c : Nat) (i : Int32) (v : Int32), c + n = 64 → i = nI c → (arM S ce0 r = true) → (v = foldN (craM S ce0 r) (fun c x => x ||| (1 : Int32) <<< ((S 1 c - 1) &&& 31)) 0 c) → X l G mX3_unsaid (rmK d 0 0) (TGm G (fun v h' z' => Q v h' ∧ z' = z) 0 0) 0 0 21 [(0, .ref b), (1, .int ce0), (2, .int r), (3, .int v), (4, .int i)] [] h2 z := by
      intro  n
      induction n using Nat.strongRecOn with
      | _ n ih =>
      intro c i v  hc hi har hv
      subst hi
      refine X.w wkX3_unsaid (fcons (ceV k_isCapAround mmR3 ckX3_301 rfl mrR3 (by omega) rfl) (fcons (ceV k_isAround mmR2 ckX3_297 rfl mrR2 (by omega) rfl) fnil)) [21] 26 rfl ?_
      refine And.intro (fun b25 => ?_) (fun b25 => ?_)
      · simp only [cP, cN, bI_0, Bool.not_eq_false, lt_nle, Decidable.not_not] at b25
        have hc2 : 64 ≤ c := (le64 (by omega) (by omega)).mp b25
        obtain rfl : c = 64 := by omega
        exact And.intro (hs _ _ (by rw [hv]; unfold unsM; rw [if_pos har]) hm hf) rfl
      · simp only [cP, cN, bI_0, Bool.not_eq_false, lt_nle, Decidable.not_not] at b25
        have hc2 : c < 64 := nle64 b25 (by omega) (by omega)
        refine Exists.intro _ (Exists.intro c (And.intro hm (And.intro ⟨rfl, hc2⟩ ?_)))
        intro v33 e33
        subst e33
        refine And.intro (fun b36 => ?_) (fun b36 => ?_)
        · simp only [cP, cN, bI_0, Bool.not_eq_false, lt_nle, Decidable.not_not] at b36
          refine ih (n - 1) (by omega) (c + 1) _ _ (by omega) (nI_1 c) har ?_
          rw [hv, foldN_f (show craM S ce0 r c = false from b36)]
        · simp only [cP, cN, bI_0, Bool.not_eq_false, lt_nle, Decidable.not_not] at b36
          refine gF (by first | assumption | exact hm.obj | exact hm.arr _ rfl) ?_
          refine gA (by first | assumption | exact hm.obj | exact hm.arr _ rfl) (by first | exact ixN (by omega) (by decide) | exact ixz (by omega) (by decide) | exact ixa (a := 64) rfl (by omega) (by decide) | exact ixa (a := 128) rfl (by omega) (by decide) | exact ixa (a := 192) rfl (by omega) (by decide) | exact ixa (a := 256) rfl (by omega) (by decide) | exact ixa (a := 262) rfl (by omega) (by decide) | exact ixa (a := 268) rfl (by omega) (by decide) | exact ixa (a := 274) rfl (by omega) (by decide) | exact ixa (a := 348) rfl (by omega) (by decide) | exact ixa (a := 400) rfl (by omega) (by decide)) ?_
          refine ih (n - 1) (by omega) (c + 1) _ _ (by omega) (nI_1 c) har ?_
          rw [hv, foldN_t (show craM S ce0 r c = true from b36)]
    refine X.w wkX3_unsaid (fcons (ceV k_isCapAround mmR3 ckX3_301 rfl mrR3 (by omega) rfl) (fcons (ceV k_isAround mmR2 ckX3_297 rfl mrR2 (by omega) rfl) fnil)) [21] 11 rfl ?_
    refine Exists.intro _ (Exists.intro () (And.intro hm (And.intro trivial ?_)))
    intro v8 e8
    subst e8
    refine And.intro (fun b11 => ?_) (fun b11 => ?_)
    · simp only [cP, cN, bI_0, Bool.not_eq_false, lt_nle, Decidable.not_not] at b11
      exact loop 64 0 _ _ rfl rfl b11 rfl
    · simp only [cP, cN, bI_0, Bool.not_eq_false, lt_nle, Decidable.not_not] at b11
      exact And.intro (hs _ _ (by unfold unsM; rw [b11]; rfl) hm hf) rfl
/-- every cap has a word -/
def wdM (S : SS) : Prop := ∀ c, c < 64 → capM S c = true → ∃ k, k < 12 ∧ S 1 c - 1 = nI k
def grvP (S : SS) (r : Int32) (a : Nat) : Int32 := foldN (craM S (nI a) r) (fun c x => x + S 1 (64 + c) * S 4 (gN (S 1 c - 1))) 0 64
theorem k_groveAt : CtS mX3_groveAt 4 (mR2 (fun (a : Unit) ce0 r S => wdM S) (fun (a : Unit) ce0 r S => foldN (craM S ce0 r) (fun c x => x + S 1 (64 + c) * S 4 (gN (S 1 c - 1))) 0 64)) := by
  intro l G d hd as h z Q hs
  match as, hs with
  | [.ref b, .int ce0, .int r], hs =>
    obtain ⟨S, a, hm, hp, hs⟩ := hs
    replace hp : wdM S := hp
    replace hs : ∀ r9, r9 = foldN (craM S ce0 r) (fun c x => x + S 1 (64 + c) * S 4 (gN (S 1 c - 1))) 0 64 → Q (some (.int r9)) h := hs
    have hf : FrM b h h := FrM.rf
    refine Ct.of rfl (Nat.le_of_ble_eq_true rfl) rfl ?_
    have loop : ∀ (n c : Nat) (i : Int32) (v : Int32), c + n = 64 → i = nI c → (v = foldN (craM S ce0 r) (fun c x => x + S 1 (64 + c) * S 4 (gN (S 1 c - 1))) 0 c) → X l G mX3_groveAt (rmK d 0 0) (TGm G (fun v h' z' => Q v h' ∧ z' = z) 0 0) 0 0 5 [(0, .ref b), (1, .int ce0), (2, .int r), (3, .int v), (4, .int i)] [] h z := by
      intro  n
      induction n using Nat.strongRecOn with
      | _ n ih =>
      intro c i v  hc hi hv
      subst hi
      refine X.w wkX3_groveAt (fcons (ceV k_isCapAround mmR3 ckX3_301 rfl mrR3 (by omega) rfl) fnil) [5] 34 rfl ?_
      refine And.intro (fun b9 => ?_) (fun b9 => ?_)
      · simp only [cP, cN, bI_0, Bool.not_eq_false, lt_nle, Decidable.not_not] at b9
        have hc2 : 64 ≤ c := (le64 (by omega) (by omega)).mp b9
        obtain rfl : c = 64 := by omega
        exact And.intro (hs _ hv) rfl
      · simp only [cP, cN, bI_0, Bool.not_eq_false, lt_nle, Decidable.not_not] at b9
        have hc2 : c < 64 := nle64 b9 (by omega) (by omega)
        refine Exists.intro _ (Exists.intro c (And.intro hm (And.intro ⟨rfl, hc2⟩ ?_)))
        intro v17 e17
        subst e17
        refine And.intro (fun b20 => ?_) (fun b20 => ?_)
        · simp only [cP, cN, bI_0, Bool.not_eq_false, lt_nle, Decidable.not_not] at b20
          refine ih (n - 1) (by omega) (c + 1) _ _ (by omega) (nI_1 c) ?_
          rw [hv, foldN_f (show craM S ce0 r c = false from b20)]
        · simp only [cP, cN, bI_0, Bool.not_eq_false, lt_nle, Decidable.not_not] at b20
          obtain ⟨k, hk, ek⟩ := hp c hc2 (by have h9 := b20; unfold craM at h9; rw [Bool.and_eq_true] at h9; exact h9.1)
          refine gF (by first | assumption | exact hm.obj | exact hm.arr _ rfl) ?_
          refine gA (by first | assumption | exact hm.obj | exact hm.arr _ rfl) (by first | exact ixN (by omega) (by decide) | exact ixz (by omega) (by decide) | exact ixa (a := 64) rfl (by omega) (by decide) | exact ixa (a := 128) rfl (by omega) (by decide) | exact ixa (a := 192) rfl (by omega) (by decide) | exact ixa (a := 256) rfl (by omega) (by decide) | exact ixa (a := 262) rfl (by omega) (by decide) | exact ixa (a := 268) rfl (by omega) (by decide) | exact ixa (a := 274) rfl (by omega) (by decide) | exact ixa (a := 348) rfl (by omega) (by decide) | exact ixa (a := 400) rfl (by omega) (by decide)) ?_
          refine gF (by first | assumption | exact hm.obj | exact hm.arr _ rfl) ?_
          refine gF (by first | assumption | exact hm.obj | exact hm.arr _ rfl) ?_
          refine gA (by first | assumption | exact hm.obj | exact hm.arr _ rfl) (by first | exact ixN (by omega) (by decide) | exact ixz (by omega) (by decide) | exact ixa (a := 64) rfl (by omega) (by decide) | exact ixa (a := 128) rfl (by omega) (by decide) | exact ixa (a := 192) rfl (by omega) (by decide) | exact ixa (a := 256) rfl (by omega) (by decide) | exact ixa (a := 262) rfl (by omega) (by decide) | exact ixa (a := 268) rfl (by omega) (by decide) | exact ixa (a := 274) rfl (by omega) (by decide) | exact ixa (a := 348) rfl (by omega) (by decide) | exact ixa (a := 400) rfl (by omega) (by decide)) ?_
          refine gA (by first | assumption | exact hm.obj | exact hm.arr _ rfl) (ixE ek hk (by decide)) ?_
          refine ih (n - 1) (by omega) (c + 1) _ _ (by omega) (nI_1 c) ?_
          rw [hv, foldN_t b20, ek, gN_nI (by omega)]
    refine X.w wkX3_groveAt (fcons (ceV k_isCapAround mmR3 ckX3_301 rfl mrR3 (by omega) rfl) fnil) [5] 6 rfl ?_
    exact loop 64 0 _ _ rfl rfl rfl
def grvM (S : SS) (ce0 r : Int32) : Int32 := foldN (craM S ce0 r) (fun c x => x + S 1 (64 + c) * S 4 (gN (S 1 c - 1))) 0 64
def bestM (S : SS) (r : Int32) : Nat → Int32
  | 0 => 0
  | c + 1 => if isCellM S (nI c) = true ∧ grvM S (bestM S r c) r < grvM S (nI c) r then nI c else bestM S r c
def groM (S : SS) (r w : Int32) : Int32 := if isInB r 0 14 = true ∧ isInB w 0 1 = true then (if w = 0 then bestM S r 64 else grvM S (bestM S r 64) r) else -1
def wdP (S : SS) (_ _ : Int32) : Prop := wdM S
theorem k_grove : CtS mX3_grove 5 (mW2 (fun (a : Unit) r w S => wdP S r w) (fun (a : Unit) r w S v S' => v = groM (tl S) r w ∧ S' = tl S)) := by
  intro l G d hd as h z Q hs
  match as, hs with
  | [.ref b, .int r, .int w], hs =>
    obtain ⟨S, a, hm, hp, hs⟩ := hs
    replace hp : wdP S r w := hp
    replace hs : ∀ v S' h', (v = groM (tl S) r w ∧ S' = tl S) → IsMod G b S' h' → FrM b h h' → Q (some (.int v)) h' := hs
    have hf : FrM b h h := FrM.rf
    refine Ct.of rfl (Nat.le_of_ble_eq_true rfl) rfl ?_
    refine X.w wkX3_grove (fcons (ceV k_groveAt mmR2 ckX3_307 rfl mrR2 (by omega) rfl) (fcons (ceV k_isCell mmR1 ckX3_129 rfl mrR1 (by omega) rfl) (fcons (ceV k_isIn mmR3 ckX3_107 rfl mrR3 (by omega) rfl) fnil))) [5] 5 rfl ?_
    refine pF0 (okV_W rfl) (by first | assumption | exact hm.obj | exact hm.arr _ rfl) (Nat.le_of_ble_eq_true rfl) (by first | exact hm.N | exact hm.No _) ?_
    intro h2 e2
    have hm := hm.u0 e2 rfl; have hf := hf.u0 e2
    replace hm : IsMod G b (tl S) h2 := hm
    replace hp : wdP (tl S) r w := hp
    generalize tl S = S at hm hs hp
    replace hs : ∀ v h', v = groM S r w → IsMod G b S h' → FrM b h h' → Q (some (.int v)) h' := fun v h' e => hs v S h' ⟨e, rfl⟩
    have loop : ∀ (n c : Nat) (i : Int32) (v : Int32), c + n = 64 → i = nI c → (isInB r 0 14 = true) → (isInB w 0 1 = true) → (v = bestM S r c) → X l G mX3_grove (rmK d 0 0) (TGm G (fun v h' z' => Q v h' ∧ z' = z) 0 0) 0 0 33 [(0, .ref b), (1, .int r), (2, .int w), (3, .int v), (4, .int i)] [] h2 z := by
      intro  n
      induction n using Nat.strongRecOn with
      | _ n ih =>
      intro c i v  hc hi h1 h3 hv
      subst hi
      refine X.w wkX3_grove (fcons (ceV k_groveAt mmR2 ckX3_307 rfl mrR2 (by omega) rfl) (fcons (ceV k_isCell mmR1 ckX3_129 rfl mrR1 (by omega) rfl) (fcons (ceV k_isIn mmR3 ckX3_107 rfl mrR3 (by omega) rfl) fnil))) [33] 22 rfl ?_
      refine And.intro (fun b37 => ?_) (fun b37 => ?_)
      · simp only [cP, cN, bI_0, Bool.not_eq_false, lt_nle, Decidable.not_not] at b37
        have hc2 : 64 ≤ c := (le64 (by omega) (by omega)).mp b37
        obtain rfl : c = 64 := by omega
        refine And.intro (fun b75 => ?_) (fun b75 => ?_)
        · simp only [cP, cN, bI_0, Bool.not_eq_false, lt_nle, Decidable.not_not] at b75
          refine Exists.intro _ (Exists.intro () (And.intro hm (And.intro hp ?_)))
          intro v85 e85
          (try dsimp only at e85)
          exact And.intro (hs _ _ (by unfold groM; rw [if_pos ⟨h1, h3⟩, if_neg b75, ← hv]; exact e85) hm hf) rfl
        · simp only [cP, cN, bI_0, Bool.not_eq_false, lt_nle, Decidable.not_not] at b75
          exact And.intro (hs _ _ (by unfold groM; rw [if_pos ⟨h1, h3⟩, if_pos b75]; exact hv) hm hf) rfl
      · simp only [cP, cN, bI_0, Bool.not_eq_false, lt_nle, Decidable.not_not] at b37
        have hc2 : c < 64 := nle64 b37 (by omega) (by omega)
        refine Exists.intro _ (Exists.intro () (And.intro hm (And.intro trivial ?_)))
        intro v43 e43
        subst e43
        refine And.intro (fun b46 => ?_) (fun b46 => ?_)
        · simp only [cP, cN, bI_0, Bool.not_eq_false, lt_nle, Decidable.not_not] at b46
          refine ih (n - 1) (by omega) (c + 1) _ _ (by omega) (nI_1 c) h1 h3 ?_
          unfold bestM; rw [if_neg (fun q => by rw [b46] at q; exact nomatch q.1)]; exact hv
        · simp only [cP, cN, bI_0, Bool.not_eq_false, lt_nle, Decidable.not_not] at b46
          refine Exists.intro _ (Exists.intro () (And.intro hm (And.intro hp ?_)))
          intro v53 e53
          (try dsimp only at e53)
          refine Exists.intro _ (Exists.intro () (And.intro hm (And.intro hp ?_)))
          intro v59 e59
          (try dsimp only at e59)
          refine And.intro (fun b62 => ?_) (fun b62 => ?_)
          · simp only [cP, cN, bI_0, Bool.not_eq_false, lt_nle, Decidable.not_not] at b62
            refine ih (n - 1) (by omega) (c + 1) _ _ (by omega) (nI_1 c) h1 h3 ?_
            unfold bestM; rw [if_neg (fun q => by have q2 := q.2; rw [lt_nle, ← hv] at q2; exact q2 (by rw [e53, e59] at b62; exact b62))]; exact hv
          · simp only [cP, cN, bI_0, Bool.not_eq_false, lt_nle, Decidable.not_not] at b62
            refine ih (n - 1) (by omega) (c + 1) _ _ (by omega) (nI_1 c) h1 h3 ?_
            unfold bestM; rw [if_pos ⟨b46, by rw [lt_nle, ← hv]; intro q; exact b62 (by rw [e53, e59]; exact q)⟩]
    refine X.w wkX3_grove (fcons (ceV k_groveAt mmR2 ckX3_307 rfl mrR2 (by omega) rfl) (fcons (ceV k_isCell mmR1 ckX3_129 rfl mrR1 (by omega) rfl) (fcons (ceV k_isIn mmR3 ckX3_107 rfl mrR3 (by omega) rfl) fnil))) [33] 18 rfl ?_
    refine Exists.intro _ (Exists.intro () (And.intro hm (And.intro trivial ?_)))
    intro v10 e10
    subst e10
    refine And.intro (fun b13 => ?_) (fun b13 => ?_)
    · simp only [cP, cN, bI_0, Bool.not_eq_false, lt_nle, Decidable.not_not] at b13
      exact And.intro (hs _ _ (by unfold groM; rw [if_neg (fun q => by rw [b13] at q; exact nomatch q.1)]) hm hf) rfl
    · simp only [cP, cN, bI_0, Bool.not_eq_false, lt_nle, Decidable.not_not] at b13
      refine Exists.intro _ (Exists.intro () (And.intro hm (And.intro trivial ?_)))
      intro v20 e20
      subst e20
      refine And.intro (fun b23 => ?_) (fun b23 => ?_)
      · simp only [cP, cN, bI_0, Bool.not_eq_false, lt_nle, Decidable.not_not] at b23
        exact loop 64 0 _ _ rfl rfl b13 b23 rfl
      · simp only [cP, cN, bI_0, Bool.not_eq_false, lt_nle, Decidable.not_not] at b23
        exact And.intro (hs _ _ (by unfold groM; rw [if_neg (fun q => by rw [b23] at q; exact nomatch q.2)]) hm hf) rfl
