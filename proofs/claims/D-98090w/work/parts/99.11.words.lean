set_option maxRecDepth 100000
/-! THE READER: words -/
def knX (t : Nat → Int32) (a e : Nat) : Int32 := if isWB t a e 5 = true then 180 else if isWB t a e 6 = true then 181 else if isWB t a e 7 = true then 182 else if isWB t a e 8 = true then 183 else if isWB t a e 9 = true then 184 else if isWB t a e 10 = true then 185 else if isWB t a e 11 = true then 186 else if isWB t a e 12 = true then 187 else if isWB t a e 13 = true then 188 else 1
def kwX (t : Nat → Int32) (a e : Nat) : Int32 := if isWB t a e 1 = true then 3 else if isWB t a e 2 = true then 4 else if isWB t a e 3 = true then 5 else if isWB t a e 4 = true then 6 else if isWB t a e 0 = true then 7 else knX t a e
theorem r_known : CtS mX4_known (6) (rR0 (fun (a : Nat × Nat) c F => F 0 = nI a.2 ∧ F 1 = nI a.1 ∧ a.1 ≤ a.2 ∧ a.2 ≤ c.2.1 ∧ ∀ x, a.1 ≤ x → x < a.2 → letB (c.2.2.1 x) = true) (fun (a : Nat × Nat) c F => knX c.2.2.1 a.1 a.2)) := by
  intro l G d hd as h z Q hs
  match as, hs with
  | [.ref r], hs =>
    obtain ⟨c, F, a, hr, hp, hs⟩ := hs
    replace hp : F 0 = nI a.2 ∧ F 1 = nI a.1 ∧ a.1 ≤ a.2 ∧ a.2 ≤ c.2.1 ∧ ∀ x, a.1 ≤ x → x < a.2 → letB (c.2.2.1 x) = true := hp
    replace hs : ∀ r9, r9 = knX c.2.2.1 a.1 a.2 → Q (some (.int r9)) h := hs
    have hf : FrR r h h := FrR.rf
    obtain ⟨x, n, t, T, Xf⟩ := c
    (try dsimp only at hp hs)
    refine Ct.of rfl (Nat.le_of_ble_eq_true rfl) rfl ?_
    refine X.w wkX4_known fnil [1] 1 rfl ?_
    refine X.ldcL (i := 5) (by decide) rfl pkX4_known rfl ?_
    refine X.w wkX4_known (fcons (ceV r_is moIs ckX4_48 rfl rcIs (by omega) rfl) fnil) [13] 5 rfl ?_
    refine Exists.intro _ (Exists.intro _ (Exists.intro _ (Exists.intro _ (Exists.intro 5 (And.intro hr (And.intro hp (And.intro (by decide) (And.intro rfl ?_))))))))
    refine And.intro (fun b5 => ?_) (fun b5 => ?_)
    rotate_left 1
    · simp only [cP, cN, bI_0, Bool.not_eq_false, lt_nle, Decidable.not_not] at b5
      exact And.intro (hs _ (by unfold knX; rw [if_pos b5])) rfl
    simp only [cP, cN, bI_0, Bool.not_eq_false, lt_nle, Decidable.not_not] at b5
    refine X.w wkX4_known fnil [14] 1 rfl ?_
    refine X.ldcL (i := 6) (by decide) rfl pkX4_known rfl ?_
    refine X.w wkX4_known (fcons (ceV r_is moIs ckX4_48 rfl rcIs (by omega) rfl) fnil) [26] 5 rfl ?_
    refine Exists.intro _ (Exists.intro _ (Exists.intro _ (Exists.intro _ (Exists.intro 6 (And.intro hr (And.intro hp (And.intro (by decide) (And.intro rfl ?_))))))))
    refine And.intro (fun b6 => ?_) (fun b6 => ?_)
    rotate_left 1
    · simp only [cP, cN, bI_0, Bool.not_eq_false, lt_nle, Decidable.not_not] at b6
      exact And.intro (hs _ (by unfold knX; rw [if_neg (by rw [b5]; decide), if_pos b6])) rfl
    simp only [cP, cN, bI_0, Bool.not_eq_false, lt_nle, Decidable.not_not] at b6
    refine X.w wkX4_known fnil [27] 1 rfl ?_
    refine X.ldcL (i := 7) (by decide) rfl pkX4_known rfl ?_
    refine X.w wkX4_known (fcons (ceV r_is moIs ckX4_48 rfl rcIs (by omega) rfl) fnil) [39] 5 rfl ?_
    refine Exists.intro _ (Exists.intro _ (Exists.intro _ (Exists.intro _ (Exists.intro 7 (And.intro hr (And.intro hp (And.intro (by decide) (And.intro rfl ?_))))))))
    refine And.intro (fun b7 => ?_) (fun b7 => ?_)
    rotate_left 1
    · simp only [cP, cN, bI_0, Bool.not_eq_false, lt_nle, Decidable.not_not] at b7
      exact And.intro (hs _ (by unfold knX; rw [if_neg (by rw [b5]; decide), if_neg (by rw [b6]; decide), if_pos b7])) rfl
    simp only [cP, cN, bI_0, Bool.not_eq_false, lt_nle, Decidable.not_not] at b7
    refine X.w wkX4_known fnil [40] 1 rfl ?_
    refine X.ldcL (i := 8) (by decide) rfl pkX4_known rfl ?_
    refine X.w wkX4_known (fcons (ceV r_is moIs ckX4_48 rfl rcIs (by omega) rfl) fnil) [52] 5 rfl ?_
    refine Exists.intro _ (Exists.intro _ (Exists.intro _ (Exists.intro _ (Exists.intro 8 (And.intro hr (And.intro hp (And.intro (by decide) (And.intro rfl ?_))))))))
    refine And.intro (fun b8 => ?_) (fun b8 => ?_)
    rotate_left 1
    · simp only [cP, cN, bI_0, Bool.not_eq_false, lt_nle, Decidable.not_not] at b8
      exact And.intro (hs _ (by unfold knX; rw [if_neg (by rw [b5]; decide), if_neg (by rw [b6]; decide), if_neg (by rw [b7]; decide), if_pos b8])) rfl
    simp only [cP, cN, bI_0, Bool.not_eq_false, lt_nle, Decidable.not_not] at b8
    refine X.w wkX4_known fnil [53] 1 rfl ?_
    refine X.ldcL (i := 9) (by decide) rfl pkX4_known rfl ?_
    refine X.w wkX4_known (fcons (ceV r_is moIs ckX4_48 rfl rcIs (by omega) rfl) fnil) [65] 5 rfl ?_
    refine Exists.intro _ (Exists.intro _ (Exists.intro _ (Exists.intro _ (Exists.intro 9 (And.intro hr (And.intro hp (And.intro (by decide) (And.intro rfl ?_))))))))
    refine And.intro (fun b9 => ?_) (fun b9 => ?_)
    rotate_left 1
    · simp only [cP, cN, bI_0, Bool.not_eq_false, lt_nle, Decidable.not_not] at b9
      exact And.intro (hs _ (by unfold knX; rw [if_neg (by rw [b5]; decide), if_neg (by rw [b6]; decide), if_neg (by rw [b7]; decide), if_neg (by rw [b8]; decide), if_pos b9])) rfl
    simp only [cP, cN, bI_0, Bool.not_eq_false, lt_nle, Decidable.not_not] at b9
    refine X.w wkX4_known fnil [66] 1 rfl ?_
    refine X.ldcL (i := 10) (by decide) rfl pkX4_known rfl ?_
    refine X.w wkX4_known (fcons (ceV r_is moIs ckX4_48 rfl rcIs (by omega) rfl) fnil) [78] 5 rfl ?_
    refine Exists.intro _ (Exists.intro _ (Exists.intro _ (Exists.intro _ (Exists.intro 10 (And.intro hr (And.intro hp (And.intro (by decide) (And.intro rfl ?_))))))))
    refine And.intro (fun b10 => ?_) (fun b10 => ?_)
    rotate_left 1
    · simp only [cP, cN, bI_0, Bool.not_eq_false, lt_nle, Decidable.not_not] at b10
      exact And.intro (hs _ (by unfold knX; rw [if_neg (by rw [b5]; decide), if_neg (by rw [b6]; decide), if_neg (by rw [b7]; decide), if_neg (by rw [b8]; decide), if_neg (by rw [b9]; decide), if_pos b10])) rfl
    simp only [cP, cN, bI_0, Bool.not_eq_false, lt_nle, Decidable.not_not] at b10
    refine X.w wkX4_known fnil [79] 1 rfl ?_
    refine X.ldcL (i := 11) (by decide) rfl pkX4_known rfl ?_
    refine X.w wkX4_known (fcons (ceV r_is moIs ckX4_48 rfl rcIs (by omega) rfl) fnil) [91] 5 rfl ?_
    refine Exists.intro _ (Exists.intro _ (Exists.intro _ (Exists.intro _ (Exists.intro 11 (And.intro hr (And.intro hp (And.intro (by decide) (And.intro rfl ?_))))))))
    refine And.intro (fun b11 => ?_) (fun b11 => ?_)
    rotate_left 1
    · simp only [cP, cN, bI_0, Bool.not_eq_false, lt_nle, Decidable.not_not] at b11
      exact And.intro (hs _ (by unfold knX; rw [if_neg (by rw [b5]; decide), if_neg (by rw [b6]; decide), if_neg (by rw [b7]; decide), if_neg (by rw [b8]; decide), if_neg (by rw [b9]; decide), if_neg (by rw [b10]; decide), if_pos b11])) rfl
    simp only [cP, cN, bI_0, Bool.not_eq_false, lt_nle, Decidable.not_not] at b11
    refine X.w wkX4_known fnil [92] 1 rfl ?_
    refine X.ldcL (i := 12) (by decide) rfl pkX4_known rfl ?_
    refine X.w wkX4_known (fcons (ceV r_is moIs ckX4_48 rfl rcIs (by omega) rfl) fnil) [104] 5 rfl ?_
    refine Exists.intro _ (Exists.intro _ (Exists.intro _ (Exists.intro _ (Exists.intro 12 (And.intro hr (And.intro hp (And.intro (by decide) (And.intro rfl ?_))))))))
    refine And.intro (fun b12 => ?_) (fun b12 => ?_)
    rotate_left 1
    · simp only [cP, cN, bI_0, Bool.not_eq_false, lt_nle, Decidable.not_not] at b12
      exact And.intro (hs _ (by unfold knX; rw [if_neg (by rw [b5]; decide), if_neg (by rw [b6]; decide), if_neg (by rw [b7]; decide), if_neg (by rw [b8]; decide), if_neg (by rw [b9]; decide), if_neg (by rw [b10]; decide), if_neg (by rw [b11]; decide), if_pos b12])) rfl
    simp only [cP, cN, bI_0, Bool.not_eq_false, lt_nle, Decidable.not_not] at b12
    refine X.w wkX4_known fnil [105] 1 rfl ?_
    refine X.ldcL (i := 13) (by decide) rfl pkX4_known rfl ?_
    refine X.w wkX4_known (fcons (ceV r_is moIs ckX4_48 rfl rcIs (by omega) rfl) fnil) [] 7 rfl ?_
    refine Exists.intro _ (Exists.intro _ (Exists.intro _ (Exists.intro _ (Exists.intro 13 (And.intro hr (And.intro hp (And.intro (by decide) (And.intro rfl ?_))))))))
    refine And.intro (fun b13 => ?_) (fun b13 => ?_)
    rotate_left 1
    · simp only [cP, cN, bI_0, Bool.not_eq_false, lt_nle, Decidable.not_not] at b13
      exact And.intro (hs _ (by unfold knX; rw [if_neg (by rw [b5]; decide), if_neg (by rw [b6]; decide), if_neg (by rw [b7]; decide), if_neg (by rw [b8]; decide), if_neg (by rw [b9]; decide), if_neg (by rw [b10]; decide), if_neg (by rw [b11]; decide), if_neg (by rw [b12]; decide), if_pos b13])) rfl
    simp only [cP, cN, bI_0, Bool.not_eq_false, lt_nle, Decidable.not_not] at b13
    exact And.intro (hs _ (by unfold knX; rw [if_neg (by rw [b5]; decide), if_neg (by rw [b6]; decide), if_neg (by rw [b7]; decide), if_neg (by rw [b8]; decide), if_neg (by rw [b9]; decide), if_neg (by rw [b10]; decide), if_neg (by rw [b11]; decide), if_neg (by rw [b12]; decide), if_neg (by rw [b13]; decide)])) rfl
theorem r_keyword : CtS mX4_keyword (7) (rR0 (fun (a : Nat × Nat) c F => F 0 = nI a.2 ∧ F 1 = nI a.1 ∧ a.1 ≤ a.2 ∧ a.2 ≤ c.2.1 ∧ ∀ x, a.1 ≤ x → x < a.2 → letB (c.2.2.1 x) = true) (fun (a : Nat × Nat) c F => kwX c.2.2.1 a.1 a.2)) := by
  intro l G d hd as h z Q hs
  match as, hs with
  | [.ref r], hs =>
    obtain ⟨c, F, a, hr, hp, hs⟩ := hs
    replace hp : F 0 = nI a.2 ∧ F 1 = nI a.1 ∧ a.1 ≤ a.2 ∧ a.2 ≤ c.2.1 ∧ ∀ x, a.1 ≤ x → x < a.2 → letB (c.2.2.1 x) = true := hp
    replace hs : ∀ r9, r9 = kwX c.2.2.1 a.1 a.2 → Q (some (.int r9)) h := hs
    have hf : FrR r h h := FrR.rf
    obtain ⟨x, n, t, T, Xf⟩ := c
    (try dsimp only at hp hs)
    refine Ct.of rfl (Nat.le_of_ble_eq_true rfl) rfl ?_
    refine X.w wkX4_keyword fnil [1] 1 rfl ?_
    refine X.ldcL (i := 1) (by decide) rfl pkX4_keyword rfl ?_
    refine X.w wkX4_keyword (fcons (ceV r_is moIs ckX4_48 rfl rcIs (by omega) rfl) fnil) [11] 5 rfl ?_
    refine Exists.intro _ (Exists.intro _ (Exists.intro _ (Exists.intro _ (Exists.intro 1 (And.intro hr (And.intro hp (And.intro (by decide) (And.intro rfl ?_))))))))
    refine And.intro (fun b1 => ?_) (fun b1 => ?_)
    rotate_left 1
    · simp only [cP, cN, bI_0, Bool.not_eq_false, lt_nle, Decidable.not_not] at b1
      exact And.intro (hs _ (by unfold kwX; rw [if_pos b1])) rfl
    simp only [cP, cN, bI_0, Bool.not_eq_false, lt_nle, Decidable.not_not] at b1
    refine X.w wkX4_keyword fnil [12] 1 rfl ?_
    refine X.ldcL (i := 2) (by decide) rfl pkX4_keyword rfl ?_
    refine X.w wkX4_keyword (fcons (ceV r_is moIs ckX4_48 rfl rcIs (by omega) rfl) fnil) [22] 5 rfl ?_
    refine Exists.intro _ (Exists.intro _ (Exists.intro _ (Exists.intro _ (Exists.intro 2 (And.intro hr (And.intro hp (And.intro (by decide) (And.intro rfl ?_))))))))
    refine And.intro (fun b2 => ?_) (fun b2 => ?_)
    rotate_left 1
    · simp only [cP, cN, bI_0, Bool.not_eq_false, lt_nle, Decidable.not_not] at b2
      exact And.intro (hs _ (by unfold kwX; rw [if_neg (by rw [b1]; decide), if_pos b2])) rfl
    simp only [cP, cN, bI_0, Bool.not_eq_false, lt_nle, Decidable.not_not] at b2
    refine X.w wkX4_keyword fnil [23] 1 rfl ?_
    refine X.ldcL (i := 3) (by decide) rfl pkX4_keyword rfl ?_
    refine X.w wkX4_keyword (fcons (ceV r_is moIs ckX4_48 rfl rcIs (by omega) rfl) fnil) [33] 5 rfl ?_
    refine Exists.intro _ (Exists.intro _ (Exists.intro _ (Exists.intro _ (Exists.intro 3 (And.intro hr (And.intro hp (And.intro (by decide) (And.intro rfl ?_))))))))
    refine And.intro (fun b3 => ?_) (fun b3 => ?_)
    rotate_left 1
    · simp only [cP, cN, bI_0, Bool.not_eq_false, lt_nle, Decidable.not_not] at b3
      exact And.intro (hs _ (by unfold kwX; rw [if_neg (by rw [b1]; decide), if_neg (by rw [b2]; decide), if_pos b3])) rfl
    simp only [cP, cN, bI_0, Bool.not_eq_false, lt_nle, Decidable.not_not] at b3
    refine X.w wkX4_keyword fnil [34] 1 rfl ?_
    refine X.ldcL (i := 4) (by decide) rfl pkX4_keyword rfl ?_
    refine X.w wkX4_keyword (fcons (ceV r_is moIs ckX4_48 rfl rcIs (by omega) rfl) fnil) [45] 5 rfl ?_
    refine Exists.intro _ (Exists.intro _ (Exists.intro _ (Exists.intro _ (Exists.intro 4 (And.intro hr (And.intro hp (And.intro (by decide) (And.intro rfl ?_))))))))
    refine And.intro (fun b4 => ?_) (fun b4 => ?_)
    rotate_left 1
    · simp only [cP, cN, bI_0, Bool.not_eq_false, lt_nle, Decidable.not_not] at b4
      exact And.intro (hs _ (by unfold kwX; rw [if_neg (by rw [b1]; decide), if_neg (by rw [b2]; decide), if_neg (by rw [b3]; decide), if_pos b4])) rfl
    simp only [cP, cN, bI_0, Bool.not_eq_false, lt_nle, Decidable.not_not] at b4
    refine X.w wkX4_keyword fnil [46] 1 rfl ?_
    refine X.ldcL (i := 0) (by decide) rfl pkX4_keyword rfl ?_
    refine X.w wkX4_keyword (fcons (ceV r_is moIs ckX4_48 rfl rcIs (by omega) rfl) (fcons (ceV r_known rmR0 ckX4_78 rfl rrR0 (by omega) rfl) fnil)) [] 7 rfl ?_
    refine Exists.intro _ (Exists.intro _ (Exists.intro _ (Exists.intro _ (Exists.intro 0 (And.intro hr (And.intro hp (And.intro (by decide) (And.intro rfl ?_))))))))
    refine And.intro (fun b0 => ?_) (fun b0 => ?_)
    rotate_left 1
    · simp only [cP, cN, bI_0, Bool.not_eq_false, lt_nle, Decidable.not_not] at b0
      exact And.intro (hs _ (by unfold kwX; rw [if_neg (by rw [b1]; decide), if_neg (by rw [b2]; decide), if_neg (by rw [b3]; decide), if_neg (by rw [b4]; decide), if_pos b0])) rfl
    simp only [cP, cN, bI_0, Bool.not_eq_false, lt_nle, Decidable.not_not] at b0
    refine Exists.intro _ (Exists.intro _ (Exists.intro a (And.intro hr (And.intro hp ?_))))
    intro v e
    exact And.intro (hs _ (by unfold kwX; rw [if_neg (by rw [b1]; decide), if_neg (by rw [b2]; decide), if_neg (by rw [b3]; decide), if_neg (by rw [b4]; decide), if_neg (by rw [b0]; decide)]; exact e)) rfl
