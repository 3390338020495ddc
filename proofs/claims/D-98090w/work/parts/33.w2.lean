set_option maxRecDepth 100000
/-! the wood: counting its caps -/
theorem le64 {c k : Nat} (hc : c ≤ 2000000) (hk : k ≤ 2000000) : nI k ≤ nI c ↔ k ≤ c := nI_leI (by omega) (by omega)
theorem nle64 {c k : Nat} (h : ¬ nI k ≤ nI c) (hc : c ≤ 2000000) (hk : k ≤ 2000000) : c < k := Nat.lt_of_not_le (fun q => h ((le64 hc hk).mpr q))
def capsN (S : Nat → Nat → Int32) : Nat → Int32
  | 0 => 0
  | k + 1 => capsN S k + bI (capB S (nI k))
theorem c_caps : CtS mX1_caps 4 (spW0 (fun S => capsN S 64)) := by
  intro l G d hd as h z Q hs
  match as, hs with
  | [.ref b], hs =>
    obtain ⟨S, law, hw, hs⟩ := hs
    replace hs : Q (some (.int (capsN S 64))) h := hs _ rfl
    refine Ct.of rfl (Nat.le_of_ble_eq_true rfl) rfl ?_
    have loop : ∀ (n c : Nat) (v i : Int32), c + n = 64 → i = nI c → v = capsN S c → X l G mX1_caps (rmK d 0 0) (TGm G (fun v h' z' => Q v h' ∧ z' = z) 0 0) 0 0 4 [(0, .ref b), (1, .int v), (2, .int i)] [] h z := by
      intro n
      induction n using Nat.strongRecOn with
      | _ n ih =>
      intro c v i hc hi hv
      subst hi
      refine X.w wkX1_caps (fcons (ceV c_hasCap moW1 ckX1_117 rfl rcW1 (by omega) rfl) fnil) [4] 16 rfl ?_
      refine And.intro (fun b7 => ?_) (fun b7 => ?_)
      · simp only [cP, cN, bI_0, Bool.not_eq_false, lt_nle, Decidable.not_not] at b7
        have hc2 : 64 ≤ c := (le64 (by omega) (by decide)).mp b7
        have e : c = 64 := by omega
        subst e; subst hv
        exact And.intro hs rfl
      · simp only [cP, cN, bI_0, Bool.not_eq_false, lt_nle, Decidable.not_not] at b7
        refine Exists.intro S (Exists.intro law (And.intro hw ?_))
        refine And.intro (fun b16 => ?_) (fun b16 => ?_)
        · simp only [cP, cN, bI_0, Bool.not_eq_false, lt_nle, Decidable.not_not] at b16
          have hc2 : ¬ 64 ≤ c := fun h => b7 ((le64 (by omega) (by decide)).mpr h)
          refine ih (n - 1) (by omega) (c + 1) _ _ (by omega) (nI_1 c) ?_
          rw [hv, capsN, b16]; rfl
        · simp only [cP, cN, bI_0, Bool.not_eq_false, lt_nle, Decidable.not_not] at b16
          have hc2 : ¬ 64 ≤ c := fun h => b7 ((le64 (by omega) (by decide)).mpr h)
          refine ih (n - 1) (by omega) (c + 1) _ _ (by omega) (nI_1 c) ?_
          rw [hv, capsN, b16]; rfl
    refine X.w wkX1_caps (fcons (ceV c_hasCap moW1 ckX1_117 rfl rcW1 (by omega) rfl) fnil) [4] 6 rfl ?_
    exact loop 64 0 _ _ rfl rfl rfl
/-- the cell of the k-th cap: from c on, k left; none within n cells: c + n -/
def capAtF (S : Nat → Nat → Int32) : Nat → Nat → Int32 → Nat
  | 0, c, _ => c
  | n + 1, c, k => if capB S (nI c) = true ∧ k ≤ 0 then c else capAtF S n (c + 1) (k - bI (capB S (nI c)))
def spCapAt : GG → CSpec := fun G as h Q => match as with
  | [.ref b, .int k] => ∃ (S : Nat → Nat → Int32) (law q : Nat), IsWood G b S law h ∧ capAtF S 64 0 k = q ∧ q < 64 ∧ Q (some (.int (nI q))) h
  | _ => False
theorem moCapAt {G : GG} : Mono (spCapAt G) := by
  intro as h Q Q' hQ hs
  unfold spCapAt at hs ⊢
  split at hs
  · obtain ⟨S, law, q, h1, h2, h3, h4⟩ := hs
    exact ⟨S, law, q, h1, h2, h3, hQ _ _ h4⟩
  · exact hs.elim
theorem rcCapAt {G : GG} : ∀ as h Q, as.length = 1 + 1 → spCapAt G as h Q → ∃ b as', as = .ref b :: as' ∧ ∃ fs, h b = some (.inr (1, fs)) := by
  intro as h Q _ hs
  unfold spCapAt at hs
  split at hs
  · obtain ⟨S, law, q, h1, h2⟩ := hs
    exact ⟨_, _, rfl, wood_recv h1⟩
  · exact hs.elim
theorem capAtF_ge (S : Nat → Nat → Int32) : ∀ (n c : Nat) (k : Int32), c ≤ capAtF S n c k
  | 0, c, _ => Nat.le_refl c
  | n + 1, c, k => by
    unfold capAtF
    split
    · exact Nat.le_refl c
    · exact Nat.le_trans (Nat.le_succ c) (capAtF_ge S n (c + 1) _)
theorem c_capAt : CtS mX1_capAt 4 spCapAt := by
  intro l G d hd as h z Q hs
  match as, hs with
  | [.ref b, .int k0], hs =>
    obtain ⟨S, law, q, hw, hq, hlt, hs⟩ := hs
    replace hs : Q (some (.int (nI (capAtF S 64 0 k0)))) h := by rw [hq]; exact hs
    rw [← hq] at hlt
    refine Ct.of rfl (Nat.le_of_ble_eq_true rfl) rfl ?_
    have loop : ∀ (n c : Nat) (k i : Int32), c + n = 64 → i = nI c → capAtF S n c k = capAtF S 64 0 k0 → X l G mX1_capAt (rmK d 0 0) (TGm G (fun v h' z' => Q v h' ∧ z' = z) 0 0) 0 0 4 [(0, .ref b), (1, .int k0), (2, .int k), (3, .int i)] [] h z := by
      intro n
      induction n with
      | zero =>
        intro c k i hc hi hk
        have h1 : capAtF S 0 c k = c := rfl
        omega
      | succ n ih =>
      intro c k i hc hi hk
      subst hi
      refine X.w wkX1_capAt (fcons (ceV c_hasCap moW1 ckX1_117 rfl rcW1 (by omega) rfl) fnil) [4] 19 rfl ?_
      refine Exists.intro S (Exists.intro law (And.intro hw ?_))
      refine And.intro (fun b9 => ?_) (fun b9 => ?_)
      · simp only [cP, cN, bI_0, Bool.not_eq_false, lt_nle, Decidable.not_not] at b9
        refine Exists.intro S (Exists.intro law (And.intro hw ?_))
        refine And.intro (fun b22 => ?_) (fun b22 => ?_)
        · simp only [cP, cN, bI_0, Bool.not_eq_false, lt_nle, Decidable.not_not] at b22
          refine ih (c + 1) _ _ (by omega) (nI_1 c) ?_
          rw [← hk, capAtF, if_neg (by rw [b9]; exact fun h => nomatch h.1), b9]; rfl
        · simp only [cP, cN, bI_0, Bool.not_eq_false, lt_nle, Decidable.not_not] at b22
          exact absurd (b9.symm.trans b22) (by decide)
      · simp only [cP, cN, bI_0, Bool.not_eq_false, lt_nle, Decidable.not_not] at b9
        refine And.intro (fun b13 => ?_) (fun b13 => ?_)
        · simp only [cP, cN, bI_0, Bool.not_eq_false, lt_nle, Decidable.not_not] at b13
          unfold capAtF at hk
          rw [if_pos ⟨b9, b13⟩] at hk
          rw [hk]
          exact And.intro hs rfl
        · simp only [cP, cN, bI_0, Bool.not_eq_false, lt_nle, Decidable.not_not] at b13
          refine Exists.intro S (Exists.intro law (And.intro hw ?_))
          refine And.intro (fun b22 => ?_) (fun b22 => ?_)
          · simp only [cP, cN, bI_0, Bool.not_eq_false, lt_nle, Decidable.not_not] at b22
            exact absurd (b9.symm.trans b22) (by decide)
          · simp only [cP, cN, bI_0, Bool.not_eq_false, lt_nle, Decidable.not_not] at b22
            refine ih (c + 1) _ _ (by omega) (nI_1 c) ?_
            rw [← hk, capAtF, if_neg (fun h => b13 h.2), b9]; rfl
    refine X.w wkX1_capAt (fcons (ceV c_hasCap moW1 ckX1_117 rfl rcW1 (by omega) rfl) fnil) [4] 6 rfl ?_
    exact loop 64 0 _ _ rfl rfl rfl
def besideP (S : Nat → Nat → Int32) (c : Int32) (like : Int32) (k : Nat) : Bool := capB S (nI k) && (decide (farI (nI k) c = 1) && (decide (like = 0) || decide (S 2 k = S 2 c.toNatClampNeg)))
def besideN (S : Nat → Nat → Int32) (c : Int32) (like : Int32) : Nat → Int32
  | 0 => 0
  | k + 1 => besideN S c like k + bI (besideP S c like k)
def spBeside : GG → CSpec := fun G as h Q => match as with
  | [.ref b, .int like] => ∃ (S : Nat → Nat → Int32) (law j : Nat), IsWood G b S law h ∧ S 0 24 = nI j ∧ j < 64 ∧ Q (some (.int (besideN S (S 0 24) like 64))) h
  | _ => False
theorem moBeside {G : GG} : Mono (spBeside G) := by
  intro as h Q Q' hQ hs
  unfold spBeside at hs ⊢
  split at hs
  · obtain ⟨S, law, j, h1, h2, h3, h4⟩ := hs
    exact ⟨S, law, j, h1, h2, h3, hQ _ _ h4⟩
  · exact hs.elim
theorem rcBeside {G : GG} : ∀ as h Q, as.length = 1 + 1 → spBeside G as h Q → ∃ b as', as = .ref b :: as' ∧ ∃ fs, h b = some (.inr (1, fs)) := by
  intro as h Q _ hs
  unfold spBeside at hs
  split at hs
  · obtain ⟨S, law, j, h1, h2⟩ := hs
    exact ⟨_, _, rfl, wood_recv h1⟩
  · exact hs.elim
theorem c_beside : CtS mX1_beside 4 spBeside := by
  intro l G d hd as h z Q hs
  match as, hs with
  | [.ref b, .int like], hs =>
    obtain ⟨S, law, j, hw, hj, hj64, hs⟩ := hs
    replace hs : Q (some (.int (besideN S (S 0 24) like 64))) h := hs
    refine Ct.of rfl (Nat.le_of_ble_eq_true rfl) rfl ?_
    have loop : ∀ (n c : Nat) (v i : Int32), c + n = 64 → i = nI c → v = besideN S (S 0 24) like c → X l G mX1_beside (rmK d 0 0) (TGm G (fun v h' z' => Q v h' ∧ z' = z) 0 0) 0 0 4 [(0, .ref b), (1, .int like), (2, .int v), (3, .int i)] [] h z := by
      intro n
      induction n using Nat.strongRecOn with
      | _ n ih =>
      intro c v i hc hi hv
      subst hi
      refine X.w wkX1_beside (fcons (ceV c_hasCap moW1 ckX1_117 rfl rcW1 (by omega) rfl) (fcons (ceS c_far mo2 ckX1_123 (by omega) rfl) fnil)) [4] 34 rfl ?_
      refine And.intro (fun b7 => ?_) (fun b7 => ?_)
      · simp only [cP, cN, bI_0, Bool.not_eq_false, lt_nle, Decidable.not_not] at b7
        have hc2 : 64 ≤ c := (le64 (by omega) (by decide)).mp b7
        have e : c = 64 := by omega
        subst e; subst hv
        exact And.intro hs rfl
      · simp only [cP, cN, bI_0, Bool.not_eq_false, lt_nle, Decidable.not_not] at b7
        refine Exists.intro S (Exists.intro law (And.intro hw ?_))
        refine And.intro (fun b16 => ?_) (fun b16 => ?_)
        · simp only [cP, cN, bI_0, Bool.not_eq_false, lt_nle, Decidable.not_not] at b16
          have hc2 : ¬ 64 ≤ c := fun h => b7 ((le64 (by omega) (by decide)).mpr h)
          refine ih (n - 1) (by omega) (c + 1) _ _ (by omega) (nI_1 c) ?_
          rw [hv, besideN, show besideP S (S 0 24) like c = false from by simp only [besideP, show (S 0 24).toNatClampNeg = j from by rw [hj]; exact nI_clamp (by omega), b7, b16, decide_true, decide_false, Bool.and_true, Bool.true_and, Bool.and_false, Bool.false_and, Bool.or_true, Bool.true_or, Bool.or_false, Bool.false_or, not_true_eq_false, not_false_eq_true, Bool.not_true, Bool.not_false, decide_not, if_true, if_false, and_true, true_and, and_false, false_and, or_true, true_or, or_false, false_or, Bool.false_eq_true]]; rfl
        · simp only [cP, cN, bI_0, Bool.not_eq_false, lt_nle, Decidable.not_not] at b16
          refine gF (by first | assumption | exact hw.obj | exact hw.arr _ rfl) ?_
          refine And.intro (fun b28 => ?_) (fun b28 => ?_)
          · simp only [cP, cN, bI_0, Bool.not_eq_false, lt_nle, Decidable.not_not] at b28
            have hc2 : ¬ 64 ≤ c := fun h => b7 ((le64 (by omega) (by decide)).mpr h)
            refine ih (n - 1) (by omega) (c + 1) _ _ (by omega) (nI_1 c) ?_
            rw [hv, besideN, show besideP S (S 0 24) like c = false from by simp only [besideP, show (S 0 24).toNatClampNeg = j from by rw [hj]; exact nI_clamp (by omega), b7, b16, b28, decide_true, decide_false, Bool.and_true, Bool.true_and, Bool.and_false, Bool.false_and, Bool.or_true, Bool.true_or, Bool.or_false, Bool.false_or, not_true_eq_false, not_false_eq_true, Bool.not_true, Bool.not_false, decide_not, if_true, if_false, and_true, true_and, and_false, false_and, or_true, true_or, or_false, false_or, Bool.false_eq_true]]; rfl
          · simp only [cP, cN, bI_0, Bool.not_eq_false, lt_nle, Decidable.not_not] at b28
            refine And.intro (fun b32 => ?_) (fun b32 => ?_)
            · simp only [cP, cN, bI_0, Bool.not_eq_false, lt_nle, Decidable.not_not] at b32
              have hc2 : ¬ 64 ≤ c := fun h => b7 ((le64 (by omega) (by decide)).mpr h)
              refine ih (n - 1) (by omega) (c + 1) _ _ (by omega) (nI_1 c) ?_
              rw [hv, besideN, show besideP S (S 0 24) like c = true from by simp only [besideP, show (S 0 24).toNatClampNeg = j from by rw [hj]; exact nI_clamp (by omega), b7, b16, b28, b32, decide_true, decide_false, Bool.and_true, Bool.true_and, Bool.and_false, Bool.false_and, Bool.or_true, Bool.true_or, Bool.or_false, Bool.false_or, not_true_eq_false, not_false_eq_true, Bool.not_true, Bool.not_false, decide_not, if_true, if_false, and_true, true_and, and_false, false_and, or_true, true_or, or_false, false_or, Bool.false_eq_true]]; rfl
            · simp only [cP, cN, bI_0, Bool.not_eq_false, lt_nle, Decidable.not_not] at b32
              refine gF (by first | assumption | exact hw.obj | exact hw.arr _ rfl) ?_
              refine gA (by first | assumption | exact hw.obj | exact hw.arr _ rfl) (ixN (nle64 (k := 64) b7 (by omega) (by decide)) (by decide)) ?_
              refine gF (by first | assumption | exact hw.obj | exact hw.arr _ rfl) ?_
              refine gF (by first | assumption | exact hw.obj | exact hw.arr _ rfl) ?_
              refine gA (by first | assumption | exact hw.obj | exact hw.arr _ rfl) (ixE hj hj64 (by decide)) ?_
              refine And.intro (fun b50 => ?_) (fun b50 => ?_)
              · simp only [cP, cN, bI_0, Bool.not_eq_false, lt_nle, Decidable.not_not] at b50
                have hc2 : ¬ 64 ≤ c := fun h => b7 ((le64 (by omega) (by decide)).mpr h)
                refine ih (n - 1) (by omega) (c + 1) _ _ (by omega) (nI_1 c) ?_
                rw [hv, besideN, show besideP S (S 0 24) like c = false from by simp only [besideP, show (S 0 24).toNatClampNeg = j from by rw [hj]; exact nI_clamp (by omega), b7, b16, b28, b32, b50, decide_true, decide_false, Bool.and_true, Bool.true_and, Bool.and_false, Bool.false_and, Bool.or_true, Bool.true_or, Bool.or_false, Bool.false_or, not_true_eq_false, not_false_eq_true, Bool.not_true, Bool.not_false, decide_not, if_true, if_false, and_true, true_and, and_false, false_and, or_true, true_or, or_false, false_or, Bool.false_eq_true]]; rfl
              · simp only [cP, cN, bI_0, Bool.not_eq_false, lt_nle, Decidable.not_not] at b50
                have hc2 : ¬ 64 ≤ c := fun h => b7 ((le64 (by omega) (by decide)).mpr h)
                refine ih (n - 1) (by omega) (c + 1) _ _ (by omega) (nI_1 c) ?_
                rw [hv, besideN, show besideP S (S 0 24) like c = true from by simp only [besideP, show (S 0 24).toNatClampNeg = j from by rw [hj]; exact nI_clamp (by omega), b7, b16, b28, b32, b50, decide_true, decide_false, Bool.and_true, Bool.true_and, Bool.and_false, Bool.false_and, Bool.or_true, Bool.true_or, Bool.or_false, Bool.false_or, not_true_eq_false, not_false_eq_true, Bool.not_true, Bool.not_false, decide_not, if_true, if_false, and_true, true_and, and_false, false_and, or_true, true_or, or_false, false_or, Bool.false_eq_true]]; rfl
    refine X.w wkX1_beside fnil [4] 6 rfl ?_
    exact loop 64 0 _ _ rfl rfl rfl
