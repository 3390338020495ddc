set_option maxRecDepth 100000
/-! what changes the model -/
theorem up2_ap {S : SS} {o j : Nat} {x : Int32} (o' k' : Nat) : up2 S o j x o' k' = if o' = o ∧ k' = j then x else S o' k' := by
  unfold up2
  by_cases e : o' = o
  · subst e
    rw [if_pos rfl]
    by_cases e2 : k' = j
    · subst e2; rw [pk_us, if_pos ⟨rfl, rfl⟩]
    · rw [pk_un e2, if_neg (fun q => e2 q.2)]
  · rw [if_neg e, if_neg (fun q => e q.1)]
theorem up2_cm {S : SS} {o j o2 j2 : Nat} {x y : Int32} (h : o ≠ o2 ∨ j ≠ j2) : up2 (up2 S o j x) o2 j2 y = up2 (up2 S o2 j2 y) o j x := by
  funext o' k'
  rw [up2_ap, up2_ap, up2_ap, up2_ap]
  by_cases e : o' = o ∧ k' = j
  · rw [if_pos e, if_neg (show ¬ (o' = o2 ∧ k' = j2) by omega), if_pos e]
  · rw [if_neg e, if_neg e]
theorem up2_sf {S : SS} {o j : Nat} : up2 S o j (S o j) = S := by
  funext o' k'
  rw [up2_ap]
  by_cases e : o' = o ∧ k' = j
  · rw [if_pos e, e.1, e.2]
  · rw [if_neg e]
theorem up2_2 {S : SS} {o j : Nat} {x y : Int32} : up2 (up2 S o j x) o j y = up2 S o j y := by
  funext o' k'
  rw [up2_ap, up2_ap, up2_ap]
  by_cases e : o' = o ∧ k' = j
  · rw [if_pos e, if_pos e]
  · rw [if_neg e, if_neg e, if_neg e]
theorem set_up {S : SS} {o o2 k : Nat} {f : Nat → Int32} {x : Int32} (h : o ≠ o2) : setF (up2 S o2 k x) o f = up2 (setF S o f) o2 k x := by
  funext o'
  unfold setF up2
  by_cases e : o' = o
  · subst e
    simp [h]
  · by_cases e2 : o' = o2
    · subst e2
      simp [Ne.symm h]
    · simp [e, e2]
def shfF (R : Nat → Int32) (k : Nat) : Nat → Int32 := fun j => if j < k then R (j + 348) else R j
def putR (R N : Nat → Int32) (u k : Nat) : Nat → Int32 := fun j => if 348 * u ≤ j ∧ j < 348 * u + k then N (j - 348 * u) else R j
theorem shfF_s {R : Nat → Int32} {c : Nat} : upd (shfF R c) c (shfF R c (c + 348)) = shfF R (c + 1) := by
  funext j
  unfold shfF
  rw [if_neg (show ¬ (c + 348 < c) by omega)]
  by_cases e : j = c
  · subst e; rw [pk_us, if_pos (by omega)]
  · rw [pk_un e]; simp only [show (j < c + 1) ↔ (j < c) from by omega]
theorem putR_s {R N : Nat → Int32} {u c : Nat} : upd (putR R N u c) (348 * u + c) (N c) = putR R N u (c + 1) := by
  funext j
  by_cases e : j = 348 * u + c
  · subst e
    rw [pk_us]
    unfold putR
    rw [if_pos (show 348 * u ≤ 348 * u + c ∧ 348 * u + c < 348 * u + (c + 1) by omega), show 348 * u + c - 348 * u = c from by omega]
  · rw [pk_un e]
    unfold putR
    by_cases e2 : 348 * u ≤ j ∧ j < 348 * u + c
    · rw [if_pos e2, if_pos (show 348 * u ≤ j ∧ j < 348 * u + (c + 1) by omega)]
    · rw [if_neg e2, if_neg (show ¬ (348 * u ≤ j ∧ j < 348 * u + (c + 1)) by omega)]
theorem putR_0 (R N : Nat → Int32) (u : Nat) : putR R N u 0 = R := by
  funext j
  unfold putR
  rw [if_neg (by omega)]
def kaU (n : Nat) : Nat := if n = 12 then 11 else n
def kaR (S : SS) (n : Nat) : Nat → Int32 := if n = 12 then shfF (S 2) 3828 else S 2
/-- the row of now kept -/
def kaF (S : SS) (n : Nat) : SS := up2 (setF S 2 (putR (kaR S n) (S 1) (kaU n) 348)) 0 3 (nI (kaU n + 1))
theorem k_keepsAhead : CtS mX3_keepsAhead 1 (mV0 (fun (a : Nat) S => S 0 3 = nI a ∧ a ≤ 12) (fun (a : Nat) S S' => S' = kaF S a)) := by
  intro l G d hd as h z Q hs
  match as, hs with
  | [.ref b], hs =>
    obtain ⟨S, a, hm, hp, hs⟩ := hs
    replace hp : S 0 3 = nI a ∧ a ≤ 12 := hp
    replace hs : ∀ S' h', (S' = kaF S a) → IsMod G b S' h' → FrM b h h' → Q none h' := hs
    have hf : FrM b h h := FrM.rf
    refine Ct.of rfl (Nat.le_of_ble_eq_true rfl) rfl ?_
    obtain ⟨hn, ha⟩ := hp
    have loop2 : ∀ (R : Nat → Int32) (u : Nat), u ≤ 11 → (∀ h', IsMod G b (up2 (setF S 2 (putR R (S 1) u 348)) 0 3 (nI (u + 1))) h' → FrM b h h' → Q none h') → ∀ (n c : Nat) (i : Int32) (h1 : AH), c + n = 348 → i = nI c → IsMod G b (up2 (setF S 2 (putR R (S 1) u c)) 0 3 (nI u)) h1 → FrM b h h1 → X l G mX3_keepsAhead (rmK d 0 0) (TGm G (fun v h' z' => Q v h' ∧ z' = z) 0 0) 0 0 57 [(0, .ref b), (1, .int i)] [] h1 z := by
      intro R u hu hs n
      induction n using Nat.strongRecOn with
      | _ n ih =>
      intro c i h1 hc hi hm hf
      subst hi
      refine X.w wkX3_keepsAhead fnil [57] 20 rfl ?_
      refine And.intro (fun b61 => ?_) (fun b61 => ?_)
      · simp only [cP, cN, bI_0, Bool.not_eq_false, lt_nle, Decidable.not_not] at b61
        have hc2 : 348 ≤ c := (le64 (by omega) (by omega)).mp b61
        obtain rfl : c = 348 := by omega
        refine gF (by first | assumption | exact hm.obj | exact hm.arr _ rfl) ?_
        refine pF0 (okV_W rfl) (by first | assumption | exact hm.obj | exact hm.arr _ rfl) (Nat.le_of_ble_eq_true rfl) (by first | exact hm.N | exact hm.No _) ?_
        intro h98 e98
        have hm := hm.u0 e98 rfl; have hf := hf.u0 e98
        rw [up2_2] at hm
        replace hm : IsMod G b (up2 (setF S 2 (putR R (S 1) u 348)) 0 3 (nI u + 1)) h98 := hm
        rw [nI_1] at hm
        exact And.intro (hs _ hm hf) rfl
      · simp only [cP, cN, bI_0, Bool.not_eq_false, lt_nle, Decidable.not_not] at b61
        have hc2 : c < 348 := nle64 b61 (by omega) (by omega)
        refine gF (by first | assumption | exact hm.obj | exact hm.arr _ rfl) ?_
        refine gF (by first | assumption | exact hm.obj | exact hm.arr _ rfl) ?_
        refine gF (by first | assumption | exact hm.obj | exact hm.arr _ rfl) ?_
        refine gA (by first | assumption | exact hm.obj | exact hm.arr _ rfl) (by first | exact ixN (by omega) (by decide) | exact ixz (by omega) (by decide) | exact ixa (a := 64) rfl (by omega) (by decide) | exact ixa (a := 128) rfl (by omega) (by decide) | exact ixa (a := 192) rfl (by omega) (by decide) | exact ixa (a := 256) rfl (by omega) (by decide) | exact ixa (a := 262) rfl (by omega) (by decide) | exact ixa (a := 268) rfl (by omega) (by decide) | exact ixa (a := 274) rfl (by omega) (by decide) | exact ixa (a := 348) rfl (by omega) (by decide) | exact ixa (a := 400) rfl (by omega) (by decide)) ?_
        refine sA (by first | assumption | exact hm.obj | exact hm.arr _ rfl) (ixE (j := 348 * u + c) (by show 348 * nI u + nI c = _; rw [show (348 : Int32) = nI 348 from rfl, pk_mul, nI_add]) (by omega) (by decide)) (by first | exact hm.N | exact hm.No _) ?_
        intro h84 e84
        have hm := hm.uA e84 rfl; have hf := hf.uA e84 (by decide)
        rw [up2_cm (Or.inl (by decide)), up2_set] at hm
        refine ih (n - 1) (by omega) (c + 1) _ _ (by omega) (nI_1 c) ?_ hf
        rw [← putR_s]
        exact hm
    by_cases h12 : a = 12
    · subst h12
      have hsX : ∀ h', IsMod G b (up2 (setF S 2 (putR (shfF (S 2) 3828) (S 1) 11 348)) 0 3 (nI (11 + 1))) h' → FrM b h h' → Q none h' := fun h' => hs _ h' rfl
      have loop1 : ∀ (n c : Nat) (i : Int32) (h1 : AH), c + n = 3828 → i = nI c → IsMod G b (up2 (setF S 2 (shfF (S 2) c)) 0 3 (nI 11)) h1 → FrM b h h1 → X l G mX3_keepsAhead (rmK d 0 0) (TGm G (fun v h' z' => Q v h' ∧ z' = z) 0 0) 0 0 21 [(0, .ref b), (1, .int i)] [] h1 z := by
        intro n
        induction n using Nat.strongRecOn with
        | _ n ih =>
        intro c i h1 hc hi hm hf
        subst hi
        refine X.w wkX3_keepsAhead fnil [21, 57] 20 rfl ?_
        refine gF (by first | assumption | exact hm.obj | exact hm.arr _ rfl) ?_
        refine And.intro (fun b30 => ?_) (fun b30 => ?_)
        · simp only [cP, cN, bI_0, Bool.not_eq_false, lt_nle, Decidable.not_not] at b30
          have b30' : nI 3828 ≤ nI c := b30
          have hc2 : 3828 ≤ c := (le64 (by omega) (by omega)).mp b30'
          obtain rfl : c = 3828 := by omega
          exact loop2 (shfF (S 2) 3828) 11 (by decide) hsX 348 0 _ _ rfl rfl (by rw [putR_0]; exact hm) hf
        · simp only [cP, cN, bI_0, Bool.not_eq_false, lt_nle, Decidable.not_not] at b30
          have b30' : ¬ nI 3828 ≤ nI c := b30
          have hc2 : c < 3828 := nle64 b30' (by omega) (by omega)
          refine gF (by first | assumption | exact hm.obj | exact hm.arr _ rfl) ?_
          refine gF (by first | assumption | exact hm.obj | exact hm.arr _ rfl) ?_
          refine gA (by first | assumption | exact hm.obj | exact hm.arr _ rfl) (ixE (j := c + 348) (by rw [show (348 : Int32) = nI 348 from rfl, nI_add]) (by omega) (by decide)) ?_
          refine sA (by first | assumption | exact hm.obj | exact hm.arr _ rfl) (by first | exact ixN (by omega) (by decide) | exact ixz (by omega) (by decide) | exact ixa (a := 64) rfl (by omega) (by decide) | exact ixa (a := 128) rfl (by omega) (by decide) | exact ixa (a := 192) rfl (by omega) (by decide) | exact ixa (a := 256) rfl (by omega) (by decide) | exact ixa (a := 262) rfl (by omega) (by decide) | exact ixa (a := 268) rfl (by omega) (by decide) | exact ixa (a := 274) rfl (by omega) (by decide) | exact ixa (a := 348) rfl (by omega) (by decide) | exact ixa (a := 400) rfl (by omega) (by decide)) (by first | exact hm.N | exact hm.No _) ?_
          intro h48 e48
          have hm := hm.uA e48 rfl; have hf := hf.uA e48 (by decide)
          rw [up2_cm (Or.inl (by decide)), up2_set] at hm
          refine ih (n - 1) (by omega) (c + 1) _ _ (by omega) (nI_1 c) ?_ hf
          rw [← shfF_s]
          exact hm
      refine X.w wkX3_keepsAhead fnil [21, 57] 14 rfl ?_
      refine gF (by first | assumption | exact hm.obj | exact hm.arr _ rfl) ?_
      refine And.intro (fun b6 => ?_) (fun b6 => ?_)
      · simp only [cP, cN, bI_0, Bool.not_eq_false, lt_nle, Decidable.not_not] at b6
        exact absurd hn b6
      · simp only [cP, cN, bI_0, Bool.not_eq_false, lt_nle, Decidable.not_not] at b6
        refine gF (by first | assumption | exact hm.obj | exact hm.arr _ rfl) ?_
        refine pF0 (okV_W rfl) (by first | assumption | exact hm.obj | exact hm.arr _ rfl) (Nat.le_of_ble_eq_true rfl) (by first | exact hm.N | exact hm.No _) ?_
        intro h16 e16
        have hm := hm.u0 e16 rfl; have hf := hf.u0 e16
        refine loop1 3828 0 _ _ rfl rfl ?_ hf
        have e0 : shfF (S 2) 0 = S 2 := by funext j; unfold shfF; rw [if_neg (by omega)]
        rw [e0, setF_self]
        replace hm : IsMod G b (up2 S 0 3 (S 0 3 - 1)) h16 := hm
        rw [hn] at hm
        exact hm
    · have hsX : ∀ h', IsMod G b (up2 (setF S 2 (putR (S 2) (S 1) a 348)) 0 3 (nI (a + 1))) h' → FrM b h h' → Q none h' := fun h' => hs _ h' (by unfold kaF kaR kaU; rw [if_neg h12, if_neg h12])
      refine X.w wkX3_keepsAhead fnil [21, 57] 8 rfl ?_
      refine gF (by first | assumption | exact hm.obj | exact hm.arr _ rfl) ?_
      refine And.intro (fun b6 => ?_) (fun b6 => ?_)
      · simp only [cP, cN, bI_0, Bool.not_eq_false, lt_nle, Decidable.not_not] at b6
        refine loop2 (S 2) a (by omega) hsX 348 0 _ _ rfl rfl ?_ hf
        rw [putR_0, setF_self, ← hn, up2_sf]
        exact hm
      · simp only [cP, cN, bI_0, Bool.not_eq_false, lt_nle, Decidable.not_not] at b6
        exact absurd ((nI_eq (by omega) (by decide)).mp (hn.symm.trans b6)) h12
def unF (S : SS) (u : Nat) : SS := up2 (setF S 1 (cpy 348 (S 1) (fun j => S 2 (348 * u + j)))) 0 3 (nI u)
theorem k_undo : CtS mX3_undo 1 (mW0 (fun (a : Nat) S => S 0 3 = nI a ∧ a ≤ 12) (fun (a : Nat) S v S' => (a = 0 ∧ v = 0 ∧ S' = tl S) ∨ (¬ a = 0 ∧ v = 1 ∧ S' = unF (tl S) (a - 1)))) := by
  intro l G d hd as h z Q hs
  match as, hs with
  | [.ref b], hs =>
    obtain ⟨S, a, hm, hp, hs⟩ := hs
    replace hp : S 0 3 = nI a ∧ a ≤ 12 := hp
    replace hs : ∀ v S' h', ((a = 0 ∧ v = 0 ∧ S' = tl S) ∨ (¬ a = 0 ∧ v = 1 ∧ S' = unF (tl S) (a - 1))) → IsMod G b S' h' → FrM b h h' → Q (some (.int v)) h' := hs
    have hf : FrM b h h := FrM.rf
    refine Ct.of rfl (Nat.le_of_ble_eq_true rfl) rfl ?_
    obtain ⟨hn, ha⟩ := hp
    refine X.w wkX3_undo fnil [5] 5 rfl ?_
    refine pF0 (okV_W rfl) (by first | assumption | exact hm.obj | exact hm.arr _ rfl) (Nat.le_of_ble_eq_true rfl) (by first | exact hm.N | exact hm.No _) ?_
    intro h2 e2
    have hm := hm.u0 e2 rfl; have hf := hf.u0 e2
    replace hm : IsMod G b (tl S) h2 := hm
    replace hn : tl S 0 3 = nI a := hn
    generalize tl S = S at hm hs hn
    have loop : ∀ (u : Nat), u ≤ 11 → (∀ h', IsMod G b (unF S u) h' → FrM b h h' → Q (some (.int 1)) h') → ∀ (n c : Nat) (i : Int32) (h1 : AH), c + n = 348 → i = nI c → IsMod G b (up2 (setF S 1 (cpy c (S 1) (fun j => S 2 (348 * u + j)))) 0 3 (nI u)) h1 → FrM b h h1 → X l G mX3_undo (rmK d 0 0) (TGm G (fun v h' z' => Q v h' ∧ z' = z) 0 0) 0 0 26 [(0, .ref b), (1, .int i)] [] h1 z := by
      intro u hu hs n
      induction n using Nat.strongRecOn with
      | _ n ih =>
      intro c i h1 hc hi hm hf
      subst hi
      refine X.w wkX3_undo fnil [26] 20 rfl ?_
      refine And.intro (fun b30 => ?_) (fun b30 => ?_)
      · simp only [cP, cN, bI_0, Bool.not_eq_false, lt_nle, Decidable.not_not] at b30
        have hc2 : 348 ≤ c := (le64 (by omega) (by omega)).mp b30
        obtain rfl : c = 348 := by omega
        refine And.intro (by first | exact Or.inl rfl | exact Or.inr rfl | exact bI_01 _) ?_
        exact And.intro (hs _ hm hf) rfl
      · simp only [cP, cN, bI_0, Bool.not_eq_false, lt_nle, Decidable.not_not] at b30
        have hc2 : c < 348 := nle64 b30 (by omega) (by omega)
        refine gF (by first | assumption | exact hm.obj | exact hm.arr _ rfl) ?_
        refine gF (by first | assumption | exact hm.obj | exact hm.arr _ rfl) ?_
        refine gF (by first | assumption | exact hm.obj | exact hm.arr _ rfl) ?_
        refine gA (by first | assumption | exact hm.obj | exact hm.arr _ rfl) (ixE (j := 348 * u + c) (by show 348 * nI u + nI c = _; rw [show (348 : Int32) = nI 348 from rfl, pk_mul, nI_add]) (by omega) (by decide)) ?_
        refine sA (by first | assumption | exact hm.obj | exact hm.arr _ rfl) (by first | exact ixN (by omega) (by decide) | exact ixz (by omega) (by decide) | exact ixa (a := 64) rfl (by omega) (by decide) | exact ixa (a := 128) rfl (by omega) (by decide) | exact ixa (a := 192) rfl (by omega) (by decide) | exact ixa (a := 256) rfl (by omega) (by decide) | exact ixa (a := 262) rfl (by omega) (by decide) | exact ixa (a := 268) rfl (by omega) (by decide) | exact ixa (a := 274) rfl (by omega) (by decide) | exact ixa (a := 348) rfl (by omega) (by decide) | exact ixa (a := 400) rfl (by omega) (by decide)) (by first | exact hm.N | exact hm.No _) ?_
        intro h53 e53
        have hm := hm.uA e53 rfl; have hf := hf.uA e53 (by decide)
        rw [up2_cm (Or.inl (by decide)), up2_set] at hm
        refine ih (n - 1) (by omega) (c + 1) _ _ (by omega) (nI_1 c) ?_ hf
        rw [← cpy_s]
        exact hm
    refine X.w wkX3_undo fnil [26] 13 rfl ?_
    refine gF (by first | assumption | exact hm.obj | exact hm.arr _ rfl) ?_
    refine And.intro (fun b9 => ?_) (fun b9 => ?_)
    · simp only [cP, cN, bI_0, Bool.not_eq_false, lt_nle, Decidable.not_not] at b9
      have h0 : ¬ a = 0 := fun q => b9 (by rw [hn, q]; rfl)
      refine gF (by first | assumption | exact hm.obj | exact hm.arr _ rfl) ?_
      refine pF0 (okV_W rfl) (by first | assumption | exact hm.obj | exact hm.arr _ rfl) (Nat.le_of_ble_eq_true rfl) (by first | exact hm.N | exact hm.No _) ?_
      intro h21 e21
      have hm := hm.u0 e21 rfl; have hf := hf.u0 e21
      refine loop (a - 1) (by omega) (fun h' hm hf => hs _ _ _ (Or.inr ⟨h0, rfl, rfl⟩) hm hf) 348 0 _ _ rfl rfl ?_ hf
      rw [cpy_0, setF_self]
      replace hm : IsMod G b (up2 S 0 3 (S 0 3 - 1)) h21 := hm
      rw [hn, show (1 : Int32) = nI 1 from rfl, pk_sub (by omega)] at hm
      exact hm
    · simp only [cP, cN, bI_0, Bool.not_eq_false, lt_nle, Decidable.not_not] at b9
      have h0 : a = 0 := (nI_eq (by omega) (by decide)).mp (hn.symm.trans b9)
      refine And.intro (by first | exact Or.inl rfl | exact Or.inr rfl | exact bI_01 _) ?_
      exact And.intro (hs _ _ _ (Or.inl ⟨h0, rfl, rfl⟩) hm hf) rfl
theorem k_state : CtS mX3_state 1 (mW1 (fun (a : Unit) x S => True) (fun (a : Unit) x S v S' => v = S 0 4 ∧ S' = up2 (tl S) 0 4 x)) := by
  intro l G d hd as h z Q hs
  match as, hs with
  | [.ref b, .int x], hs =>
    obtain ⟨S, a, hm, hp, hs⟩ := hs
    replace hp : True := hp
    replace hs : ∀ v S' h', (v = S 0 4 ∧ S' = up2 (tl S) 0 4 x) → IsMod G b S' h' → FrM b h h' → Q (some (.int v)) h' := hs
    have hf : FrM b h h := FrM.rf
    refine Ct.of rfl (Nat.le_of_ble_eq_true rfl) rfl ?_
    refine X.w wkX3_state fnil [] 12 rfl ?_
    refine pF0 (okV_W rfl) (by first | assumption | exact hm.obj | exact hm.arr _ rfl) (Nat.le_of_ble_eq_true rfl) (by first | exact hm.N | exact hm.No _) ?_
    intro h2 e2
    have hm := hm.u0 e2 rfl; have hf := hf.u0 e2
    refine gF (by first | assumption | exact hm.obj | exact hm.arr _ rfl) ?_
    refine pF0 (okV_W rfl) (by first | assumption | exact hm.obj | exact hm.arr _ rfl) (Nat.le_of_ble_eq_true rfl) (by first | exact hm.N | exact hm.No _) ?_
    intro h12 e12
    have hm := hm.u0 e12 rfl; have hf := hf.u0 e12
    exact And.intro (hs _ _ _ ⟨rfl, rfl⟩ hm hf) rfl
def woF (S : SS) (w x : Int32) : SS := up2 (up2 (up2 (up2 (up2 (up2 (up2 (up2 (up2 (setF (setF (up2 (up2 (tl S) 0 5 w) 0 6 x) 1 (cpy 348 (S 1) (fun _ => 0))) 3 (cpy 64 (S 3) (fun _ => 0))) 0 8 0) 0 12 0) 0 13 0) 0 14 0) 0 15 0) 0 16 0) 0 17 0) 0 26 0) 0 3 0
theorem k_wood : CtS mX3_wood 2 (mW2 (fun (a : Unit) w x S => True) (fun (a : Unit) w x S v S' => ((isInB w 3 8 = true ∧ isInB x 3 8 = true) ∧ v = 1 ∧ S' = woF S w x) ∨ (¬ (isInB w 3 8 = true ∧ isInB x 3 8 = true) ∧ v = 0 ∧ S' = tl S))) := by
  intro l G d hd as h z Q hs
  match as, hs with
  | [.ref b, .int w, .int x], hs =>
    obtain ⟨S, a, hm, hp, hs⟩ := hs
    replace hp : True := hp
    replace hs : ∀ v S' h', (((isInB w 3 8 = true ∧ isInB x 3 8 = true) ∧ v = 1 ∧ S' = woF S w x) ∨ (¬ (isInB w 3 8 = true ∧ isInB x 3 8 = true) ∧ v = 0 ∧ S' = tl S)) → IsMod G b S' h' → FrM b h h' → Q (some (.int v)) h' := hs
    have hf : FrM b h h := FrM.rf
    refine Ct.of rfl (Nat.le_of_ble_eq_true rfl) rfl ?_
    have loop2 : (∀ h', IsMod G b (woF S w x) h' → FrM b h h' → Q (some (.int 1)) h') → ∀ (n c : Nat) (i : Int32) (h1 : AH), c + n = 64 → i = nI c → IsMod G b (setF (setF (up2 (up2 (tl S) 0 5 w) 0 6 x) 1 (cpy 348 (S 1) (fun _ => 0))) 3 (cpy c (S 3) (fun _ => 0))) h1 → FrM b h h1 → X l G mX3_wood (rmK d 0 0) (TGm G (fun v h' z' => Q v h' ∧ z' = z) 0 0) 0 0 63 [(0, .ref b), (1, .int w), (2, .int x), (3, .int i)] [] h1 z := by
      intro hs n
      induction n using Nat.strongRecOn with
      | _ n ih =>
      intro c i h1 hc hi hm hf
      subst hi
      refine X.w wkX3_wood (fcons (ceV k_isIn mmR3 ckX3_107 rfl mrR3 (by omega) rfl) fnil) [63] 33 rfl ?_
      refine And.intro (fun b66 => ?_) (fun b66 => ?_)
      · simp only [cP, cN, bI_0, Bool.not_eq_false, lt_nle, Decidable.not_not] at b66
        have hc2 : 64 ≤ c := (le64 (by omega) (by omega)).mp b66
        obtain rfl : c = 64 := by omega
        refine pF0 (okV_W rfl) (by first | assumption | exact hm.obj | exact hm.arr _ rfl) (Nat.le_of_ble_eq_true rfl) (by first | exact hm.N | exact hm.No _) ?_
        intro h84 e84
        have hm := hm.u0 e84 rfl; have hf := hf.u0 e84
        refine pF0 (okV_W rfl) (by first | assumption | exact hm.obj | exact hm.arr _ rfl) (Nat.le_of_ble_eq_true rfl) (by first | exact hm.N | exact hm.No _) ?_
        intro h89 e89
        have hm := hm.u0 e89 rfl; have hf := hf.u0 e89
        refine pF0 (okV_W rfl) (by first | assumption | exact hm.obj | exact hm.arr _ rfl) (Nat.le_of_ble_eq_true rfl) (by first | exact hm.N | exact hm.No _) ?_
        intro h94 e94
        have hm := hm.u0 e94 rfl; have hf := hf.u0 e94
        refine pF0 (okV_W rfl) (by first | assumption | exact hm.obj | exact hm.arr _ rfl) (Nat.le_of_ble_eq_true rfl) (by first | exact hm.N | exact hm.No _) ?_
        intro h99 e99
        have hm := hm.u0 e99 rfl; have hf := hf.u0 e99
        refine pF0 (okV_W rfl) (by first | assumption | exact hm.obj | exact hm.arr _ rfl) (Nat.le_of_ble_eq_true rfl) (by first | exact hm.N | exact hm.No _) ?_
        intro h104 e104
        have hm := hm.u0 e104 rfl; have hf := hf.u0 e104
        refine pF0 (okV_W rfl) (by first | assumption | exact hm.obj | exact hm.arr _ rfl) (Nat.le_of_ble_eq_true rfl) (by first | exact hm.N | exact hm.No _) ?_
        intro h109 e109
        have hm := hm.u0 e109 rfl; have hf := hf.u0 e109
        refine pF0 (okV_W rfl) (by first | assumption | exact hm.obj | exact hm.arr _ rfl) (Nat.le_of_ble_eq_true rfl) (by first | exact hm.N | exact hm.No _) ?_
        intro h114 e114
        have hm := hm.u0 e114 rfl; have hf := hf.u0 e114
        refine pF0 (okV_W rfl) (by first | assumption | exact hm.obj | exact hm.arr _ rfl) (Nat.le_of_ble_eq_true rfl) (by first | exact hm.N | exact hm.No _) ?_
        intro h119 e119
        have hm := hm.u0 e119 rfl; have hf := hf.u0 e119
        refine pF0 (okV_W rfl) (by first | assumption | exact hm.obj | exact hm.arr _ rfl) (Nat.le_of_ble_eq_true rfl) (by first | exact hm.N | exact hm.No _) ?_
        intro h124 e124
        have hm := hm.u0 e124 rfl; have hf := hf.u0 e124
        refine And.intro (by first | exact Or.inl rfl | exact Or.inr rfl | exact bI_01 _) ?_
        exact And.intro (hs _ hm hf) rfl
      · simp only [cP, cN, bI_0, Bool.not_eq_false, lt_nle, Decidable.not_not] at b66
        have hc2 : c < 64 := nle64 b66 (by omega) (by omega)
        refine gF (by first | assumption | exact hm.obj | exact hm.arr _ rfl) ?_
        refine sA (by first | assumption | exact hm.obj | exact hm.arr _ rfl) (by first | exact ixN (by omega) (by decide) | exact ixz (by omega) (by decide) | exact ixa (a := 64) rfl (by omega) (by decide) | exact ixa (a := 128) rfl (by omega) (by decide) | exact ixa (a := 192) rfl (by omega) (by decide) | exact ixa (a := 256) rfl (by omega) (by decide) | exact ixa (a := 262) rfl (by omega) (by decide) | exact ixa (a := 268) rfl (by omega) (by decide) | exact ixa (a := 274) rfl (by omega) (by decide) | exact ixa (a := 348) rfl (by omega) (by decide) | exact ixa (a := 400) rfl (by omega) (by decide)) (by first | exact hm.N | exact hm.No _) ?_
        intro h75 e75
        have hm := hm.uA e75 rfl; have hf := hf.uA e75 (by decide)
        rw [up2_set] at hm
        refine ih (n - 1) (by omega) (c + 1) _ _ (by omega) (nI_1 c) ?_ hf
        rw [← cpy_s c (S 3) (fun _ => 0)]
        exact hm
    have loop1 : (∀ h', IsMod G b (woF S w x) h' → FrM b h h' → Q (some (.int 1)) h') → ∀ (n c : Nat) (i : Int32) (h1 : AH), c + n = 348 → i = nI c → IsMod G b (setF (up2 (up2 (tl S) 0 5 w) 0 6 x) 1 (cpy c (S 1) (fun _ => 0))) h1 → FrM b h h1 → X l G mX3_wood (rmK d 0 0) (TGm G (fun v h' z' => Q v h' ∧ z' = z) 0 0) 0 0 41 [(0, .ref b), (1, .int w), (2, .int x), (3, .int i)] [] h1 z := by
      intro hs n
      induction n using Nat.strongRecOn with
      | _ n ih =>
      intro c i h1 hc hi hm hf
      subst hi
      refine X.w wkX3_wood (fcons (ceV k_isIn mmR3 ckX3_107 rfl mrR3 (by omega) rfl) fnil) [41, 63] 12 rfl ?_
      refine And.intro (fun b45 => ?_) (fun b45 => ?_)
      · simp only [cP, cN, bI_0, Bool.not_eq_false, lt_nle, Decidable.not_not] at b45
        have hc2 : 348 ≤ c := (le64 (by omega) (by omega)).mp b45
        obtain rfl : c = 348 := by omega
        refine loop2 hs 64 0 _ _ rfl rfl ?_ hf
        rw [cpy_0]
        have e3 : setF (setF (up2 (up2 (tl S) 0 5 w) 0 6 x) 1 (cpy 348 (S 1) (fun _ => 0))) 3 (S 3) = setF (up2 (up2 (tl S) 0 5 w) 0 6 x) 1 (cpy 348 (S 1) (fun _ => 0)) := setF_self (setF (up2 (up2 (tl S) 0 5 w) 0 6 x) 1 (cpy 348 (S 1) (fun _ => 0))) 3
        rw [e3]
        exact hm
      · simp only [cP, cN, bI_0, Bool.not_eq_false, lt_nle, Decidable.not_not] at b45
        have hc2 : c < 348 := nle64 b45 (by omega) (by omega)
        refine gF (by first | assumption | exact hm.obj | exact hm.arr _ rfl) ?_
        refine sA (by first | assumption | exact hm.obj | exact hm.arr _ rfl) (by first | exact ixN (by omega) (by decide) | exact ixz (by omega) (by decide) | exact ixa (a := 64) rfl (by omega) (by decide) | exact ixa (a := 128) rfl (by omega) (by decide) | exact ixa (a := 192) rfl (by omega) (by decide) | exact ixa (a := 256) rfl (by omega) (by decide) | exact ixa (a := 262) rfl (by omega) (by decide) | exact ixa (a := 268) rfl (by omega) (by decide) | exact ixa (a := 274) rfl (by omega) (by decide) | exact ixa (a := 348) rfl (by omega) (by decide) | exact ixa (a := 400) rfl (by omega) (by decide)) (by first | exact hm.N | exact hm.No _) ?_
        intro h54 e54
        have hm := hm.uA e54 rfl; have hf := hf.uA e54 (by decide)
        rw [up2_set] at hm
        refine ih (n - 1) (by omega) (c + 1) _ _ (by omega) (nI_1 c) ?_ hf
        rw [← cpy_s]
        exact hm
    refine X.w wkX3_wood (fcons (ceV k_isIn mmR3 ckX3_107 rfl mrR3 (by omega) rfl) fnil) [41] 25 rfl ?_
    refine pF0 (okV_W rfl) (by first | assumption | exact hm.obj | exact hm.arr _ rfl) (Nat.le_of_ble_eq_true rfl) (by first | exact hm.N | exact hm.No _) ?_
    intro h2 e2
    have hm := hm.u0 e2 rfl; have hf := hf.u0 e2
    refine Exists.intro _ (Exists.intro () (And.intro hm (And.intro trivial ?_)))
    intro v10 e10
    subst e10
    refine And.intro (fun b13 => ?_) (fun b13 => ?_)
    · simp only [cP, cN, bI_0, Bool.not_eq_false, lt_nle, Decidable.not_not] at b13
      refine And.intro (by first | exact Or.inl rfl | exact Or.inr rfl | exact bI_01 _) ?_
      exact And.intro (hs _ _ _ (Or.inr ⟨fun q => absurd (b13.symm.trans q.1) (by decide), rfl, rfl⟩) hm hf) rfl
    · simp only [cP, cN, bI_0, Bool.not_eq_false, lt_nle, Decidable.not_not] at b13
      refine Exists.intro _ (Exists.intro () (And.intro hm (And.intro trivial ?_)))
      intro v21 e21
      subst e21
      refine And.intro (fun b24 => ?_) (fun b24 => ?_)
      · simp only [cP, cN, bI_0, Bool.not_eq_false, lt_nle, Decidable.not_not] at b24
        refine pF0 (okV_W rfl) (by first | assumption | exact hm.obj | exact hm.arr _ rfl) (Nat.le_of_ble_eq_true rfl) (by first | exact hm.N | exact hm.No _) ?_
        intro h31 e31
        have hm := hm.u0 e31 rfl; have hf := hf.u0 e31
        refine pF0 (okV_W rfl) (by first | assumption | exact hm.obj | exact hm.arr _ rfl) (Nat.le_of_ble_eq_true rfl) (by first | exact hm.N | exact hm.No _) ?_
        intro h36 e36
        have hm := hm.u0 e36 rfl; have hf := hf.u0 e36
        refine loop1 (fun h' hm hf => hs _ _ _ (Or.inl ⟨⟨b13, b24⟩, rfl, rfl⟩) hm hf) 348 0 _ _ rfl rfl ?_ hf
        rw [cpy_0]
        have e3 : setF (up2 (up2 (tl S) 0 5 w) 0 6 x) 1 (S 1) = up2 (up2 (tl S) 0 5 w) 0 6 x := setF_self (up2 (up2 (tl S) 0 5 w) 0 6 x) 1
        rw [e3]
        exact hm
      · simp only [cP, cN, bI_0, Bool.not_eq_false, lt_nle, Decidable.not_not] at b24
        refine And.intro (by first | exact Or.inl rfl | exact Or.inr rfl | exact bI_01 _) ?_
        exact And.intro (hs _ _ _ (Or.inr ⟨fun q => absurd (b24.symm.trans q.2) (by decide), rfl, rfl⟩) hm hf) rfl
theorem k_damp : CtS mX3_damp 2 (mW2 (fun (a : Unit) c x S => Sq8 S) (fun (a : Unit) c x S v S' => ((isCellM S c = true ∧ isInB x 0 99 = true) ∧ v = 1 ∧ S' = up2 (up2 (tl S) 3 (gN c) (x - 10)) 0 3 0) ∨ (¬ (isCellM S c = true ∧ isInB x 0 99 = true) ∧ v = 0 ∧ S' = tl S))) := by
  intro l G d hd as h z Q hs
  match as, hs with
  | [.ref b, .int c, .int x], hs =>
    obtain ⟨S, a, hm, hp, hs⟩ := hs
    replace hp : Sq8 S := hp
    replace hs : ∀ v S' h', (((isCellM S c = true ∧ isInB x 0 99 = true) ∧ v = 1 ∧ S' = up2 (up2 (tl S) 3 (gN c) (x - 10)) 0 3 0) ∨ (¬ (isCellM S c = true ∧ isInB x 0 99 = true) ∧ v = 0 ∧ S' = tl S)) → IsMod G b S' h' → FrM b h h' → Q (some (.int v)) h' := hs
    have hf : FrM b h h := FrM.rf
    refine Ct.of rfl (Nat.le_of_ble_eq_true rfl) rfl ?_
    refine X.w wkX3_damp (fcons (ceV k_isIn mmR3 ckX3_107 rfl mrR3 (by omega) rfl) (fcons (ceV k_isCell mmR1 ckX3_129 rfl mrR1 (by omega) rfl) fnil)) [] 26 rfl ?_
    refine pF0 (okV_W rfl) (by first | assumption | exact hm.obj | exact hm.arr _ rfl) (Nat.le_of_ble_eq_true rfl) (by first | exact hm.N | exact hm.No _) ?_
    intro h2 e2
    have hm := hm.u0 e2 rfl; have hf := hf.u0 e2
    refine Exists.intro _ (Exists.intro () (And.intro hm (And.intro trivial ?_)))
    intro v7 e7
    subst e7
    refine And.intro (fun b10 => ?_) (fun b10 => ?_)
    · simp only [cP, cN, bI_0, Bool.not_eq_false, lt_nle, Decidable.not_not] at b10
      refine And.intro (by first | exact Or.inl rfl | exact Or.inr rfl | exact bI_01 _) ?_
      exact And.intro (hs _ _ _ (Or.inr ⟨fun q => absurd (b10.symm.trans q.1) (by decide), rfl, rfl⟩) hm hf) rfl
    · simp only [cP, cN, bI_0, Bool.not_eq_false, lt_nle, Decidable.not_not] at b10
      obtain ⟨k, hk, rfl⟩ := isCellM_lt hp b10
      have hg : gN (nI k) = k := gN_nI (by omega)
      refine Exists.intro _ (Exists.intro () (And.intro hm (And.intro trivial ?_)))
      intro v18 e18
      subst e18
      refine And.intro (fun b21 => ?_) (fun b21 => ?_)
      · simp only [cP, cN, bI_0, Bool.not_eq_false, lt_nle, Decidable.not_not] at b21
        refine gF (by first | assumption | exact hm.obj | exact hm.arr _ rfl) ?_
        refine sA (by first | assumption | exact hm.obj | exact hm.arr _ rfl) (by first | exact ixN (by omega) (by decide) | exact ixz (by omega) (by decide) | exact ixa (a := 64) rfl (by omega) (by decide) | exact ixa (a := 128) rfl (by omega) (by decide) | exact ixa (a := 192) rfl (by omega) (by decide) | exact ixa (a := 256) rfl (by omega) (by decide) | exact ixa (a := 262) rfl (by omega) (by decide) | exact ixa (a := 268) rfl (by omega) (by decide) | exact ixa (a := 274) rfl (by omega) (by decide) | exact ixa (a := 348) rfl (by omega) (by decide) | exact ixa (a := 400) rfl (by omega) (by decide)) (by first | exact hm.N | exact hm.No _) ?_
        intro h35 e35
        have hm := hm.uA e35 rfl; have hf := hf.uA e35 (by decide)
        refine pF0 (okV_W rfl) (by first | assumption | exact hm.obj | exact hm.arr _ rfl) (Nat.le_of_ble_eq_true rfl) (by first | exact hm.N | exact hm.No _) ?_
        intro h38 e38
        have hm := hm.u0 e38 rfl; have hf := hf.u0 e38
        refine And.intro (by first | exact Or.inl rfl | exact Or.inr rfl | exact bI_01 _) ?_
        rw [hg] at hs
        exact And.intro (hs _ _ _ (Or.inl ⟨⟨b10, b21⟩, rfl, rfl⟩) hm hf) rfl
      · simp only [cP, cN, bI_0, Bool.not_eq_false, lt_nle, Decidable.not_not] at b21
        refine And.intro (by first | exact Or.inl rfl | exact Or.inr rfl | exact bI_01 _) ?_
        exact And.intro (hs _ _ _ (Or.inr ⟨fun q => absurd (b21.symm.trans q.2) (by decide), rfl, rfl⟩) hm hf) rfl
def wdC (S : SS) (x y u : Int32) : Prop := isInB x 0 99 = true ∧ isInB y 0 9 = true ∧ isInB u (-1) (S 0 8) = true ∧ ¬ S 0 8 = 12
theorem k_word : CtS mX3_word 2 (mW3 (fun (a : Unit) x y u S => Bd 12 (S 0 8)) (fun (a : Unit) x y u S v S' => (wdC S x y u ∧ v = S 0 8 ∧ S' = up2 (up2 (up2 (up2 (up2 (tl S) 4 (gN (S 0 8)) x) 5 (gN (S 0 8)) y) 6 (gN (S 0 8)) u) 0 8 (S 0 8 + 1)) 0 3 0) ∨ (¬ wdC S x y u ∧ v = -1 ∧ S' = tl S))) := by
  intro l G d hd as h z Q hs
  match as, hs with
  | [.ref b, .int x, .int y, .int u], hs =>
    obtain ⟨S, a, hm, hp, hs⟩ := hs
    replace hp : Bd 12 (S 0 8) := hp
    replace hs : ∀ v S' h', ((wdC S x y u ∧ v = S 0 8 ∧ S' = up2 (up2 (up2 (up2 (up2 (tl S) 4 (gN (S 0 8)) x) 5 (gN (S 0 8)) y) 6 (gN (S 0 8)) u) 0 8 (S 0 8 + 1)) 0 3 0) ∨ (¬ wdC S x y u ∧ v = -1 ∧ S' = tl S)) → IsMod G b S' h' → FrM b h h' → Q (some (.int v)) h' := hs
    have hf : FrM b h h := FrM.rf
    refine Ct.of rfl (Nat.le_of_ble_eq_true rfl) rfl ?_
    refine X.w wkX3_word (fcons (ceV k_isIn mmR3 ckX3_107 rfl mrR3 (by omega) rfl) fnil) [] 59 rfl ?_
    refine pF0 (okV_W rfl) (by first | assumption | exact hm.obj | exact hm.arr _ rfl) (Nat.le_of_ble_eq_true rfl) (by first | exact hm.N | exact hm.No _) ?_
    intro h2 e2
    have hm := hm.u0 e2 rfl; have hf := hf.u0 e2
    refine Exists.intro _ (Exists.intro () (And.intro hm (And.intro trivial ?_)))
    intro v10 e10
    subst e10
    refine And.intro (fun b13 => ?_) (fun b13 => ?_)
    · simp only [cP, cN, bI_0, Bool.not_eq_false, lt_nle, Decidable.not_not] at b13
      exact And.intro (hs _ _ _ (Or.inr ⟨fun q => absurd (b13.symm.trans q.1) (by decide), rfl, rfl⟩) hm hf) rfl
    · simp only [cP, cN, bI_0, Bool.not_eq_false, lt_nle, Decidable.not_not] at b13
      refine Exists.intro _ (Exists.intro () (And.intro hm (And.intro trivial ?_)))
      intro v21 e21
      subst e21
      refine And.intro (fun b24 => ?_) (fun b24 => ?_)
      · simp only [cP, cN, bI_0, Bool.not_eq_false, lt_nle, Decidable.not_not] at b24
        exact And.intro (hs _ _ _ (Or.inr ⟨fun q => absurd (b24.symm.trans q.2.1) (by decide), rfl, rfl⟩) hm hf) rfl
      · simp only [cP, cN, bI_0, Bool.not_eq_false, lt_nle, Decidable.not_not] at b24
        refine gF (by first | assumption | exact hm.obj | exact hm.arr _ rfl) ?_
        refine Exists.intro _ (Exists.intro () (And.intro hm (And.intro trivial ?_)))
        intro v34 e34
        subst e34
        refine And.intro (fun b37 => ?_) (fun b37 => ?_)
        · simp only [cP, cN, bI_0, Bool.not_eq_false, lt_nle, Decidable.not_not] at b37
          exact And.intro (hs _ _ _ (Or.inr ⟨fun q => absurd (b37.symm.trans q.2.2.1) (by decide), rfl, rfl⟩) hm hf) rfl
        · simp only [cP, cN, bI_0, Bool.not_eq_false, lt_nle, Decidable.not_not] at b37
          refine gF (by first | assumption | exact hm.obj | exact hm.arr _ rfl) ?_
          refine And.intro (fun b46 => ?_) (fun b46 => ?_)
          · simp only [cP, cN, bI_0, Bool.not_eq_false, lt_nle, Decidable.not_not] at b46
            have hk : gN (S 0 8) < 12 := by
              have h8 := hp.2
              rcases Nat.lt_or_ge (gN (S 0 8)) 12 with q | q
              · exact q
              · exact absurd (by show S 0 8 = 12; rw [hp.1, show gN (S 0 8) = 12 from by omega]; rfl) b46
            refine gF (by first | assumption | exact hm.obj | exact hm.arr _ rfl) ?_
            refine gF (by first | assumption | exact hm.obj | exact hm.arr _ rfl) ?_
            refine sA (by first | assumption | exact hm.obj | exact hm.arr _ rfl) (ixE hp.1 hk (by decide)) (by first | exact hm.N | exact hm.No _) ?_
            intro h60 e60
            have hm := hm.uA e60 rfl; have hf := hf.uA e60 (by decide)
            refine gF (by first | assumption | exact hm.obj | exact hm.arr _ rfl) ?_
            refine gF (by first | assumption | exact hm.obj | exact hm.arr _ rfl) ?_
            refine sA (by first | assumption | exact hm.obj | exact hm.arr _ rfl) (ixE hp.1 hk (by decide)) (by first | exact hm.N | exact hm.No _) ?_
            intro h70 e70
            have hm := hm.uA e70 rfl; have hf := hf.uA e70 (by decide)
            refine gF (by first | assumption | exact hm.obj | exact hm.arr _ rfl) ?_
            refine gF (by first | assumption | exact hm.obj | exact hm.arr _ rfl) ?_
            refine sA (by first | assumption | exact hm.obj | exact hm.arr _ rfl) (ixE hp.1 hk (by decide)) (by first | exact hm.N | exact hm.No _) ?_
            intro h80 e80
            have hm := hm.uA e80 rfl; have hf := hf.uA e80 (by decide)
            refine gF (by first | assumption | exact hm.obj | exact hm.arr _ rfl) ?_
            refine pF0 (okV_W rfl) (by first | assumption | exact hm.obj | exact hm.arr _ rfl) (Nat.le_of_ble_eq_true rfl) (by first | exact hm.N | exact hm.No _) ?_
            intro h88 e88
            have hm := hm.u0 e88 rfl; have hf := hf.u0 e88
            refine pF0 (okV_W rfl) (by first | assumption | exact hm.obj | exact hm.arr _ rfl) (Nat.le_of_ble_eq_true rfl) (by first | exact hm.N | exact hm.No _) ?_
            intro h93 e93
            have hm := hm.u0 e93 rfl; have hf := hf.u0 e93
            refine gF (by first | assumption | exact hm.obj | exact hm.arr _ rfl) ?_
            exact And.intro (hs _ _ _ (Or.inl ⟨⟨b13, b24, b37, b46⟩, by show S 0 8 + 1 - 1 = S 0 8; rw [hp.1, nI_1, nI_pred], rfl⟩) hm hf) rfl
          · simp only [cP, cN, bI_0, Bool.not_eq_false, lt_nle, Decidable.not_not] at b46
            exact And.intro (hs _ _ _ (Or.inr ⟨fun q => q.2.2.2 b46, rfl, rfl⟩) hm hf) rfl
theorem k_person : CtS mX3_person 2 (mW1 (fun (a : Unit) c S => Bd 6 (S 0 12)) (fun (a : Unit) c S v S' => ((isCellM S c = true ∧ ¬ S 0 12 = 6) ∧ v = S 0 12 ∧ S' = up2 (up2 (up2 (tl S) 1 (256 + gN (S 0 12)) c) 0 12 (S 0 12 + 1)) 0 3 0) ∨ (¬ (isCellM S c = true ∧ ¬ S 0 12 = 6) ∧ v = -1 ∧ S' = tl S))) := by
  intro l G d hd as h z Q hs
  match as, hs with
  | [.ref b, .int c], hs =>
    obtain ⟨S, a, hm, hp, hs⟩ := hs
    replace hp : Bd 6 (S 0 12) := hp
    replace hs : ∀ v S' h', (((isCellM S c = true ∧ ¬ S 0 12 = 6) ∧ v = S 0 12 ∧ S' = up2 (up2 (up2 (tl S) 1 (256 + gN (S 0 12)) c) 0 12 (S 0 12 + 1)) 0 3 0) ∨ (¬ (isCellM S c = true ∧ ¬ S 0 12 = 6) ∧ v = -1 ∧ S' = tl S)) → IsMod G b S' h' → FrM b h h' → Q (some (.int v)) h' := hs
    have hf : FrM b h h := FrM.rf
    refine Ct.of rfl (Nat.le_of_ble_eq_true rfl) rfl ?_
    refine X.w wkX3_person (fcons (ceV k_isCell mmR1 ckX3_129 rfl mrR1 (by omega) rfl) fnil) [] 34 rfl ?_
    refine pF0 (okV_W rfl) (by first | assumption | exact hm.obj | exact hm.arr _ rfl) (Nat.le_of_ble_eq_true rfl) (by first | exact hm.N | exact hm.No _) ?_
    intro h2 e2
    have hm := hm.u0 e2 rfl; have hf := hf.u0 e2
    refine Exists.intro _ (Exists.intro () (And.intro hm (And.intro trivial ?_)))
    intro v7 e7
    subst e7
    refine And.intro (fun b10 => ?_) (fun b10 => ?_)
    · simp only [cP, cN, bI_0, Bool.not_eq_false, lt_nle, Decidable.not_not] at b10
      exact And.intro (hs _ _ _ (Or.inr ⟨fun q => absurd (b10.symm.trans q.1) (by decide), rfl, rfl⟩) hm hf) rfl
    · simp only [cP, cN, bI_0, Bool.not_eq_false, lt_nle, Decidable.not_not] at b10
      refine gF (by first | assumption | exact hm.obj | exact hm.arr _ rfl) ?_
      refine And.intro (fun b19 => ?_) (fun b19 => ?_)
      · simp only [cP, cN, bI_0, Bool.not_eq_false, lt_nle, Decidable.not_not] at b19
        have hk : gN (S 0 12) < 6 := by
          have h8 := hp.2
          rcases Nat.lt_or_ge (gN (S 0 12)) 6 with q | q
          · exact q
          · exact absurd (by show S 0 12 = 6; rw [hp.1, show gN (S 0 12) = 6 from by omega]; rfl) b19
        refine gF (by first | assumption | exact hm.obj | exact hm.arr _ rfl) ?_
        refine gF (by first | assumption | exact hm.obj | exact hm.arr _ rfl) ?_
        refine sA (by first | assumption | exact hm.obj | exact hm.arr _ rfl) (ixE (j := 256 + gN (S 0 12)) (by show 256 + S 0 12 = _; rw [hp.1, show (256 : Int32) = nI 256 from rfl, nI_add, gN_nI (by have := hp.2; omega)]) (by omega) (by decide)) (by first | exact hm.N | exact hm.No _) ?_
        intro h37 e37
        have hm := hm.uA e37 rfl; have hf := hf.uA e37 (by decide)
        refine gF (by first | assumption | exact hm.obj | exact hm.arr _ rfl) ?_
        refine pF0 (okV_W rfl) (by first | assumption | exact hm.obj | exact hm.arr _ rfl) (Nat.le_of_ble_eq_true rfl) (by first | exact hm.N | exact hm.No _) ?_
        intro h45 e45
        have hm := hm.u0 e45 rfl; have hf := hf.u0 e45
        refine pF0 (okV_W rfl) (by first | assumption | exact hm.obj | exact hm.arr _ rfl) (Nat.le_of_ble_eq_true rfl) (by first | exact hm.N | exact hm.No _) ?_
        intro h50 e50
        have hm := hm.u0 e50 rfl; have hf := hf.u0 e50
        refine gF (by first | assumption | exact hm.obj | exact hm.arr _ rfl) ?_
        exact And.intro (hs _ _ _ (Or.inl ⟨⟨b10, b19⟩, by show S 0 12 + 1 - 1 = S 0 12; rw [hp.1, nI_1, nI_pred], rfl⟩) hm hf) rfl
      · simp only [cP, cN, bI_0, Bool.not_eq_false, lt_nle, Decidable.not_not] at b19
        exact And.intro (hs _ _ _ (Or.inr ⟨fun q => q.2 b19, rfl, rfl⟩) hm hf) rfl
def stF (S : SS) (w x : Int32) : SS := up2 (up2 (tl S) 0 (if w = 0 then 13 else if w = 1 then 14 else 15) x) 0 3 0
theorem k_set : CtS mX3_set 2 (mW2 (fun (a : Unit) w x S => True) (fun (a : Unit) w x S v S' => ((isInB w 0 2 = true ∧ isInB x 0 1000 = true) ∧ v = 1 ∧ S' = stF S w x) ∨ (¬ (isInB w 0 2 = true ∧ isInB x 0 1000 = true) ∧ v = 0 ∧ S' = tl S))) := by
  intro l G d hd as h z Q hs
  match as, hs with
  | [.ref b, .int w, .int x], hs =>
    obtain ⟨S, a, hm, hp, hs⟩ := hs
    replace hp : True := hp
    replace hs : ∀ v S' h', (((isInB w 0 2 = true ∧ isInB x 0 1000 = true) ∧ v = 1 ∧ S' = stF S w x) ∨ (¬ (isInB w 0 2 = true ∧ isInB x 0 1000 = true) ∧ v = 0 ∧ S' = tl S)) → IsMod G b S' h' → FrM b h h' → Q (some (.int v)) h' := hs
    have hf : FrM b h h := FrM.rf
    refine Ct.of rfl (Nat.le_of_ble_eq_true rfl) rfl ?_
    refine X.w wkX3_set (fcons (ceV k_isIn mmR3 ckX3_107 rfl mrR3 (by omega) rfl) fnil) [] 38 rfl ?_
    refine pF0 (okV_W rfl) (by first | assumption | exact hm.obj | exact hm.arr _ rfl) (Nat.le_of_ble_eq_true rfl) (by first | exact hm.N | exact hm.No _) ?_
    intro h2 e2
    have hm := hm.u0 e2 rfl; have hf := hf.u0 e2
    refine Exists.intro _ (Exists.intro () (And.intro hm (And.intro trivial ?_)))
    intro v9 e9
    subst e9
    refine And.intro (fun b12 => ?_) (fun b12 => ?_)
    · simp only [cP, cN, bI_0, Bool.not_eq_false, lt_nle, Decidable.not_not] at b12
      refine And.intro (by first | exact Or.inl rfl | exact Or.inr rfl | exact bI_01 _) ?_
      exact And.intro (hs _ _ _ (Or.inr ⟨fun q => absurd (b12.symm.trans q.1) (by decide), rfl, rfl⟩) hm hf) rfl
    · simp only [cP, cN, bI_0, Bool.not_eq_false, lt_nle, Decidable.not_not] at b12
      refine Exists.intro _ (Exists.intro () (And.intro hm (And.intro trivial ?_)))
      intro v21 e21
      subst e21
      refine And.intro (fun b24 => ?_) (fun b24 => ?_)
      · simp only [cP, cN, bI_0, Bool.not_eq_false, lt_nle, Decidable.not_not] at b24
        refine And.intro (fun b30 => ?_) (fun b30 => ?_)
        · simp only [cP, cN, bI_0, Bool.not_eq_false, lt_nle, Decidable.not_not] at b30
          refine And.intro (fun b40 => ?_) (fun b40 => ?_)
          · simp only [cP, cN, bI_0, Bool.not_eq_false, lt_nle, Decidable.not_not] at b40
            refine And.intro (fun b50 => ?_) (fun b50 => ?_)
            · simp only [cP, cN, bI_0, Bool.not_eq_false, lt_nle, Decidable.not_not] at b50
              refine pF0 (okV_W rfl) (by first | assumption | exact hm.obj | exact hm.arr _ rfl) (Nat.le_of_ble_eq_true rfl) (by first | exact hm.N | exact hm.No _) ?_
              intro h60 e60
              have hm := hm.u0 e60 rfl; have hf := hf.u0 e60
              refine And.intro (by first | exact Or.inl rfl | exact Or.inr rfl | exact bI_01 _) ?_
              obtain ⟨k, -, hk, rfl⟩ := isInB_nI (a := 0) (b := 2) (by decide) b12 (by decide)
              exfalso
              match k, hk with
              | 0, _ => exact b30 rfl
              | 1, _ => exact b40 rfl
              | 2, _ => exact b50 rfl
            · simp only [cP, cN, bI_0, Bool.not_eq_false, lt_nle, Decidable.not_not] at b50
              refine pF0 (okV_W rfl) (by first | assumption | exact hm.obj | exact hm.arr _ rfl) (Nat.le_of_ble_eq_true rfl) (by first | exact hm.N | exact hm.No _) ?_
              intro h55 e55
              have hm := hm.u0 e55 rfl; have hf := hf.u0 e55
              refine pF0 (okV_W rfl) (by first | assumption | exact hm.obj | exact hm.arr _ rfl) (Nat.le_of_ble_eq_true rfl) (by first | exact hm.N | exact hm.No _) ?_
              intro h60 e60
              have hm := hm.u0 e60 rfl; have hf := hf.u0 e60
              refine And.intro (by first | exact Or.inl rfl | exact Or.inr rfl | exact bI_01 _) ?_
              exact And.intro (hs _ _ _ (Or.inl ⟨⟨b12, b24⟩, rfl, by unfold stF; rw [if_neg b30, if_neg b40]; rfl⟩) hm hf) rfl
          · simp only [cP, cN, bI_0, Bool.not_eq_false, lt_nle, Decidable.not_not] at b40
            refine pF0 (okV_W rfl) (by first | assumption | exact hm.obj | exact hm.arr _ rfl) (Nat.le_of_ble_eq_true rfl) (by first | exact hm.N | exact hm.No _) ?_
            intro h45 e45
            have hm := hm.u0 e45 rfl; have hf := hf.u0 e45
            refine And.intro (fun b50 => ?_) (fun b50 => ?_)
            · simp only [cP, cN, bI_0, Bool.not_eq_false, lt_nle, Decidable.not_not] at b50
              refine pF0 (okV_W rfl) (by first | assumption | exact hm.obj | exact hm.arr _ rfl) (Nat.le_of_ble_eq_true rfl) (by first | exact hm.N | exact hm.No _) ?_
              intro h60 e60
              have hm := hm.u0 e60 rfl; have hf := hf.u0 e60
              refine And.intro (by first | exact Or.inl rfl | exact Or.inr rfl | exact bI_01 _) ?_
              exact And.intro (hs _ _ _ (Or.inl ⟨⟨b12, b24⟩, rfl, by unfold stF; rw [if_neg b30, if_pos b40]; rfl⟩) hm hf) rfl
            · simp only [cP, cN, bI_0, Bool.not_eq_false, lt_nle, Decidable.not_not] at b50
              refine pF0 (okV_W rfl) (by first | assumption | exact hm.obj | exact hm.arr _ rfl) (Nat.le_of_ble_eq_true rfl) (by first | exact hm.N | exact hm.No _) ?_
              intro h55 e55
              have hm := hm.u0 e55 rfl; have hf := hf.u0 e55
              refine pF0 (okV_W rfl) (by first | assumption | exact hm.obj | exact hm.arr _ rfl) (Nat.le_of_ble_eq_true rfl) (by first | exact hm.N | exact hm.No _) ?_
              intro h60 e60
              have hm := hm.u0 e60 rfl; have hf := hf.u0 e60
              refine And.intro (by first | exact Or.inl rfl | exact Or.inr rfl | exact bI_01 _) ?_
              exact absurd (b40.symm.trans b50) (by decide)
        · simp only [cP, cN, bI_0, Bool.not_eq_false, lt_nle, Decidable.not_not] at b30
          refine pF0 (okV_W rfl) (by first | assumption | exact hm.obj | exact hm.arr _ rfl) (Nat.le_of_ble_eq_true rfl) (by first | exact hm.N | exact hm.No _) ?_
          intro h35 e35
          have hm := hm.u0 e35 rfl; have hf := hf.u0 e35
          refine And.intro (fun b40 => ?_) (fun b40 => ?_)
          · simp only [cP, cN, bI_0, Bool.not_eq_false, lt_nle, Decidable.not_not] at b40
            refine And.intro (fun b50 => ?_) (fun b50 => ?_)
            · simp only [cP, cN, bI_0, Bool.not_eq_false, lt_nle, Decidable.not_not] at b50
              refine pF0 (okV_W rfl) (by first | assumption | exact hm.obj | exact hm.arr _ rfl) (Nat.le_of_ble_eq_true rfl) (by first | exact hm.N | exact hm.No _) ?_
              intro h60 e60
              have hm := hm.u0 e60 rfl; have hf := hf.u0 e60
              refine And.intro (by first | exact Or.inl rfl | exact Or.inr rfl | exact bI_01 _) ?_
              exact And.intro (hs _ _ _ (Or.inl ⟨⟨b12, b24⟩, rfl, by unfold stF; rw [if_pos b30]; rfl⟩) hm hf) rfl
            · simp only [cP, cN, bI_0, Bool.not_eq_false, lt_nle, Decidable.not_not] at b50
              refine pF0 (okV_W rfl) (by first | assumption | exact hm.obj | exact hm.arr _ rfl) (Nat.le_of_ble_eq_true rfl) (by first | exact hm.N | exact hm.No _) ?_
              intro h55 e55
              have hm := hm.u0 e55 rfl; have hf := hf.u0 e55
              refine pF0 (okV_W rfl) (by first | assumption | exact hm.obj | exact hm.arr _ rfl) (Nat.le_of_ble_eq_true rfl) (by first | exact hm.N | exact hm.No _) ?_
              intro h60 e60
              have hm := hm.u0 e60 rfl; have hf := hf.u0 e60
              refine And.intro (by first | exact Or.inl rfl | exact Or.inr rfl | exact bI_01 _) ?_
              exact absurd (b30.symm.trans b50) (by decide)
          · simp only [cP, cN, bI_0, Bool.not_eq_false, lt_nle, Decidable.not_not] at b40
            refine pF0 (okV_W rfl) (by first | assumption | exact hm.obj | exact hm.arr _ rfl) (Nat.le_of_ble_eq_true rfl) (by first | exact hm.N | exact hm.No _) ?_
            intro h45 e45
            have hm := hm.u0 e45 rfl; have hf := hf.u0 e45
            refine And.intro (fun b50 => ?_) (fun b50 => ?_)
            · simp only [cP, cN, bI_0, Bool.not_eq_false, lt_nle, Decidable.not_not] at b50
              refine pF0 (okV_W rfl) (by first | assumption | exact hm.obj | exact hm.arr _ rfl) (Nat.le_of_ble_eq_true rfl) (by first | exact hm.N | exact hm.No _) ?_
              intro h60 e60
              have hm := hm.u0 e60 rfl; have hf := hf.u0 e60
              refine And.intro (by first | exact Or.inl rfl | exact Or.inr rfl | exact bI_01 _) ?_
              exact absurd (b30.symm.trans b40) (by decide)
            · simp only [cP, cN, bI_0, Bool.not_eq_false, lt_nle, Decidable.not_not] at b50
              refine pF0 (okV_W rfl) (by first | assumption | exact hm.obj | exact hm.arr _ rfl) (Nat.le_of_ble_eq_true rfl) (by first | exact hm.N | exact hm.No _) ?_
              intro h55 e55
              have hm := hm.u0 e55 rfl; have hf := hf.u0 e55
              refine pF0 (okV_W rfl) (by first | assumption | exact hm.obj | exact hm.arr _ rfl) (Nat.le_of_ble_eq_true rfl) (by first | exact hm.N | exact hm.No _) ?_
              intro h60 e60
              have hm := hm.u0 e60 rfl; have hf := hf.u0 e60
              refine And.intro (by first | exact Or.inl rfl | exact Or.inr rfl | exact bI_01 _) ?_
              exact absurd (b30.symm.trans b40) (by decide)
      · simp only [cP, cN, bI_0, Bool.not_eq_false, lt_nle, Decidable.not_not] at b24
        refine And.intro (by first | exact Or.inl rfl | exact Or.inr rfl | exact bI_01 _) ?_
        exact And.intro (hs _ _ _ (Or.inr ⟨fun q => absurd (b24.symm.trans q.2) (by decide), rfl, rfl⟩) hm hf) rfl
theorem k_end : CtS mX3_end 2 (mW1 (fun (a : Unit) x S => True) (fun (a : Unit) x S v S' => (isInB x 0 (S 0 20) = true ∧ v = 1 ∧ S' = up2 (tl S) 0 20 x) ∨ (¬ isInB x 0 (S 0 20) = true ∧ v = 0 ∧ S' = tl S))) := by
  intro l G d hd as h z Q hs
  match as, hs with
  | [.ref b, .int x], hs =>
    obtain ⟨S, a, hm, hp, hs⟩ := hs
    replace hp : True := hp
    replace hs : ∀ v S' h', ((isInB x 0 (S 0 20) = true ∧ v = 1 ∧ S' = up2 (tl S) 0 20 x) ∨ (¬ isInB x 0 (S 0 20) = true ∧ v = 0 ∧ S' = tl S)) → IsMod G b S' h' → FrM b h h' → Q (some (.int v)) h' := hs
    have hf : FrM b h h := FrM.rf
    refine Ct.of rfl (Nat.le_of_ble_eq_true rfl) rfl ?_
    refine X.w wkX3_end (fcons (ceV k_isIn mmR3 ckX3_107 rfl mrR3 (by omega) rfl) fnil) [] 16 rfl ?_
    refine pF0 (okV_W rfl) (by first | assumption | exact hm.obj | exact hm.arr _ rfl) (Nat.le_of_ble_eq_true rfl) (by first | exact hm.N | exact hm.No _) ?_
    intro h2 e2
    have hm := hm.u0 e2 rfl; have hf := hf.u0 e2
    refine gF (by first | assumption | exact hm.obj | exact hm.arr _ rfl) ?_
    refine Exists.intro _ (Exists.intro () (And.intro hm (And.intro trivial ?_)))
    intro v12 e12
    subst e12
    refine And.intro (fun b15 => ?_) (fun b15 => ?_)
    · simp only [cP, cN, bI_0, Bool.not_eq_false, lt_nle, Decidable.not_not] at b15
      refine pF0 (okV_W rfl) (by first | assumption | exact hm.obj | exact hm.arr _ rfl) (Nat.le_of_ble_eq_true rfl) (by first | exact hm.N | exact hm.No _) ?_
      intro h22 e22
      have hm := hm.u0 e22 rfl; have hf := hf.u0 e22
      refine And.intro (by first | exact Or.inl rfl | exact Or.inr rfl | exact bI_01 _) ?_
      exact And.intro (hs _ _ _ (Or.inl ⟨b15, rfl, rfl⟩) hm hf) rfl
    · simp only [cP, cN, bI_0, Bool.not_eq_false, lt_nle, Decidable.not_not] at b15
      refine And.intro (by first | exact Or.inl rfl | exact Or.inr rfl | exact bI_01 _) ?_
      exact And.intro (hs _ _ _ (Or.inr ⟨fun q => absurd (b15.symm.trans q) (by decide), rfl, rfl⟩) hm hf) rfl
def byS (x : Int32) (k : Nat) : Int32 := (x >>> (nI k &&& 31)) &&& 255
def typF (f : Nat → Int32) (n : Nat) (x : Int32) : Nat → Int32 := upd (upd (upd (upd f n (byS x 24)) (n + 1) (byS x 16)) (n + 2) (byS x 8)) (n + 3) (byS x 0)
theorem k_types : CtS mX3_types 1 (mV1 (fun (a : Nat) x S => S 0 20 = nI a ∧ a ≤ 396) (fun (a : Nat) x S S' => S' = up2 (setF S 8 (typF (S 8) a x)) 0 20 (nI (a + 4)))) := by
  intro l G d hd as h z Q hs
  match as, hs with
  | [.ref b, .int x], hs =>
    obtain ⟨S, a, hm, hp, hs⟩ := hs
    replace hp : S 0 20 = nI a ∧ a ≤ 396 := hp
    replace hs : ∀ S' h', (S' = up2 (setF S 8 (typF (S 8) a x)) 0 20 (nI (a + 4))) → IsMod G b S' h' → FrM b h h' → Q none h' := hs
    have hf : FrM b h h := FrM.rf
    refine Ct.of rfl (Nat.le_of_ble_eq_true rfl) rfl ?_
    obtain ⟨hn, ha⟩ := hp
    have hm0 : IsMod G b (up2 (setF S 8 (S 8)) 0 20 (nI (a + 0))) h := by rw [setF_self, Nat.add_zero, ← hn, up2_sf]; exact hm
    clear hm
    refine X.w wkX3_types fnil [3] 4 rfl ?_
    have hm := hm0
    refine X.w wkX3_types fnil [3] 22 rfl ?_
    refine And.intro (fun b4 => ?_) (fun b4 => ?_)
    · simp only [cP, cN, bI_0, Bool.not_eq_false, lt_nle, Decidable.not_not] at b4
      exact absurd b4 (by decide)
    · simp only [cP, cN, bI_0, Bool.not_eq_false, lt_nle, Decidable.not_not] at b4
      refine gF (by first | assumption | exact hm.obj | exact hm.arr _ rfl) ?_
      refine gF (by first | assumption | exact hm.obj | exact hm.arr _ rfl) ?_
      refine sA (by first | assumption | exact hm.obj | exact hm.arr _ rfl) (ixN (by omega) (by decide)) (by first | exact hm.N | exact hm.No _) ?_
      intro h22 e22
      have hm := hm.uA e22 rfl; have hf := hf.uA e22 (by decide)
      rw [up2_cm (Or.inl (by decide)), up2_set] at hm
      refine gF (by first | assumption | exact hm.obj | exact hm.arr _ rfl) ?_
      refine pF0 (okV_W rfl) (by first | assumption | exact hm.obj | exact hm.arr _ rfl) (Nat.le_of_ble_eq_true rfl) (by first | exact hm.N | exact hm.No _) ?_
      intro h30 e30
      have hm := hm.u0 e30 rfl; have hf := hf.u0 e30
      rw [up2_2] at hm
      replace hm : IsMod G b (up2 (setF S 8 (upd (S 8) a (byS x 24))) 0 20 (nI (a + 0) + 1)) h30 := hm
      rw [nI_1] at hm
      generalize h30 = hh1 at hm hf
      refine X.w wkX3_types fnil [3] 22 rfl ?_
      refine And.intro (fun b4 => ?_) (fun b4 => ?_)
      · simp only [cP, cN, bI_0, Bool.not_eq_false, lt_nle, Decidable.not_not] at b4
        exact absurd b4 (by decide)
      · simp only [cP, cN, bI_0, Bool.not_eq_false, lt_nle, Decidable.not_not] at b4
        refine gF (by first | assumption | exact hm.obj | exact hm.arr _ rfl) ?_
        refine gF (by first | assumption | exact hm.obj | exact hm.arr _ rfl) ?_
        refine sA (by first | assumption | exact hm.obj | exact hm.arr _ rfl) (ixN (by omega) (by decide)) (by first | exact hm.N | exact hm.No _) ?_
        intro h22 e22
        have hm := hm.uA e22 rfl; have hf := hf.uA e22 (by decide)
        rw [up2_cm (Or.inl (by decide)), up2_set] at hm
        refine gF (by first | assumption | exact hm.obj | exact hm.arr _ rfl) ?_
        refine pF0 (okV_W rfl) (by first | assumption | exact hm.obj | exact hm.arr _ rfl) (Nat.le_of_ble_eq_true rfl) (by first | exact hm.N | exact hm.No _) ?_
        intro h30 e30
        have hm := hm.u0 e30 rfl; have hf := hf.u0 e30
        rw [up2_2] at hm
        replace hm : IsMod G b (up2 (setF S 8 (upd (upd (S 8) a (byS x 24)) (a + 1) (byS x 16))) 0 20 (nI (a + 1) + 1)) h30 := hm
        rw [nI_1] at hm
        generalize h30 = hh2 at hm hf
        refine X.w wkX3_types fnil [3] 22 rfl ?_
        refine And.intro (fun b4 => ?_) (fun b4 => ?_)
        · simp only [cP, cN, bI_0, Bool.not_eq_false, lt_nle, Decidable.not_not] at b4
          exact absurd b4 (by decide)
        · simp only [cP, cN, bI_0, Bool.not_eq_false, lt_nle, Decidable.not_not] at b4
          refine gF (by first | assumption | exact hm.obj | exact hm.arr _ rfl) ?_
          refine gF (by first | assumption | exact hm.obj | exact hm.arr _ rfl) ?_
          refine sA (by first | assumption | exact hm.obj | exact hm.arr _ rfl) (ixN (by omega) (by decide)) (by first | exact hm.N | exact hm.No _) ?_
          intro h22 e22
          have hm := hm.uA e22 rfl; have hf := hf.uA e22 (by decide)
          rw [up2_cm (Or.inl (by decide)), up2_set] at hm
          refine gF (by first | assumption | exact hm.obj | exact hm.arr _ rfl) ?_
          refine pF0 (okV_W rfl) (by first | assumption | exact hm.obj | exact hm.arr _ rfl) (Nat.le_of_ble_eq_true rfl) (by first | exact hm.N | exact hm.No _) ?_
          intro h30 e30
          have hm := hm.u0 e30 rfl; have hf := hf.u0 e30
          rw [up2_2] at hm
          replace hm : IsMod G b (up2 (setF S 8 (upd (upd (upd (S 8) a (byS x 24)) (a + 1) (byS x 16)) (a + 2) (byS x 8))) 0 20 (nI (a + 2) + 1)) h30 := hm
          rw [nI_1] at hm
          generalize h30 = hh3 at hm hf
          refine X.w wkX3_types fnil [3] 22 rfl ?_
          refine And.intro (fun b4 => ?_) (fun b4 => ?_)
          · simp only [cP, cN, bI_0, Bool.not_eq_false, lt_nle, Decidable.not_not] at b4
            exact absurd b4 (by decide)
          · simp only [cP, cN, bI_0, Bool.not_eq_false, lt_nle, Decidable.not_not] at b4
            refine gF (by first | assumption | exact hm.obj | exact hm.arr _ rfl) ?_
            refine gF (by first | assumption | exact hm.obj | exact hm.arr _ rfl) ?_
            refine sA (by first | assumption | exact hm.obj | exact hm.arr _ rfl) (ixN (by omega) (by decide)) (by first | exact hm.N | exact hm.No _) ?_
            intro h22 e22
            have hm := hm.uA e22 rfl; have hf := hf.uA e22 (by decide)
            rw [up2_cm (Or.inl (by decide)), up2_set] at hm
            refine gF (by first | assumption | exact hm.obj | exact hm.arr _ rfl) ?_
            refine pF0 (okV_W rfl) (by first | assumption | exact hm.obj | exact hm.arr _ rfl) (Nat.le_of_ble_eq_true rfl) (by first | exact hm.N | exact hm.No _) ?_
            intro h30 e30
            have hm := hm.u0 e30 rfl; have hf := hf.u0 e30
            rw [up2_2] at hm
            replace hm : IsMod G b (up2 (setF S 8 (upd (upd (upd (upd (S 8) a (byS x 24)) (a + 1) (byS x 16)) (a + 2) (byS x 8)) (a + 3) (byS x 0))) 0 20 (nI (a + 3) + 1)) h30 := hm
            rw [nI_1] at hm
            generalize h30 = hh4 at hm hf
            replace hm : IsMod G b (up2 (setF S 8 (typF (S 8) a x)) 0 20 (nI (a + 4))) hh4 := hm
            refine X.w wkX3_types fnil [3] 4 rfl ?_
            refine And.intro (fun b4 => ?_) (fun b4 => ?_)
            · simp only [cP, cN, bI_0, Bool.not_eq_false, lt_nle, Decidable.not_not] at b4
              exact And.intro (hs _ _ rfl hm hf) rfl
            · simp only [cP, cN, bI_0, Bool.not_eq_false, lt_nle, Decidable.not_not] at b4
              exact absurd b4 (by decide)
def fdF (S : SS) (n : Nat) (x1 x2 x3 x4 x5 : Int32) : SS := up2 (setF (tl S) 8 (typF (typF (typF (typF (typF (S 8) n x1) (n + 4) x2) (n + 8) x3) (n + 12) x4) (n + 16) x5)) 0 20 (nI (n + 20))
theorem k_feed : CtS mX3_feed 2 (mW5 (fun (a : Nat) x1 x2 x3 x4 x5 S => S 0 20 = nI a ∧ a ≤ 400) (fun (a : Nat) x1 x2 x3 x4 x5 S v S' => (a ≤ 380 ∧ v = nI (a + 20) ∧ S' = fdF S a x1 x2 x3 x4 x5) ∨ (¬ a ≤ 380 ∧ v = -1 ∧ S' = tl S))) := by
  intro l G d hd as h z Q hs
  match as, hs with
  | [.ref b, .int x1, .int x2, .int x3, .int x4, .int x5], hs =>
    obtain ⟨S, a, hm, hp, hs⟩ := hs
    replace hp : S 0 20 = nI a ∧ a ≤ 400 := hp
    replace hs : ∀ v S' h', ((a ≤ 380 ∧ v = nI (a + 20) ∧ S' = fdF S a x1 x2 x3 x4 x5) ∨ (¬ a ≤ 380 ∧ v = -1 ∧ S' = tl S)) → IsMod G b S' h' → FrM b h h' → Q (some (.int v)) h' := hs
    have hf : FrM b h h := FrM.rf
    refine Ct.of rfl (Nat.le_of_ble_eq_true rfl) rfl ?_
    obtain ⟨hn, ha⟩ := hp
    refine X.w wkX3_feed (fcons (ceV k_types mmV1 ckX3_156 rfl mrV1 (by omega) rfl) fnil) [] 26 rfl ?_
    refine pF0 (okV_W rfl) (by first | assumption | exact hm.obj | exact hm.arr _ rfl) (Nat.le_of_ble_eq_true rfl) (by first | exact hm.N | exact hm.No _) ?_
    intro h2 e2
    have hm := hm.u0 e2 rfl; have hf := hf.u0 e2
    refine gF (by first | assumption | exact hm.obj | exact hm.arr _ rfl) ?_
    refine And.intro (fun b12 => ?_) (fun b12 => ?_)
    · simp only [cP, cN, bI_0, Bool.not_eq_false, lt_nle, Decidable.not_not] at b12
      have hle : a ≤ 380 := (nI_leI (by omega) (by decide)).mp (hn ▸ b12)
      refine Exists.intro _ (Exists.intro a (And.intro hm (And.intro ⟨hn, by omega⟩ ?_)))
      intro S19 h19 p19 hm hf19
      have hf := hf.tr hf19
      (try dsimp only at p19)
      replace p19 : S19 = _ := p19
      subst p19
      refine Exists.intro _ (Exists.intro (a + 4) (And.intro hm (And.intro ⟨rfl, by omega⟩ ?_)))
      intro S24 h24 p24 hm hf24
      have hf := hf.tr hf24
      (try dsimp only at p24)
      rw [set_up (by decide), up2_2, setF_setF] at p24
      subst p24
      refine Exists.intro _ (Exists.intro (a + 8) (And.intro hm (And.intro ⟨rfl, by omega⟩ ?_)))
      intro S29 h29 p29 hm hf29
      have hf := hf.tr hf29
      (try dsimp only at p29)
      rw [set_up (by decide), up2_2, setF_setF] at p29
      subst p29
      refine Exists.intro _ (Exists.intro (a + 12) (And.intro hm (And.intro ⟨rfl, by omega⟩ ?_)))
      intro S35 h35 p35 hm hf35
      have hf := hf.tr hf35
      (try dsimp only at p35)
      rw [set_up (by decide), up2_2, setF_setF] at p35
      subst p35
      refine Exists.intro _ (Exists.intro (a + 16) (And.intro hm (And.intro ⟨rfl, by omega⟩ ?_)))
      intro S41 h41 p41 hm hf41
      have hf := hf.tr hf41
      (try dsimp only at p41)
      rw [set_up (by decide), up2_2, setF_setF] at p41
      subst p41
      refine gF (by first | assumption | exact hm.obj | exact hm.arr _ rfl) ?_
      exact And.intro (hs _ _ _ (Or.inl ⟨hle, rfl, rfl⟩) hm hf) rfl
    · simp only [cP, cN, bI_0, Bool.not_eq_false, lt_nle, Decidable.not_not] at b12
      have hle : ¬ a ≤ 380 := fun q => b12 (by show S 0 20 ≤ nI 380; rw [hn]; exact nI_le q (by decide))
      exact And.intro (hs _ _ _ (Or.inr ⟨hle, rfl, rfl⟩) hm hf) rfl
