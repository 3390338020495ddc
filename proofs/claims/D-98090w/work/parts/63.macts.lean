set_option maxRecDepth 100000
/-! acts in the model -/
def notF (S : SS) (N : Nat) (x c w : Int32) : SS := if N = 100 then S else up2 (up2 (up2 (up2 (up2 S 7 (4 * N) x) 7 (4 * N + 1) c) 7 (4 * N + 2) w) 7 (4 * N + 3) (S 0 17)) 1 347 (nI (N + 1))
theorem k_notes : CtS mX3_notes 1 (mV3 (fun (a : Nat) x c w S => S 1 347 = nI a ∧ a ≤ 100) (fun (a : Nat) x c w S S' => S' = notF S a x c w)) := by
  intro l G d hd as h z Q hs
  match as, hs with
  | [.ref b, .int x, .int c, .int w], hs =>
    obtain ⟨S, a, hm, hp, hs⟩ := hs
    replace hp : S 1 347 = nI a ∧ a ≤ 100 := hp
    replace hs : ∀ S' h', (S' = notF S a x c w) → IsMod G b S' h' → FrM b h h' → Q none h' := hs
    have hf : FrM b h h := FrM.rf
    refine Ct.of rfl (Nat.le_of_ble_eq_true rfl) rfl ?_
    obtain ⟨hn, ha⟩ := hp
    refine X.w wkX3_notes fnil [] 52 rfl ?_
    refine gF (by first | assumption | exact hm.obj | exact hm.arr _ rfl) ?_
    refine gA (by first | assumption | exact hm.obj | exact hm.arr _ rfl) (ixE (j := 347) rfl (by decide) (by decide)) ?_
    refine And.intro (fun b14 => ?_) (fun b14 => ?_)
    · simp only [cP, cN, bI_0, Bool.not_eq_false, lt_nle, Decidable.not_not] at b14
      have h0 : ¬ a = 100 := fun q => b14 (by rw [hn, q]; rfl)
      refine gF (by first | assumption | exact hm.obj | exact hm.arr _ rfl) ?_
      refine sA (by first | assumption | exact hm.obj | exact hm.arr _ rfl) (ixE (j := 4 * a) (by show 4 * S 1 347 = _; rw [hn, show (4 : Int32) = nI 4 from rfl, pk_mul]) (by omega) (by decide)) (by first | exact hm.N | exact hm.No _) ?_
      intro h27 e27
      have hm := hm.uA e27 rfl; have hf := hf.uA e27 (by decide)
      refine gF (by first | assumption | exact hm.obj | exact hm.arr _ rfl) ?_
      refine sA (by first | assumption | exact hm.obj | exact hm.arr _ rfl) (ixE (j := 4 * a + 1) (by show 4 * S 1 347 + 1 = _; rw [hn, show (4 : Int32) = nI 4 from rfl, show (1 : Int32) = nI 1 from rfl, pk_mul, nI_add]) (by omega) (by decide)) (by first | exact hm.N | exact hm.No _) ?_
      intro h39 e39
      have hm := hm.uA e39 rfl; have hf := hf.uA e39 (by decide)
      refine gF (by first | assumption | exact hm.obj | exact hm.arr _ rfl) ?_
      refine sA (by first | assumption | exact hm.obj | exact hm.arr _ rfl) (ixE (j := 4 * a + 2) (by show 4 * S 1 347 + 2 = _; rw [hn, show (4 : Int32) = nI 4 from rfl, show (2 : Int32) = nI 2 from rfl, pk_mul, nI_add]) (by omega) (by decide)) (by first | exact hm.N | exact hm.No _) ?_
      intro h51 e51
      have hm := hm.uA e51 rfl; have hf := hf.uA e51 (by decide)
      refine gF (by first | assumption | exact hm.obj | exact hm.arr _ rfl) ?_
      refine gF (by first | assumption | exact hm.obj | exact hm.arr _ rfl) ?_
      refine sA (by first | assumption | exact hm.obj | exact hm.arr _ rfl) (ixE (j := 4 * a + 3) (by show 4 * S 1 347 + 3 = _; rw [hn, show (4 : Int32) = nI 4 from rfl, show (3 : Int32) = nI 3 from rfl, pk_mul, nI_add]) (by omega) (by decide)) (by first | exact hm.N | exact hm.No _) ?_
      intro h66 e66
      have hm := hm.uA e66 rfl; have hf := hf.uA e66 (by decide)
      refine gF (by first | assumption | exact hm.obj | exact hm.arr _ rfl) ?_
      refine sA (by first | assumption | exact hm.obj | exact hm.arr _ rfl) (ixE (j := 347) rfl (by decide) (by decide)) (by first | exact hm.N | exact hm.No _) ?_
      intro h78 e78
      have hm := hm.uA e78 rfl; have hf := hf.uA e78 (by decide)
      exact And.intro (hs _ _ (by unfold notF; rw [if_neg h0, ← nI_1, ← hn]; rfl) hm hf) rfl
    · simp only [cP, cN, bI_0, Bool.not_eq_false, lt_nle, Decidable.not_not] at b14
      have h0 : a = 100 := (nI_eq (by omega) (by decide)).mp (hn.symm.trans b14)
      exact And.intro (hs _ _ (by unfold notF; rw [if_pos h0]) hm hf) rfl
def pi1 (S : SS) (k w : Nat) : SS := up2 S 1 (274 + 12 * k + w) (S 1 (274 + 12 * k + w) + 1)
def pi2 (S : SS) (k c : Nat) : SS := up2 S 1 (268 + k) (S 1 (268 + k) + S 1 (64 + c))
/-- of person, cell, word: what a pick needs -/
def PcO (S : SS) (q u : Int32) (a : Nat × Nat × Nat) : Prop := q = nI a.1 ∧ a.1 < 6 ∧ u = nI a.2.1 ∧ a.2.1 < 64 ∧ S 1 a.2.1 - 1 = nI a.2.2 ∧ a.2.2 < 12
theorem k_picks : CtS mX3_picks 1 (mV2 (fun (a : Nat × Nat × Nat) q u S => PcO S q u a) (fun (a : Nat × Nat × Nat) q u S S' => S' = up2 (pi2 (pi1 S a.1 a.2.2) a.1 a.2.1) 1 a.2.1 0)) := by
  intro l G d hd as h z Q hs
  match as, hs with
  | [.ref b, .int q, .int u], hs =>
    obtain ⟨S, a, hm, hp, hs⟩ := hs
    replace hp : PcO S q u a := hp
    replace hs : ∀ S' h', (S' = up2 (pi2 (pi1 S a.1 a.2.2) a.1 a.2.1) 1 a.2.1 0) → IsMod G b S' h' → FrM b h h' → Q none h' := hs
    have hf : FrM b h h := FrM.rf
    refine Ct.of rfl (Nat.le_of_ble_eq_true rfl) rfl ?_
    obtain ⟨k, c, w⟩ := a
    dsimp only at hp hs
    obtain ⟨hq, hk, hu, hc, ew, hw⟩ := hp
    dsimp only at hq hk hu hc ew hw
    subst hq
    subst hu
    refine X.w wkX3_picks fnil [] 59 rfl ?_
    refine gF (by first | assumption | exact hm.obj | exact hm.arr _ rfl) ?_
    refine gA (by first | assumption | exact hm.obj | exact hm.arr _ rfl) (by first | exact ixN (by omega) (by decide) | exact ixz (by omega) (by decide) | exact ixa (a := 64) rfl (by omega) (by decide) | exact ixa (a := 128) rfl (by omega) (by decide) | exact ixa (a := 192) rfl (by omega) (by decide) | exact ixa (a := 256) rfl (by omega) (by decide) | exact ixa (a := 262) rfl (by omega) (by decide) | exact ixa (a := 268) rfl (by omega) (by decide) | exact ixa (a := 274) rfl (by omega) (by decide) | exact ixa (a := 348) rfl (by omega) (by decide) | exact ixa (a := 400) rfl (by omega) (by decide)) ?_
    refine gF (by first | assumption | exact hm.obj | exact hm.arr _ rfl) ?_
    refine gF (by first | assumption | exact hm.obj | exact hm.arr _ rfl) ?_
    refine gA (by first | assumption | exact hm.obj | exact hm.arr _ rfl) (ixE (j := 274 + 12 * k + w) (by rw [ew, show (274 : Int32) = nI 274 from rfl, show (12 : Int32) = nI 12 from rfl, pk_mul, nI_add, nI_add]) (by omega) (by decide)) ?_
    refine sA (by first | assumption | exact hm.obj | exact hm.arr _ rfl) (ixE (j := 274 + 12 * k + w) (by rw [ew, show (274 : Int32) = nI 274 from rfl, show (12 : Int32) = nI 12 from rfl, pk_mul, nI_add, nI_add]) (by omega) (by decide)) (by first | exact hm.N | exact hm.No _) ?_
    intro h42 e42
    have hm := hm.uA e42 rfl; have hf := hf.uA e42 (by decide)
    refine gF (by first | assumption | exact hm.obj | exact hm.arr _ rfl) ?_
    refine gF (by first | assumption | exact hm.obj | exact hm.arr _ rfl) ?_
    refine gA (by first | assumption | exact hm.obj | exact hm.arr _ rfl) (by first | exact ixN (by omega) (by decide) | exact ixz (by omega) (by decide) | exact ixa (a := 64) rfl (by omega) (by decide) | exact ixa (a := 128) rfl (by omega) (by decide) | exact ixa (a := 192) rfl (by omega) (by decide) | exact ixa (a := 256) rfl (by omega) (by decide) | exact ixa (a := 262) rfl (by omega) (by decide) | exact ixa (a := 268) rfl (by omega) (by decide) | exact ixa (a := 274) rfl (by omega) (by decide) | exact ixa (a := 348) rfl (by omega) (by decide) | exact ixa (a := 400) rfl (by omega) (by decide)) ?_
    refine gF (by first | assumption | exact hm.obj | exact hm.arr _ rfl) ?_
    refine gA (by first | assumption | exact hm.obj | exact hm.arr _ rfl) (by first | exact ixN (by omega) (by decide) | exact ixz (by omega) (by decide) | exact ixa (a := 64) rfl (by omega) (by decide) | exact ixa (a := 128) rfl (by omega) (by decide) | exact ixa (a := 192) rfl (by omega) (by decide) | exact ixa (a := 256) rfl (by omega) (by decide) | exact ixa (a := 262) rfl (by omega) (by decide) | exact ixa (a := 268) rfl (by omega) (by decide) | exact ixa (a := 274) rfl (by omega) (by decide) | exact ixa (a := 348) rfl (by omega) (by decide) | exact ixa (a := 400) rfl (by omega) (by decide)) ?_
    refine sA (by first | assumption | exact hm.obj | exact hm.arr _ rfl) (by first | exact ixN (by omega) (by decide) | exact ixz (by omega) (by decide) | exact ixa (a := 64) rfl (by omega) (by decide) | exact ixa (a := 128) rfl (by omega) (by decide) | exact ixa (a := 192) rfl (by omega) (by decide) | exact ixa (a := 256) rfl (by omega) (by decide) | exact ixa (a := 262) rfl (by omega) (by decide) | exact ixa (a := 268) rfl (by omega) (by decide) | exact ixa (a := 274) rfl (by omega) (by decide) | exact ixa (a := 348) rfl (by omega) (by decide) | exact ixa (a := 400) rfl (by omega) (by decide)) (by first | exact hm.N | exact hm.No _) ?_
    intro h72 e72
    have hm := hm.uA e72 rfl; have hf := hf.uA e72 (by decide)
    refine gF (by first | assumption | exact hm.obj | exact hm.arr _ rfl) ?_
    refine sA (by first | assumption | exact hm.obj | exact hm.arr _ rfl) (by first | exact ixN (by omega) (by decide) | exact ixz (by omega) (by decide) | exact ixa (a := 64) rfl (by omega) (by decide) | exact ixa (a := 128) rfl (by omega) (by decide) | exact ixa (a := 192) rfl (by omega) (by decide) | exact ixa (a := 256) rfl (by omega) (by decide) | exact ixa (a := 262) rfl (by omega) (by decide) | exact ixa (a := 268) rfl (by omega) (by decide) | exact ixa (a := 274) rfl (by omega) (by decide) | exact ixa (a := 348) rfl (by omega) (by decide) | exact ixa (a := 400) rfl (by omega) (by decide)) (by first | exact hm.N | exact hm.No _) ?_
    intro h81 e81
    have hm := hm.uA e81 rfl; have hf := hf.uA e81 (by decide)
    exact And.intro (hs _ _ rfl hm hf) rfl
def sk1 (S : SS) (k c w : Nat) : Int32 := if 99 < S 1 (262 + k) + (S 5 w * S 1 (64 + c) + 9) / 10 then 99 else S 1 (262 + k) + (S 5 w * S 1 (64 + c) + 9) / 10
def sk2 (S : SS) (k c w : Nat) : Int32 := if ¬ S 6 w = -1 ∧ 0 < S 5 (gN (S 6 w)) then sk1 S k c w / 2 else sk1 S k c w
theorem k_eats : CtS mX3_eats 1 (mV2 (fun (a : Nat × Nat × Nat) q u S => PcO S q u a ∧ (S 6 a.2.2 = -1 ∨ ∃ j, j < 12 ∧ S 6 a.2.2 = nI j)) (fun (a : Nat × Nat × Nat) q u S S' => S' = up2 (up2 S 1 (262 + a.1) (sk2 S a.1 a.2.1 a.2.2)) 1 a.2.1 0)) := by
  intro l G d hd as h z Q hs
  match as, hs with
  | [.ref b, .int q, .int u], hs =>
    obtain ⟨S, a, hm, hp, hs⟩ := hs
    replace hp : PcO S q u a ∧ (S 6 a.2.2 = -1 ∨ ∃ j, j < 12 ∧ S 6 a.2.2 = nI j) := hp
    replace hs : ∀ S' h', (S' = up2 (up2 S 1 (262 + a.1) (sk2 S a.1 a.2.1 a.2.2)) 1 a.2.1 0) → IsMod G b S' h' → FrM b h h' → Q none h' := hs
    have hf : FrM b h h := FrM.rf
    refine Ct.of rfl (Nat.le_of_ble_eq_true rfl) rfl ?_
    obtain ⟨k, c, w⟩ := a
    dsimp only at hp hs
    obtain ⟨⟨hq, hk, hu, hc, ew, hw⟩, hcu⟩ := hp
    dsimp only at hq hk hu hc ew hw hcu
    subst hq
    subst hu
    have j104 : ∀ (x y z0 : Int32) (h1 : AH), x = sk2 S k c w → IsMod G b S h1 → FrM b h h1 → X l G mX3_eats (rmK d 0 0) (TGm G (fun v h' z' => Q v h' ∧ z' = z) 0 0) 0 0 104 [(0, .ref b), (1, .int (nI k)), (2, .int (nI c)), (3, .int y), (4, .int z0)] [.int x, .int (262 + nI k), .ref (b + 1)] h1 z := by
      intro x y z0 h1 hx hm hf
      subst hx
      refine X.w wkX3_eats fnil [] 10 rfl ?_
      refine sA (by first | assumption | exact hm.obj | exact hm.arr _ rfl) (by first | exact ixN (by omega) (by decide) | exact ixz (by omega) (by decide) | exact ixa (a := 64) rfl (by omega) (by decide) | exact ixa (a := 128) rfl (by omega) (by decide) | exact ixa (a := 192) rfl (by omega) (by decide) | exact ixa (a := 256) rfl (by omega) (by decide) | exact ixa (a := 262) rfl (by omega) (by decide) | exact ixa (a := 268) rfl (by omega) (by decide) | exact ixa (a := 274) rfl (by omega) (by decide) | exact ixa (a := 348) rfl (by omega) (by decide) | exact ixa (a := 400) rfl (by omega) (by decide)) (by first | exact hm.N | exact hm.No _) ?_
      intro h104 e104
      have hm := hm.uA e104 rfl; have hf := hf.uA e104 (by decide)
      refine gF (by first | assumption | exact hm.obj | exact hm.arr _ rfl) ?_
      refine sA (by first | assumption | exact hm.obj | exact hm.arr _ rfl) (by first | exact ixN (by omega) (by decide) | exact ixz (by omega) (by decide) | exact ixa (a := 64) rfl (by omega) (by decide) | exact ixa (a := 128) rfl (by omega) (by decide) | exact ixa (a := 192) rfl (by omega) (by decide) | exact ixa (a := 256) rfl (by omega) (by decide) | exact ixa (a := 262) rfl (by omega) (by decide) | exact ixa (a := 268) rfl (by omega) (by decide) | exact ixa (a := 274) rfl (by omega) (by decide) | exact ixa (a := 348) rfl (by omega) (by decide) | exact ixa (a := 400) rfl (by omega) (by decide)) (by first | exact hm.N | exact hm.No _) ?_
      intro h113 e113
      have hm := hm.uA e113 rfl; have hf := hf.uA e113 (by decide)
      exact And.intro (hs _ _ rfl hm hf) rfl
    have j60 : ∀ (x z0 : Int32) (h1 : AH), x = sk1 S k c w → IsMod G b S h1 → FrM b h h1 → X l G mX3_eats (rmK d 0 0) (TGm G (fun v h' z' => Q v h' ∧ z' = z) 0 0) 0 0 60 [(0, .ref b), (1, .int (nI k)), (2, .int (nI c)), (3, .int (nI w)), (4, .int z0)] [.int x] h1 z := by
      intro x z0 h1 hx hm hf
      refine X.w wkX3_eats fnil [104] 26 rfl ?_
      refine gF (by first | assumption | exact hm.obj | exact hm.arr _ rfl) ?_
      refine gF (by first | assumption | exact hm.obj | exact hm.arr _ rfl) ?_
      refine gA (by first | assumption | exact hm.obj | exact hm.arr _ rfl) (by first | exact ixN (by omega) (by decide) | exact ixz (by omega) (by decide) | exact ixa (a := 64) rfl (by omega) (by decide) | exact ixa (a := 128) rfl (by omega) (by decide) | exact ixa (a := 192) rfl (by omega) (by decide) | exact ixa (a := 256) rfl (by omega) (by decide) | exact ixa (a := 262) rfl (by omega) (by decide) | exact ixa (a := 268) rfl (by omega) (by decide) | exact ixa (a := 274) rfl (by omega) (by decide) | exact ixa (a := 348) rfl (by omega) (by decide) | exact ixa (a := 400) rfl (by omega) (by decide)) ?_
      refine And.intro (fun b78 => ?_) (fun b78 => ?_)
      · simp only [cP, cN, bI_0, Bool.not_eq_false, lt_nle, Decidable.not_not] at b78
        exact j104 _ _ _ _ (by unfold sk2; rw [if_neg (fun q => q.1 b78)]; exact hx) hm hf
      · simp only [cP, cN, bI_0, Bool.not_eq_false, lt_nle, Decidable.not_not] at b78
        obtain ⟨j, hj, ej⟩ := hcu.resolve_left b78
        refine gF (by first | assumption | exact hm.obj | exact hm.arr _ rfl) ?_
        refine gF (by first | assumption | exact hm.obj | exact hm.arr _ rfl) ?_
        refine gA (by first | assumption | exact hm.obj | exact hm.arr _ rfl) (by first | exact ixN (by omega) (by decide) | exact ixz (by omega) (by decide) | exact ixa (a := 64) rfl (by omega) (by decide) | exact ixa (a := 128) rfl (by omega) (by decide) | exact ixa (a := 192) rfl (by omega) (by decide) | exact ixa (a := 256) rfl (by omega) (by decide) | exact ixa (a := 262) rfl (by omega) (by decide) | exact ixa (a := 268) rfl (by omega) (by decide) | exact ixa (a := 274) rfl (by omega) (by decide) | exact ixa (a := 348) rfl (by omega) (by decide) | exact ixa (a := 400) rfl (by omega) (by decide)) ?_
        refine gA (by first | assumption | exact hm.obj | exact hm.arr _ rfl) (ixE ej hj (by decide)) ?_
        refine And.intro (fun b92 => ?_) (fun b92 => ?_)
        · simp only [cP, cN, bI_0, Bool.not_eq_false, lt_nle, Decidable.not_not] at b92
          exact j104 _ _ _ _ (by unfold sk2; rw [ej, gN_nI (by omega), if_neg (fun q => absurd q.2 (by rw [Int32.not_lt]; exact b92))]; exact hx) hm hf
        · simp only [cP, cN, bI_0, Bool.not_eq_false, lt_nle, Decidable.not_not] at b92
          refine And.intro (by decide) ?_
          exact j104 _ _ _ _ (by unfold sk2; rw [if_pos ⟨b78, by rw [ej, gN_nI (by omega)]; exact lt_nle.mpr b92⟩, ← hx]) hm hf
    refine X.w wkX3_eats fnil [60] 39 rfl ?_
    refine gF (by first | assumption | exact hm.obj | exact hm.arr _ rfl) ?_
    refine gA (by first | assumption | exact hm.obj | exact hm.arr _ rfl) (by first | exact ixN (by omega) (by decide) | exact ixz (by omega) (by decide) | exact ixa (a := 64) rfl (by omega) (by decide) | exact ixa (a := 128) rfl (by omega) (by decide) | exact ixa (a := 192) rfl (by omega) (by decide) | exact ixa (a := 256) rfl (by omega) (by decide) | exact ixa (a := 262) rfl (by omega) (by decide) | exact ixa (a := 268) rfl (by omega) (by decide) | exact ixa (a := 274) rfl (by omega) (by decide) | exact ixa (a := 348) rfl (by omega) (by decide) | exact ixa (a := 400) rfl (by omega) (by decide)) ?_
    refine gF (by first | assumption | exact hm.obj | exact hm.arr _ rfl) ?_
    refine gA (by first | assumption | exact hm.obj | exact hm.arr _ rfl) (by first | exact ixN (by omega) (by decide) | exact ixz (by omega) (by decide) | exact ixa (a := 64) rfl (by omega) (by decide) | exact ixa (a := 128) rfl (by omega) (by decide) | exact ixa (a := 192) rfl (by omega) (by decide) | exact ixa (a := 256) rfl (by omega) (by decide) | exact ixa (a := 262) rfl (by omega) (by decide) | exact ixa (a := 268) rfl (by omega) (by decide) | exact ixa (a := 274) rfl (by omega) (by decide) | exact ixa (a := 348) rfl (by omega) (by decide) | exact ixa (a := 400) rfl (by omega) (by decide)) ?_
    refine gF (by first | assumption | exact hm.obj | exact hm.arr _ rfl) ?_
    refine gA (by first | assumption | exact hm.obj | exact hm.arr _ rfl) (ixE ew hw (by decide)) ?_
    refine gF (by first | assumption | exact hm.obj | exact hm.arr _ rfl) ?_
    refine gA (by first | assumption | exact hm.obj | exact hm.arr _ rfl) (by first | exact ixN (by omega) (by decide) | exact ixz (by omega) (by decide) | exact ixa (a := 64) rfl (by omega) (by decide) | exact ixa (a := 128) rfl (by omega) (by decide) | exact ixa (a := 192) rfl (by omega) (by decide) | exact ixa (a := 256) rfl (by omega) (by decide) | exact ixa (a := 262) rfl (by omega) (by decide) | exact ixa (a := 268) rfl (by omega) (by decide) | exact ixa (a := 274) rfl (by omega) (by decide) | exact ixa (a := 348) rfl (by omega) (by decide) | exact ixa (a := 400) rfl (by omega) (by decide)) ?_
    refine And.intro (by decide) ?_
    refine And.intro (fun b50 => ?_) (fun b50 => ?_)
    · simp only [cP, cN, bI_0, Bool.not_eq_false, lt_nle, Decidable.not_not] at b50
      rw [ew]
      exact j60 _ _ _ (by unfold sk1; rw [if_neg (by rw [Int32.not_lt]; exact b50)]) hm hf
    · simp only [cP, cN, bI_0, Bool.not_eq_false, lt_nle, Decidable.not_not] at b50
      rw [ew]
      exact j60 _ _ _ (by unfold sk1; rw [if_pos (lt_nle.mpr b50)]) hm hf
def bkC (S : SS) (q w : Int32) : Prop := psB S q = true ∧ wnB S w = true ∧ ¬ S 0 16 = 1 ∧ S 1 (gN (S 1 (256 + gN q))) ≤ 0
def bk1 (S : SS) (c : Nat) (q w : Int32) : SS := up2 (up2 (up2 (up2 S 1 c (w + 1)) 1 (64 + c) 0) 1 (128 + c) (S 0 17)) 1 (192 + c) q
def bkF (S : SS) (u : Nat) (q w : Int32) : SS := notF (bk1 (kaF S u) (gN (S 1 (256 + gN q))) q w) (gN (S 1 347)) q (S 1 (256 + gN q)) w
/-- what acts need: how many rows are kept, people, their cells, the book's length -/
def AcO (S : SS) (u : Nat) : Prop := S 0 3 = nI u ∧ u ≤ 12 ∧ Bd 6 (S 0 12) ∧ Bd 12 (S 0 8) ∧ Bd 100 (S 1 347) ∧ ∀ p, p < gN (S 0 12) → ∃ c, c < 64 ∧ S 1 (256 + p) = nI c
theorem AcO.kg {S : SS} {u : Nat} (h : AcO S u) : kaF S u 1 = S 1 ∧ kaF S u 0 17 = S 0 17 := ⟨rfl, rfl⟩
theorem k_breaks : CtS mX3_breaks 2 (mW2 (fun (a : Nat) q w S => AcO S a) (fun (a : Nat) q w S v S' => (bkC (tl S) q w ∧ v = 1 ∧ S' = bkF (tl S) a q w) ∨ (¬ bkC (tl S) q w ∧ v = 0 ∧ S' = tl S))) := by
  intro l G d hd as h z Q hs
  match as, hs with
  | [.ref b, .int q, .int w], hs =>
    obtain ⟨S, a, hm, hp, hs⟩ := hs
    replace hp : AcO S a := hp
    replace hs : ∀ v S' h', ((bkC (tl S) q w ∧ v = 1 ∧ S' = bkF (tl S) a q w) ∨ (¬ bkC (tl S) q w ∧ v = 0 ∧ S' = tl S)) → IsMod G b S' h' → FrM b h h' → Q (some (.int v)) h' := hs
    have hf : FrM b h h := FrM.rf
    refine Ct.of rfl (Nat.le_of_ble_eq_true rfl) rfl ?_
    refine X.w wkX3_breaks (fcons (ceV k_notes mmV3 ckX3_142 rfl mrV3 (by omega) rfl) (fcons (ceV k_keepsAhead mmV0 ckX3_136 rfl mrV0 (by omega) rfl) (fcons (ceV k_isWordNumber mmR1 ckX3_139 rfl mrR1 (by omega) rfl) (fcons (ceV k_isPerson mmR1 ckX3_133 rfl mrR1 (by omega) rfl) fnil)))) [5] 5 rfl ?_
    refine pF0 (okV_W rfl) (by first | assumption | exact hm.obj | exact hm.arr _ rfl) (Nat.le_of_ble_eq_true rfl) (by first | exact hm.N | exact hm.No _) ?_
    intro h2 e2
    have hm := hm.u0 e2 rfl; have hf := hf.u0 e2
    replace hm : IsMod G b (tl S) h2 := hm
    replace hp : AcO (tl S) a := hp
    generalize tl S = S at hm hs hp
    refine X.w wkX3_breaks (fcons (ceV k_notes mmV3 ckX3_142 rfl mrV3 (by omega) rfl) (fcons (ceV k_keepsAhead mmV0 ckX3_136 rfl mrV0 (by omega) rfl) (fcons (ceV k_isWordNumber mmR1 ckX3_139 rfl mrR1 (by omega) rfl) (fcons (ceV k_isPerson mmR1 ckX3_133 rfl mrR1 (by omega) rfl) fnil)))) [] 72 rfl ?_
    refine Exists.intro _ (Exists.intro () (And.intro hm (And.intro trivial ?_)))
    intro v7 e7
    subst e7
    refine And.intro (fun b10 => ?_) (fun b10 => ?_)
    · simp only [cP, cN, bI_0, Bool.not_eq_false, lt_nle, Decidable.not_not] at b10
      refine And.intro (by first | exact Or.inl rfl | exact Or.inr rfl | exact bI_01 _) ?_
      exact And.intro (hs _ _ _ (Or.inr ⟨fun q => absurd (b10.symm.trans q.1) (by decide), rfl, rfl⟩) hm hf) rfl
    · simp only [cP, cN, bI_0, Bool.not_eq_false, lt_nle, Decidable.not_not] at b10
      obtain ⟨k, hk, rfl⟩ := psB_lt hp.2.2.1 (by decide) b10
      have hk6 := hp.2.2.1.2
      have hg : gN (nI k) = k := gN_nI (by omega)
      obtain ⟨c, hc, ec⟩ := hp.2.2.2.2.2 k hk
      have hgc : gN (nI c) = c := gN_nI (by omega)
      refine Exists.intro _ (Exists.intro () (And.intro hm (And.intro trivial ?_)))
      intro v15 e15
      subst e15
      refine And.intro (fun b18 => ?_) (fun b18 => ?_)
      · simp only [cP, cN, bI_0, Bool.not_eq_false, lt_nle, Decidable.not_not] at b18
        refine And.intro (by first | exact Or.inl rfl | exact Or.inr rfl | exact bI_01 _) ?_
        exact And.intro (hs _ _ _ (Or.inr ⟨fun q => absurd (b18.symm.trans q.2.1) (by decide), rfl, rfl⟩) hm hf) rfl
      · simp only [cP, cN, bI_0, Bool.not_eq_false, lt_nle, Decidable.not_not] at b18
        refine gF (by first | assumption | exact hm.obj | exact hm.arr _ rfl) ?_
        refine And.intro (fun b26 => ?_) (fun b26 => ?_)
        · simp only [cP, cN, bI_0, Bool.not_eq_false, lt_nle, Decidable.not_not] at b26
          refine And.intro (by first | exact Or.inl rfl | exact Or.inr rfl | exact bI_01 _) ?_
          exact And.intro (hs _ _ _ (Or.inr ⟨fun q => q.2.2.1 b26, rfl, rfl⟩) hm hf) rfl
        · simp only [cP, cN, bI_0, Bool.not_eq_false, lt_nle, Decidable.not_not] at b26
          refine gF (by first | assumption | exact hm.obj | exact hm.arr _ rfl) ?_
          refine gF (by first | assumption | exact hm.obj | exact hm.arr _ rfl) ?_
          refine gA (by first | assumption | exact hm.obj | exact hm.arr _ rfl) (by first | exact ixa (a := 256) rfl (by omega) (by decide) | (exact ixE (j := c) (by first | (show 0 + S 1 (256 + k) = _; rw [ec]; simp) | (show 0 + kaF S a 1 (256 + k) = _; rw [hp.kg.1, ec]; simp)) (by omega) (by decide))) ?_
          refine gA (by first | assumption | exact hm.obj | exact hm.arr _ rfl) (by first | exact ixa (a := 256) rfl (by omega) (by decide) | (exact ixE (j := c) (by first | (show 0 + S 1 (256 + k) = _; rw [ec]; simp) | (show 0 + kaF S a 1 (256 + k) = _; rw [hp.kg.1, ec]; simp)) (by omega) (by decide))) ?_
          refine And.intro (fun b46 => ?_) (fun b46 => ?_)
          · simp only [cP, cN, bI_0, Bool.not_eq_false, lt_nle, Decidable.not_not] at b46
            refine Exists.intro _ (Exists.intro a (And.intro hm (And.intro ⟨hp.1, hp.2.1⟩ ?_)))
            intro S52 h52 p52 hm hf52
            have hf := hf.tr hf52
            (try dsimp only at p52)
            subst p52
            refine gF (by first | assumption | exact hm.obj | exact hm.arr _ rfl) ?_
            refine gA (by first | assumption | exact hm.obj | exact hm.arr _ rfl) (by first | exact ixa (a := 256) rfl (by omega) (by decide) | (exact ixE (j := c) (by first | (show 0 + S 1 (256 + k) = _; rw [ec]; simp) | (show 0 + kaF S a 1 (256 + k) = _; rw [hp.kg.1, ec]; simp)) (by omega) (by decide))) ?_
            refine gF (by first | assumption | exact hm.obj | exact hm.arr _ rfl) ?_
            refine sA (by first | assumption | exact hm.obj | exact hm.arr _ rfl) (ixE (j := c) (by rw [show kaF S a 1 (256 + k) = nI c from ec]; simp) (by omega) (by decide)) (by first | exact hm.N | exact hm.No _) ?_
            intro h76 e76
            have hm := hm.uA e76 rfl; have hf := hf.uA e76 (by decide)
            refine gF (by first | assumption | exact hm.obj | exact hm.arr _ rfl) ?_
            refine sA (by first | assumption | exact hm.obj | exact hm.arr _ rfl) (ixE (j := 64 + c) (by rw [show kaF S a 1 (256 + k) = nI c from ec]; rw [show (64 : Int32) = nI 64 from rfl, nI_add]) (by omega) (by decide)) (by first | exact hm.N | exact hm.No _) ?_
            intro h86 e86
            have hm := hm.uA e86 rfl; have hf := hf.uA e86 (by decide)
            refine gF (by first | assumption | exact hm.obj | exact hm.arr _ rfl) ?_
            refine gF (by first | assumption | exact hm.obj | exact hm.arr _ rfl) ?_
            refine sA (by first | assumption | exact hm.obj | exact hm.arr _ rfl) (ixE (j := 128 + c) (by rw [show kaF S a 1 (256 + k) = nI c from ec]; rw [show (128 : Int32) = nI 128 from rfl, nI_add]) (by omega) (by decide)) (by first | exact hm.N | exact hm.No _) ?_
            intro h100 e100
            have hm := hm.uA e100 rfl; have hf := hf.uA e100 (by decide)
            refine gF (by first | assumption | exact hm.obj | exact hm.arr _ rfl) ?_
            refine sA (by first | assumption | exact hm.obj | exact hm.arr _ rfl) (ixE (j := 192 + c) (by rw [show kaF S a 1 (256 + k) = nI c from ec]; rw [show (192 : Int32) = nI 192 from rfl, nI_add]) (by omega) (by decide)) (by first | exact hm.N | exact hm.No _) ?_
            intro h111 e111
            have hm := hm.uA e111 rfl; have hf := hf.uA e111 (by decide)
            refine Exists.intro _ (Exists.intro (gN (S 1 347)) (And.intro hm (And.intro ⟨by rw [up2_ap, if_neg (by omega), up2_ap, if_neg (by omega), up2_ap, if_neg (by omega), up2_ap, if_neg (by omega)]; exact hp.2.2.2.2.1.1, hp.2.2.2.2.1.2⟩ ?_)))
            intro S116 h116 p116 hm hf116
            have hf := hf.tr hf116
            (try dsimp only at p116)
            refine And.intro (by first | exact Or.inl rfl | exact Or.inr rfl | exact bI_01 _) ?_
            refine And.intro (hs _ _ _ (Or.inl ⟨⟨b10, b18, b26, by rw [hg, ec, hgc]; exact b46⟩, rfl, ?_⟩) hm hf) rfl
            rw [p116]
            unfold bkF bk1
            rw [hg, ec, hgc]
            rw [show kaF S a 1 (256 + k) = nI c from ec]
            rfl
          · simp only [cP, cN, bI_0, Bool.not_eq_false, lt_nle, Decidable.not_not] at b46
            refine And.intro (by first | exact Or.inl rfl | exact Or.inr rfl | exact bI_01 _) ?_
            exact And.intro (hs _ _ _ (Or.inr ⟨fun q => b46 (by have h9 := q.2.2.2; rw [hg, ec, hgc] at h9; exact h9), rfl, rfl⟩) hm hf) rfl
def acC (S : SS) (q w : Int32) : Prop := psB S q = true ∧ isInB w 0 2 = true ∧ ¬ (if w = 0 then S 1 346 = 99 else S 1 (gN (S 1 (256 + gN q))) = 0)
def acF (S : SS) (u : Nat) (q w : Int32) : SS := if w = 0 then up2 (kaF S u) 1 346 (S 1 346 + 1) else if w = 1 then up2 (pi2 (pi1 (kaF S u) (gN q) (gN (S 1 (gN (S 1 (256 + gN q))) - 1))) (gN q) (gN (S 1 (256 + gN q)))) 1 (gN (S 1 (256 + gN q))) 0 else up2 (up2 (kaF S u) 1 (262 + gN q) (sk2 S (gN q) (gN (S 1 (256 + gN q))) (gN (S 1 (gN (S 1 (256 + gN q))) - 1)))) 1 (gN (S 1 (256 + gN q))) 0
def AcO2 (S : SS) (u : Nat) : Prop := AcO S u ∧ wdM S ∧ (∀ c, c < 64 → 0 ≤ S 1 c) ∧ ∀ w, w < gN (S 0 8) → S 6 w = -1 ∨ ∃ j, j < 12 ∧ S 6 w = nI j
theorem k_act : CtS mX3_act 2 (mW2 (fun (a : Nat) q w S => AcO S a ∧ (∀ c, c < 64 → ¬ S 1 c = 0 → ∃ k, k < 12 ∧ S 1 c - 1 = nI k ∧ (S 6 k = -1 ∨ ∃ j, j < 12 ∧ S 6 k = nI j))) (fun (a : Nat) q w S v S' => (acC (tl S) q w ∧ v = 1 ∧ S' = acF (tl S) a q w) ∨ (¬ acC (tl S) q w ∧ v = 0 ∧ S' = tl S))) := by
  intro l G d hd as h z Q hs
  match as, hs with
  | [.ref b, .int q, .int w], hs =>
    obtain ⟨S, a, hm, hp, hs⟩ := hs
    replace hp : AcO S a ∧ (∀ c, c < 64 → ¬ S 1 c = 0 → ∃ k, k < 12 ∧ S 1 c - 1 = nI k ∧ (S 6 k = -1 ∨ ∃ j, j < 12 ∧ S 6 k = nI j)) := hp
    replace hs : ∀ v S' h', ((acC (tl S) q w ∧ v = 1 ∧ S' = acF (tl S) a q w) ∨ (¬ acC (tl S) q w ∧ v = 0 ∧ S' = tl S)) → IsMod G b S' h' → FrM b h h' → Q (some (.int v)) h' := hs
    have hf : FrM b h h := FrM.rf
    refine Ct.of rfl (Nat.le_of_ble_eq_true rfl) rfl ?_
    refine X.w wkX3_act (fcons (ceV k_eats mmV2 ckX3_150 rfl mrV2 (by omega) rfl) (fcons (ceV k_picks mmV2 ckX3_146 rfl mrV2 (by omega) rfl) (fcons (ceV k_keepsAhead mmV0 ckX3_136 rfl mrV0 (by omega) rfl) (fcons (ceV k_isIn mmR3 ckX3_107 rfl mrR3 (by omega) rfl) (fcons (ceV k_isPerson mmR1 ckX3_133 rfl mrR1 (by omega) rfl) fnil))))) [5] 5 rfl ?_
    refine pF0 (okV_W rfl) (by first | assumption | exact hm.obj | exact hm.arr _ rfl) (Nat.le_of_ble_eq_true rfl) (by first | exact hm.N | exact hm.No _) ?_
    intro h2 e2
    have hm := hm.u0 e2 rfl; have hf := hf.u0 e2
    replace hm : IsMod G b (tl S) h2 := hm
    obtain ⟨hp, hwd⟩ := hp
    replace hp : AcO (tl S) a := hp
    replace hwd : ∀ c, c < 64 → ¬ tl S 1 c = 0 → ∃ k, k < 12 ∧ tl S 1 c - 1 = nI k ∧ (tl S 6 k = -1 ∨ ∃ j, j < 12 ∧ tl S 6 k = nI j) := hwd
    generalize tl S = S at hm hs hp hwd
    refine X.w wkX3_act (fcons (ceV k_eats mmV2 ckX3_150 rfl mrV2 (by omega) rfl) (fcons (ceV k_picks mmV2 ckX3_146 rfl mrV2 (by omega) rfl) (fcons (ceV k_keepsAhead mmV0 ckX3_136 rfl mrV0 (by omega) rfl) (fcons (ceV k_isIn mmR3 ckX3_107 rfl mrR3 (by omega) rfl) (fcons (ceV k_isPerson mmR1 ckX3_133 rfl mrR1 (by omega) rfl) fnil))))) [] 48 rfl ?_
    refine Exists.intro _ (Exists.intro () (And.intro hm (And.intro trivial ?_)))
    intro v7 e7
    subst e7
    refine And.intro (fun b10 => ?_) (fun b10 => ?_)
    · simp only [cP, cN, bI_0, Bool.not_eq_false, lt_nle, Decidable.not_not] at b10
      refine And.intro (by first | exact Or.inl rfl | exact Or.inr rfl | exact bI_01 _) ?_
      exact And.intro (hs _ _ _ (Or.inr ⟨fun q => absurd (b10.symm.trans q.1) (by decide), rfl, rfl⟩) hm hf) rfl
    · simp only [cP, cN, bI_0, Bool.not_eq_false, lt_nle, Decidable.not_not] at b10
      obtain ⟨k, hk, rfl⟩ := psB_lt hp.2.2.1 (by decide) b10
      have hk6 := hp.2.2.1.2
      have hg : gN (nI k) = k := gN_nI (by omega)
      obtain ⟨c, hc, ec⟩ := hp.2.2.2.2.2 k hk
      have hgc : gN (nI c) = c := gN_nI (by omega)
      refine Exists.intro _ (Exists.intro () (And.intro hm (And.intro trivial ?_)))
      intro v17 e17
      subst e17
      refine And.intro (fun b20 => ?_) (fun b20 => ?_)
      · simp only [cP, cN, bI_0, Bool.not_eq_false, lt_nle, Decidable.not_not] at b20
        refine gF (by first | assumption | exact hm.obj | exact hm.arr _ rfl) ?_
        refine gA (by first | assumption | exact hm.obj | exact hm.arr _ rfl) (ixa (a := 256) rfl (by omega) (by decide)) ?_
        refine And.intro (fun b37 => ?_) (fun b37 => ?_)
        · simp only [cP, cN, bI_0, Bool.not_eq_false, lt_nle, Decidable.not_not] at b37
          refine gF (by first | assumption | exact hm.obj | exact hm.arr _ rfl) ?_
          refine gA (by first | assumption | exact hm.obj | exact hm.arr _ rfl) (ixE (j := c) (by rw [ec]; simp) (by omega) (by decide)) ?_
          refine And.intro (fun b64 => ?_) (fun b64 => ?_)
          · simp only [cP, cN, bI_0, Bool.not_eq_false, lt_nle, Decidable.not_not] at b64
            obtain ⟨w0, hw0, ew, hcu⟩ := hwd c hc b64
            refine Exists.intro _ (Exists.intro a (And.intro hm (And.intro ⟨hp.1, hp.2.1⟩ ?_)))
            intro S70 h70 p70 hm hf70
            have hf := hf.tr hf70
            (try dsimp only at p70)
            subst p70
            refine And.intro (fun b74 => ?_) (fun b74 => ?_)
            · simp only [cP, cN, bI_0, Bool.not_eq_false, lt_nle, Decidable.not_not] at b74
              refine And.intro (fun b97 => ?_) (fun b97 => ?_)
              · simp only [cP, cN, bI_0, Bool.not_eq_false, lt_nle, Decidable.not_not] at b97
                refine And.intro (fun b108 => ?_) (fun b108 => ?_)
                · simp only [cP, cN, bI_0, Bool.not_eq_false, lt_nle, Decidable.not_not] at b108
                  obtain ⟨k9, -, hk9, rfl⟩ := isInB_nI (a := 0) (b := 2) (by decide) b20 (by decide)
                  exfalso
                  match k9, hk9 with
                  | 0, _ => exact b37 rfl
                  | 1, _ => exact b97 rfl
                  | 2, _ => exact b108 rfl
                · simp only [cP, cN, bI_0, Bool.not_eq_false, lt_nle, Decidable.not_not] at b108
                  refine Exists.intro _ (Exists.intro (k, c, w0) (And.intro hm (And.intro ⟨⟨rfl, (by show k < 6; omega), ec, hc, ew, hw0⟩, hcu⟩ ?_)))
                  intro S114 h114 p114 hm hf114
                  have hf := hf.tr hf114
                  (try dsimp only at p114)
                  refine And.intro (by first | exact Or.inl rfl | exact Or.inr rfl | exact bI_01 _) ?_
                  exact And.intro (hs _ _ _ (Or.inl ⟨⟨b10, b20, by rw [if_neg b37, hg, ec, hgc]; exact b64⟩, rfl, by unfold acF; rw [p114, if_neg b37, if_neg b97, hg, ec, hgc, ew, gN_nI (by omega)]; rfl⟩) hm hf) rfl
              · simp only [cP, cN, bI_0, Bool.not_eq_false, lt_nle, Decidable.not_not] at b97
                refine Exists.intro _ (Exists.intro (k, c, w0) (And.intro hm (And.intro ⟨rfl, (by show k < 6; omega), ec, hc, ew, hw0⟩ ?_)))
                intro S103 h103 p103 hm hf103
                have hf := hf.tr hf103
                (try dsimp only at p103)
                refine And.intro (fun b108 => ?_) (fun b108 => ?_)
                · simp only [cP, cN, bI_0, Bool.not_eq_false, lt_nle, Decidable.not_not] at b108
                  refine And.intro (by first | exact Or.inl rfl | exact Or.inr rfl | exact bI_01 _) ?_
                  exact And.intro (hs _ _ _ (Or.inl ⟨⟨b10, b20, by rw [if_neg b37, hg, ec, hgc]; exact b64⟩, rfl, by unfold acF; rw [p103, if_neg b37, if_pos b97, hg, ec, hgc, ew, gN_nI (by omega)]⟩) hm hf) rfl
                · simp only [cP, cN, bI_0, Bool.not_eq_false, lt_nle, Decidable.not_not] at b108
                  exact absurd (b97.symm.trans b108) (by decide)
            · simp only [cP, cN, bI_0, Bool.not_eq_false, lt_nle, Decidable.not_not] at b74
              exact absurd b74 b37
          · simp only [cP, cN, bI_0, Bool.not_eq_false, lt_nle, Decidable.not_not] at b64
            refine And.intro (by first | exact Or.inl rfl | exact Or.inr rfl | exact bI_01 _) ?_
            exact And.intro (hs _ _ _ (Or.inr ⟨fun q => q.2.2 (by rw [if_neg b37, hg, ec, hgc]; exact b64), rfl, rfl⟩) hm hf) rfl
        · simp only [cP, cN, bI_0, Bool.not_eq_false, lt_nle, Decidable.not_not] at b37
          refine gF (by first | assumption | exact hm.obj | exact hm.arr _ rfl) ?_
          refine gA (by first | assumption | exact hm.obj | exact hm.arr _ rfl) (ixE (j := 346) rfl (by decide) (by decide)) ?_
          refine And.intro (fun b50 => ?_) (fun b50 => ?_)
          · simp only [cP, cN, bI_0, Bool.not_eq_false, lt_nle, Decidable.not_not] at b50
            refine Exists.intro _ (Exists.intro a (And.intro hm (And.intro ⟨hp.1, hp.2.1⟩ ?_)))
            intro S70 h70 p70 hm hf70
            have hf := hf.tr hf70
            (try dsimp only at p70)
            subst p70
            refine And.intro (fun b74 => ?_) (fun b74 => ?_)
            · simp only [cP, cN, bI_0, Bool.not_eq_false, lt_nle, Decidable.not_not] at b74
              exact absurd b37 b74
            · simp only [cP, cN, bI_0, Bool.not_eq_false, lt_nle, Decidable.not_not] at b74
              refine gF (by first | assumption | exact hm.obj | exact hm.arr _ rfl) ?_
              refine gF (by first | assumption | exact hm.obj | exact hm.arr _ rfl) ?_
              refine gA (by first | assumption | exact hm.obj | exact hm.arr _ rfl) (ixE (j := 346) rfl (by decide) (by decide)) ?_
              refine sA (by first | assumption | exact hm.obj | exact hm.arr _ rfl) (ixE (j := 346) rfl (by decide) (by decide)) (by first | exact hm.N | exact hm.No _) ?_
              intro h94 e94
              have hm := hm.uA e94 rfl; have hf := hf.uA e94 (by decide)
              refine And.intro (fun b97 => ?_) (fun b97 => ?_)
              · simp only [cP, cN, bI_0, Bool.not_eq_false, lt_nle, Decidable.not_not] at b97
                refine And.intro (fun b108 => ?_) (fun b108 => ?_)
                · simp only [cP, cN, bI_0, Bool.not_eq_false, lt_nle, Decidable.not_not] at b108
                  refine And.intro (by first | exact Or.inl rfl | exact Or.inr rfl | exact bI_01 _) ?_
                  exact And.intro (hs _ _ _ (Or.inl ⟨⟨b10, b20, by rw [if_pos b37]; exact b50⟩, rfl, by unfold acF; rw [if_pos b37]; rfl⟩) hm hf) rfl
                · simp only [cP, cN, bI_0, Bool.not_eq_false, lt_nle, Decidable.not_not] at b108
                  exact absurd (b74.symm.trans b108) (by decide)
              · simp only [cP, cN, bI_0, Bool.not_eq_false, lt_nle, Decidable.not_not] at b97
                exact absurd (b74.symm.trans b97) (by decide)
          · simp only [cP, cN, bI_0, Bool.not_eq_false, lt_nle, Decidable.not_not] at b50
            refine And.intro (by first | exact Or.inl rfl | exact Or.inr rfl | exact bI_01 _) ?_
            exact And.intro (hs _ _ _ (Or.inr ⟨fun q => q.2.2 (by rw [if_pos b37]; exact b50), rfl, rfl⟩) hm hf) rfl
      · simp only [cP, cN, bI_0, Bool.not_eq_false, lt_nle, Decidable.not_not] at b20
        refine And.intro (by first | exact Or.inl rfl | exact Or.inr rfl | exact bI_01 _) ?_
        exact And.intro (hs _ _ _ (Or.inr ⟨fun q => absurd (b20.symm.trans q.2.1) (by decide), rfl, rfl⟩) hm hf) rfl
def dxF (w n : Int32) : Int32 := if w = 1 then n else if w = 3 then -n else 0
def dyF (w n : Int32) : Int32 := if w = 2 then n else if w = 0 then -n else 0
def gox (c w n : Int32) : Int32 := c - c / 8 * 8 + dxF w n
def goy (c w n : Int32) : Int32 := c / 8 + dyF w n
def goC (S : SS) (q w n : Int32) : Prop := psB S q = true ∧ isInB w 0 3 = true ∧ isInB n 1 7 = true ∧ isInB (gox (S 1 (256 + gN q)) w n) 0 (S 0 5 - 1) = true ∧ isInB (goy (S 1 (256 + gN q)) w n) 0 (S 0 6 - 1) = true
def goF (S : SS) (u : Nat) (q w n : Int32) : SS := up2 (kaF S u) 1 (256 + gN q) (8 * goy (S 1 (256 + gN q)) w n + gox (S 1 (256 + gN q)) w n)
theorem k_go : CtS mX3_go 2 (mW3 (fun (a : Nat) q w x S => AcO S a) (fun (a : Nat) q w x S v S' => (goC (tl S) q w x ∧ v = 1 ∧ S' = goF (tl S) a q w x) ∨ (¬ goC (tl S) q w x ∧ v = 0 ∧ S' = tl S))) := by
  intro l G d hd as h z Q hs
  match as, hs with
  | [.ref b, .int q, .int w, .int x], hs =>
    obtain ⟨S, a, hm, hp, hs⟩ := hs
    replace hp : AcO S a := hp
    replace hs : ∀ v S' h', ((goC (tl S) q w x ∧ v = 1 ∧ S' = goF (tl S) a q w x) ∨ (¬ goC (tl S) q w x ∧ v = 0 ∧ S' = tl S)) → IsMod G b S' h' → FrM b h h' → Q (some (.int v)) h' := hs
    have hf : FrM b h h := FrM.rf
    refine Ct.of rfl (Nat.le_of_ble_eq_true rfl) rfl ?_
    refine X.w wkX3_go (fcons (ceV k_keepsAhead mmV0 ckX3_136 rfl mrV0 (by omega) rfl) (fcons (ceV k_isIn mmR3 ckX3_107 rfl mrR3 (by omega) rfl) (fcons (ceV k_isPerson mmR1 ckX3_133 rfl mrR1 (by omega) rfl) fnil))) [5] 5 rfl ?_
    refine pF0 (okV_W rfl) (by first | assumption | exact hm.obj | exact hm.arr _ rfl) (Nat.le_of_ble_eq_true rfl) (by first | exact hm.N | exact hm.No _) ?_
    intro h2 e2
    have hm := hm.u0 e2 rfl; have hf := hf.u0 e2
    replace hm : IsMod G b (tl S) h2 := hm
    replace hp : AcO (tl S) a := hp
    generalize tl S = S at hm hs hp
    refine X.w wkX3_go (fcons (ceV k_keepsAhead mmV0 ckX3_136 rfl mrV0 (by omega) rfl) (fcons (ceV k_isIn mmR3 ckX3_107 rfl mrR3 (by omega) rfl) (fcons (ceV k_isPerson mmR1 ckX3_133 rfl mrR1 (by omega) rfl) fnil))) [36] 19 rfl ?_
    refine Exists.intro _ (Exists.intro () (And.intro hm (And.intro trivial ?_)))
    intro v7 e7
    subst e7
    refine And.intro (fun b10 => ?_) (fun b10 => ?_)
    · simp only [cP, cN, bI_0, Bool.not_eq_false, lt_nle, Decidable.not_not] at b10
      refine And.intro (by first | exact Or.inl rfl | exact Or.inr rfl | exact bI_01 _) ?_
      exact And.intro (hs _ _ _ (Or.inr ⟨fun q => absurd (b10.symm.trans q.1) (by decide), rfl, rfl⟩) hm hf) rfl
    · simp only [cP, cN, bI_0, Bool.not_eq_false, lt_nle, Decidable.not_not] at b10
      obtain ⟨k, hk, rfl⟩ := psB_lt hp.2.2.1 (by decide) b10
      have hk6 := hp.2.2.1.2
      have hg : gN (nI k) = k := gN_nI (by omega)
      obtain ⟨c, hc, ec⟩ := hp.2.2.2.2.2 k hk
      have hgc : gN (nI c) = c := gN_nI (by omega)
      refine Exists.intro _ (Exists.intro () (And.intro hm (And.intro trivial ?_)))
      intro v17 e17
      subst e17
      refine And.intro (fun b20 => ?_) (fun b20 => ?_)
      · simp only [cP, cN, bI_0, Bool.not_eq_false, lt_nle, Decidable.not_not] at b20
        refine And.intro (by first | exact Or.inl rfl | exact Or.inr rfl | exact bI_01 _) ?_
        exact And.intro (hs _ _ _ (Or.inr ⟨fun q => absurd (b20.symm.trans q.2.1) (by decide), rfl, rfl⟩) hm hf) rfl
      · simp only [cP, cN, bI_0, Bool.not_eq_false, lt_nle, Decidable.not_not] at b20
        refine Exists.intro _ (Exists.intro () (And.intro hm (And.intro trivial ?_)))
        intro v28 e28
        subst e28
        refine And.intro (fun b31 => ?_) (fun b31 => ?_)
        · simp only [cP, cN, bI_0, Bool.not_eq_false, lt_nle, Decidable.not_not] at b31
          obtain ⟨c9, hc9⟩ : ∃ c9, c9 = S 1 (256 + k) := ⟨_, rfl⟩
          have hgo : goC S (nI k) w x ↔ (isInB (gox c9 w x) 0 (S 0 5 - 1) = true ∧ isInB (goy c9 w x) 0 (S 0 6 - 1) = true) := by
            unfold goC
            rw [hg, ← hc9]
            exact ⟨fun q => ⟨q.2.2.2.1, q.2.2.2.2⟩, fun q => ⟨b10, b20, b31, q.1, q.2⟩⟩
          have hgf : goF S a (nI k) w x = up2 (kaF S a) 1 (256 + k) (8 * goy c9 w x + gox c9 w x) := by unfold goF; rw [hg, ← hc9]
          have j104 : ∀ (dd : Int32), dd = dyF w x → X l G mX3_go (rmK d 0 0) (TGm G (fun v h' z' => Q v h' ∧ z' = z) 0 0) 0 0 104 [(0, .ref b), (1, .int (nI k)), (2, .int w), (3, .int x), (4, .int (gox c9 w x))] [.int dd, .int (c9 / 8)] h2 z := by
            intro dy hdy
            subst hdy
            refine X.w wkX3_go (fcons (ceV k_keepsAhead mmV0 ckX3_136 rfl mrV0 (by omega) rfl) (fcons (ceV k_isIn mmR3 ckX3_107 rfl mrR3 (by omega) rfl) (fcons (ceV k_isPerson mmR1 ckX3_133 rfl mrR1 (by omega) rfl) fnil))) [] 36 rfl ?_
            refine gF (by first | assumption | exact hm.obj | exact hm.arr _ rfl) ?_
            refine Exists.intro _ (Exists.intro () (And.intro hm (And.intro trivial ?_)))
            intro v117 e117
            subst e117
            refine And.intro (fun b120 => ?_) (fun b120 => ?_)
            · simp only [cP, cN, bI_0, Bool.not_eq_false, lt_nle, Decidable.not_not] at b120
              refine And.intro (by first | exact Or.inl rfl | exact Or.inr rfl | exact bI_01 _) ?_
              exact And.intro (hs _ _ _ (Or.inr ⟨fun q => absurd (b120.symm.trans (hgo.mp q).1) (by decide), rfl, rfl⟩) hm hf) rfl
            · simp only [cP, cN, bI_0, Bool.not_eq_false, lt_nle, Decidable.not_not] at b120
              refine gF (by first | assumption | exact hm.obj | exact hm.arr _ rfl) ?_
              refine Exists.intro _ (Exists.intro () (And.intro hm (And.intro trivial ?_)))
              intro v133 e133
              subst e133
              refine And.intro (fun b136 => ?_) (fun b136 => ?_)
              · simp only [cP, cN, bI_0, Bool.not_eq_false, lt_nle, Decidable.not_not] at b136
                refine Exists.intro _ (Exists.intro a (And.intro hm (And.intro ⟨hp.1, hp.2.1⟩ ?_)))
                intro S142 h142 p142 hm hf142
                have hf := hf.tr hf142
                (try dsimp only at p142)
                subst p142
                refine gF (by first | assumption | exact hm.obj | exact hm.arr _ rfl) ?_
                refine sA (by first | assumption | exact hm.obj | exact hm.arr _ rfl) (ixa (a := 256) rfl (by omega) (by decide)) (by first | exact hm.N | exact hm.No _) ?_
                intro h162 e162
                have hm := hm.uA e162 rfl; have hf := hf.uA e162 (by decide)
                refine And.intro (by first | exact Or.inl rfl | exact Or.inr rfl | exact bI_01 _) ?_
                exact And.intro (hs _ _ _ (Or.inl ⟨hgo.mpr ⟨b120, b136⟩, rfl, by rw [hgf]; rfl⟩) hm hf) rfl
              · simp only [cP, cN, bI_0, Bool.not_eq_false, lt_nle, Decidable.not_not] at b136
                refine And.intro (by first | exact Or.inl rfl | exact Or.inr rfl | exact bI_01 _) ?_
                exact And.intro (hs _ _ _ (Or.inr ⟨fun q => absurd (b136.symm.trans (hgo.mp q).2) (by decide), rfl, rfl⟩) hm hf) rfl
          have j69 : ∀ (dd : Int32), dd = dxF w x → X l G mX3_go (rmK d 0 0) (TGm G (fun v h' z' => Q v h' ∧ z' = z) 0 0) 0 0 69 [(0, .ref b), (1, .int (nI k)), (2, .int w), (3, .int x)] [.int dd, .int (c9 - c9 / 8 * 8)] h2 z := by
            intro dx hdx
            subst hdx
            refine X.w wkX3_go (fcons (ceV k_keepsAhead mmV0 ckX3_136 rfl mrV0 (by omega) rfl) (fcons (ceV k_isIn mmR3 ckX3_107 rfl mrR3 (by omega) rfl) (fcons (ceV k_isPerson mmR1 ckX3_133 rfl mrR1 (by omega) rfl) fnil))) [104] 20 rfl ?_
            refine gF (by first | assumption | exact hm.obj | exact hm.arr _ rfl) ?_
            refine gA (by first | assumption | exact hm.obj | exact hm.arr _ rfl) (ixa (a := 256) rfl (by omega) (by decide)) ?_
            refine And.intro (by decide) ?_
            refine And.intro (fun b87 => ?_) (fun b87 => ?_)
            · simp only [cP, cN, bI_0, Bool.not_eq_false, lt_nle, Decidable.not_not] at b87
              refine And.intro (fun b95 => ?_) (fun b95 => ?_)
              · simp only [cP, cN, bI_0, Bool.not_eq_false, lt_nle, Decidable.not_not] at b95
                rw [← hc9]
                exact j104 _ (by unfold dyF; rw [if_neg b87, if_neg b95])
              · simp only [cP, cN, bI_0, Bool.not_eq_false, lt_nle, Decidable.not_not] at b95
                rw [← hc9]
                exact j104 _ (by unfold dyF; rw [if_neg b87, if_pos b95])
            · simp only [cP, cN, bI_0, Bool.not_eq_false, lt_nle, Decidable.not_not] at b87
              rw [← hc9]
              exact j104 _ (by unfold dyF; rw [if_pos b87])
          refine X.w wkX3_go (fcons (ceV k_keepsAhead mmV0 ckX3_136 rfl mrV0 (by omega) rfl) (fcons (ceV k_isIn mmR3 ckX3_107 rfl mrR3 (by omega) rfl) (fcons (ceV k_isPerson mmR1 ckX3_133 rfl mrR1 (by omega) rfl) fnil))) [69] 19 rfl ?_
          refine gF (by first | assumption | exact hm.obj | exact hm.arr _ rfl) ?_
          refine gA (by first | assumption | exact hm.obj | exact hm.arr _ rfl) (ixa (a := 256) rfl (by omega) (by decide)) ?_
          refine And.intro (by decide) ?_
          refine And.intro (fun b51 => ?_) (fun b51 => ?_)
          · simp only [cP, cN, bI_0, Bool.not_eq_false, lt_nle, Decidable.not_not] at b51
            refine And.intro (fun b60 => ?_) (fun b60 => ?_)
            · simp only [cP, cN, bI_0, Bool.not_eq_false, lt_nle, Decidable.not_not] at b60
              rw [← hc9]
              exact j69 _ (by unfold dxF; rw [if_neg b51, if_neg b60])
            · simp only [cP, cN, bI_0, Bool.not_eq_false, lt_nle, Decidable.not_not] at b60
              rw [← hc9]
              exact j69 _ (by unfold dxF; rw [if_neg b51, if_pos b60])
          · simp only [cP, cN, bI_0, Bool.not_eq_false, lt_nle, Decidable.not_not] at b51
            rw [← hc9]
            exact j69 _ (by unfold dxF; rw [if_pos b51])
        · simp only [cP, cN, bI_0, Bool.not_eq_false, lt_nle, Decidable.not_not] at b31
          refine And.intro (by first | exact Or.inl rfl | exact Or.inr rfl | exact bI_01 _) ?_
          exact And.intro (hs _ _ _ (Or.inr ⟨fun q => absurd (b31.symm.trans q.2.2.1) (by decide), rfl, rfl⟩) hm hf) rfl
