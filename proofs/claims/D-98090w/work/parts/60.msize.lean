set_option maxRecDepth 100000
/-! thought: sizes to come; soup, in the model -/
def szsM (S : SS) : Int32 := foldN (capM S) (fun c x => x + S 18 c) 0 64
theorem k_allSizes : CtS mX3_allSizes 1 (mR0 (fun (a : Unit) S => True) (fun (a : Unit) S => szsM S)) := by
  intro l G d hd as h z Q hs
  match as, hs with
  | [.ref b], hs =>
    obtain ⟨S, a, hm, hp, hs⟩ := hs
    replace hp : True := hp
    replace hs : ∀ r9, r9 = szsM S → Q (some (.int r9)) h := hs
    have hf : FrM b h h := FrM.rf
    refine Ct.of rfl (Nat.le_of_ble_eq_true rfl) rfl ?_
    have loop : ∀ (n c : Nat) (i : Int32) (v : Int32), c + n = 64 → i = nI c → (v = foldN (capM S) (fun c x => x + S 18 c) 0 c) → X l G mX3_allSizes (rmK d 0 0) (TGm G (fun v h' z' => Q v h' ∧ z' = z) 0 0) 0 0 4 [(0, .ref b), (1, .int v), (2, .int i)] [] h z := by
      intro  n
      induction n using Nat.strongRecOn with
      | _ n ih =>
      intro c i v  hc hi hv
      subst hi
      refine X.w wkX3_allSizes fnil [4] 21 rfl ?_
      refine And.intro (fun b7 => ?_) (fun b7 => ?_)
      · simp only [cP, cN, bI_0, Bool.not_eq_false, lt_nle, Decidable.not_not] at b7
        have hc2 : 64 ≤ c := (le64 (by omega) (by omega)).mp b7
        obtain rfl : c = 64 := by omega
        exact And.intro (hs _ hv) rfl
      · simp only [cP, cN, bI_0, Bool.not_eq_false, lt_nle, Decidable.not_not] at b7
        have hc2 : c < 64 := nle64 b7 (by omega) (by omega)
        refine gF (by first | assumption | exact hm.obj | exact hm.arr _ rfl) ?_
        refine gA (by first | assumption | exact hm.obj | exact hm.arr _ rfl) (by first | exact ixN (by omega) (by decide) | exact ixz (by omega) (by decide) | exact ixa (a := 64) rfl (by omega) (by decide) | exact ixa (a := 128) rfl (by omega) (by decide) | exact ixa (a := 192) rfl (by omega) (by decide) | exact ixa (a := 256) rfl (by omega) (by decide) | exact ixa (a := 262) rfl (by omega) (by decide) | exact ixa (a := 268) rfl (by omega) (by decide) | exact ixa (a := 274) rfl (by omega) (by decide) | exact ixa (a := 348) rfl (by omega) (by decide) | exact ixa (a := 400) rfl (by omega) (by decide)) ?_
        refine And.intro (fun b18 => ?_) (fun b18 => ?_)
        · simp only [cP, cN, bI_0, Bool.not_eq_false, lt_nle, Decidable.not_not] at b18
          refine ih (n - 1) (by omega) (c + 1) _ _ (by omega) (nI_1 c) ?_
          rw [hv, foldN_f (show capM S c = false from by simp only [capM, lt_nle, b7, b18, decide_true, decide_false, Bool.and_true, Bool.true_and, Bool.and_false, Bool.false_and, Bool.or_true, Bool.true_or, Bool.or_false, Bool.false_or, not_true_eq_false, not_false_eq_true, Bool.not_true, Bool.not_false, decide_not, if_true, if_false, and_true, true_and, and_false, false_and, or_true, true_or, or_false, false_or, Bool.false_eq_true])]
        · simp only [cP, cN, bI_0, Bool.not_eq_false, lt_nle, Decidable.not_not] at b18
          refine gF (by first | assumption | exact hm.obj | exact hm.arr _ rfl) ?_
          refine gA (by first | assumption | exact hm.obj | exact hm.arr _ rfl) (by first | exact ixN (by omega) (by decide) | exact ixz (by omega) (by decide) | exact ixa (a := 64) rfl (by omega) (by decide) | exact ixa (a := 128) rfl (by omega) (by decide) | exact ixa (a := 192) rfl (by omega) (by decide) | exact ixa (a := 256) rfl (by omega) (by decide) | exact ixa (a := 262) rfl (by omega) (by decide) | exact ixa (a := 268) rfl (by omega) (by decide) | exact ixa (a := 274) rfl (by omega) (by decide) | exact ixa (a := 348) rfl (by omega) (by decide) | exact ixa (a := 400) rfl (by omega) (by decide)) ?_
          refine ih (n - 1) (by omega) (c + 1) _ _ (by omega) (nI_1 c) ?_
          rw [hv, foldN_t (show capM S c = true from by simp only [capM, lt_nle, b7, b18, decide_true, decide_false, Bool.and_true, Bool.true_and, Bool.and_false, Bool.false_and, Bool.or_true, Bool.true_or, Bool.or_false, Bool.false_or, not_true_eq_false, not_false_eq_true, Bool.not_true, Bool.not_false, decide_not, if_true, if_false, and_true, true_and, and_false, false_and, or_true, true_or, or_false, false_or, Bool.false_eq_true])]
    refine X.w wkX3_allSizes fnil [4] 6 rfl ?_
    exact loop 64 0 _ _ rfl rfl rfl
def GrwR (L : List Line9) (y fz : Int32) (S S' : SS) : Prop := Chg [16, 17, 18, 19] S S' ∧ ∀ c, c < 64 → capM S c = true → S' 18 c = grwM S L y fz c
def GrwsR (L : List Line9) (fz : Int32) : Nat → SS → SS → Prop
  | 0, S, S' => S' = S
  | k + 1, S, S' => ∃ S1, GrwsR L fz k S S1 ∧ GrwR L (nI k) (if k = 0 then fz else 0) S1 S'
theorem GrwsR.chg {L : List Line9} {fz : Int32} : ∀ {k : Nat} {S S' : SS}, GrwsR L fz k S S' → Chg [16, 17, 18, 19] S S'
  | 0, _, _, h => by rw [show _ = _ from h]; exact Chg.rf
  | k + 1, _, _, ⟨_, h1, h2⟩ => (GrwsR.chg h1).tr h2.1
def FulR (L : List Line9) (fz u : Int32) : Nat → Nat → SS → Int32 → SS → Prop
  | 0, _, S, r, S' => r = -1 ∧ S' = S
  | f + 1, k, S, r, S' => (u ≤ szsM S ∧ r = nI k ∧ S' = S) ∨ (¬ u ≤ szsM S ∧ ∃ S1, GrwR L (nI k) (if k = 0 then fz else 0) S S1 ∧ FulR L fz u f (k + 1) S1 r S')
theorem k_size : CtS mX3_size 6 (mW2 (fun (a : List Line9) c w S => Sq8 S ∧ LawR a S) (fun (a : List Line9) c w S v S' => ((iscM S c = true ∧ isInB w 0 60 = true) ∧ ∃ S1, GrwsR a (S 0 16) (gN w) (thkF (tl S)) S1 ∧ v = S1 18 (gN c) ∧ S' = S1) ∨ (¬ (iscM S c = true ∧ isInB w 0 60 = true) ∧ v = -1 ∧ S' = tl S))) := by
  intro l G d hd as h z Q hs
  match as, hs with
  | [.ref b, .int c, .int w], hs =>
    obtain ⟨S, a, hm, hp, hs⟩ := hs
    replace hp : Sq8 S ∧ LawR a S := hp
    replace hs : ∀ v S' h', (((iscM S c = true ∧ isInB w 0 60 = true) ∧ ∃ S1, GrwsR a (S 0 16) (gN w) (thkF (tl S)) S1 ∧ v = S1 18 (gN c) ∧ S' = S1) ∨ (¬ (iscM S c = true ∧ isInB w 0 60 = true) ∧ v = -1 ∧ S' = tl S)) → IsMod G b S' h' → FrM b h h' → Q (some (.int v)) h' := hs
    have hf : FrM b h h := FrM.rf
    refine Ct.of rfl (Nat.le_of_ble_eq_true rfl) rfl ?_
    refine X.w wkX3_size (fcons (ceV k_allGrow mmV2 ckX3_274 rfl mrV2 (by omega) rfl) (fcons (ceV k_thinksOfSizes mmV0 ckX3_271 rfl mrV0 (by omega) rfl) (fcons (ceV k_isIn mmR3 ckX3_107 rfl mrR3 (by omega) rfl) (fcons (ceV k_isCap mmR1 ckX3_313 rfl mrR1 (by omega) rfl) fnil)))) [5] 5 rfl ?_
    refine pF0 (okV_W rfl) (by first | assumption | exact hm.obj | exact hm.arr _ rfl) (Nat.le_of_ble_eq_true rfl) (by first | exact hm.N | exact hm.No _) ?_
    intro h2 e2
    have hm := hm.u0 e2 rfl; have hf := hf.u0 e2
    replace hm : IsMod G b (tl S) h2 := hm
    replace hp : Sq8 (tl S) ∧ LawR a (tl S) := ⟨hp.1, hp.2.chg rfl rfl rfl rfl rfl rfl⟩
    have loop : iscM S (c) = true → isInB w 0 60 = true → ∀ (N k0 : Nat), w = nI N → N ≤ 60 → c = nI k0 → k0 < 64 → ∀ (n k : Nat) (i : Int32) (S1 : SS) (h1 : AH), k + n = N → i = nI k → GrwsR a (S 0 16) k (thkF (tl S)) S1 → IsMod G b S1 h1 → FrM b h h1 → X l G mX3_size (rmK d 0 0) (TGm G (fun v h' z' => Q v h' ∧ z' = z) 0 0) 0 0 32 [(0, .ref b), (1, .int c), (2, .int w), (3, .int i)] [] h1 z := by
      intro hi1 hi2 N k0 hw hN hc0 hk0 n
      induction n using Nat.strongRecOn with
      | _ n ih =>
      intro k i S1 h1 hk hi hE hm hf
      subst hi
      have hch := hE.chg
      have hL1 : LawR a S1 := hp.2.chg (by rw [hch 0 rfl]; rfl) (hch 13 rfl) (hch 14 rfl) (hch 10 rfl) (hch 11 rfl) (hch 12 rfl)
      have e16 : S1 0 16 = S 0 16 := by rw [hch 0 rfl]; rfl
      refine X.w wkX3_size (fcons (ceV k_allGrow mmV2 ckX3_274 rfl mrV2 (by omega) rfl) (fcons (ceV k_thinksOfSizes mmV0 ckX3_271 rfl mrV0 (by omega) rfl) (fcons (ceV k_isIn mmR3 ckX3_107 rfl mrR3 (by omega) rfl) (fcons (ceV k_isCap mmR1 ckX3_313 rfl mrR1 (by omega) rfl) fnil)))) [32] 15 rfl ?_
      refine And.intro (fun b34 => ?_) (fun b34 => ?_)
      · simp only [cP, cN, bI_0, Bool.not_eq_false, lt_nle, Decidable.not_not] at b34
        have hc2 : N ≤ k := (le64 (by omega) (by omega)).mp (hw ▸ b34)
        obtain rfl : k = N := by omega
        refine gF (by first | assumption | exact hm.obj | exact hm.arr _ rfl) ?_
        refine gA (by first | assumption | exact hm.obj | exact hm.arr _ rfl) (ixE hc0 hk0 (by decide)) ?_
        exact And.intro (hs _ _ _ (Or.inl ⟨⟨hi1, hi2⟩, S1, by rw [hw, gN_nI (by omega)]; exact hE, by rw [hc0, gN_nI (by omega)], rfl⟩) hm hf) rfl
      · simp only [cP, cN, bI_0, Bool.not_eq_false, lt_nle, Decidable.not_not] at b34
        have hc2 : k < N := nle64 (k := N) (hw ▸ b34) (by omega) (by omega)
        refine And.intro (fun b40 => ?_) (fun b40 => ?_)
        · simp only [cP, cN, bI_0, Bool.not_eq_false, lt_nle, Decidable.not_not] at b40
          refine Exists.intro _ (Exists.intro a (And.intro hm (And.intro hL1 ?_)))
          intro S51 h51 p51 hm hf51
          have hf := hf.tr hf51
          (try dsimp only at p51)
          refine ih (n - 1) (by omega) (k + 1) _ _ _ (by omega) (nI_1 k) ⟨S1, hE, ?_⟩ hm hf
          rw [if_neg (fun q => b40 (by rw [q]; rfl))]
          exact p51
        · simp only [cP, cN, bI_0, Bool.not_eq_false, lt_nle, Decidable.not_not] at b40
          refine gF (by first | assumption | exact hm.obj | exact hm.arr _ rfl) ?_
          refine Exists.intro _ (Exists.intro a (And.intro hm (And.intro hL1 ?_)))
          intro S51 h51 p51 hm hf51
          have hf := hf.tr hf51
          (try dsimp only at p51)
          have hk00 : k = 0 := (nI_eq (by omega) (by decide)).mp b40
          refine ih (n - 1) (by omega) (k + 1) _ _ _ (by omega) (nI_1 k) ⟨S1, hE, ?_⟩ hm hf
          rw [if_pos hk00, ← e16]
          exact p51
    refine X.w wkX3_size (fcons (ceV k_allGrow mmV2 ckX3_274 rfl mrV2 (by omega) rfl) (fcons (ceV k_thinksOfSizes mmV0 ckX3_271 rfl mrV0 (by omega) rfl) (fcons (ceV k_isIn mmR3 ckX3_107 rfl mrR3 (by omega) rfl) (fcons (ceV k_isCap mmR1 ckX3_313 rfl mrR1 (by omega) rfl) fnil)))) [32] 16 rfl ?_
    refine Exists.intro _ (Exists.intro () (And.intro hm (And.intro hp.1 ?_)))
    intro v7 e7
    subst e7
    refine And.intro (fun b10 => ?_) (fun b10 => ?_)
    · simp only [cP, cN, bI_0, Bool.not_eq_false, lt_nle, Decidable.not_not] at b10
      exact And.intro (hs _ _ _ (Or.inr ⟨fun q => absurd (b10.symm.trans q.1) (by decide), rfl, rfl⟩) hm hf) rfl
    · simp only [cP, cN, bI_0, Bool.not_eq_false, lt_nle, Decidable.not_not] at b10
      refine Exists.intro _ (Exists.intro () (And.intro hm (And.intro trivial ?_)))
      intro v18 e18
      subst e18
      refine And.intro (fun b21 => ?_) (fun b21 => ?_)
      · simp only [cP, cN, bI_0, Bool.not_eq_false, lt_nle, Decidable.not_not] at b21
        refine Exists.intro _ (Exists.intro () (And.intro hm (And.intro trivial ?_)))
        intro S27 h27 p27 hm hf27
        have hf := hf.tr hf27
        (try dsimp only at p27)
        subst p27
        have h9 := isInB_t.mp b21
        have hb : Bd 60 w := Bd.of (by decide) h9.1 h9.2
        obtain ⟨k0, hk0, hc0⟩ := isCellM_lt hp.1 (by have h8 := b10; unfold iscM at h8; rw [Bool.and_eq_true] at h8; exact h8.1)
        exact loop b10 b21 (gN w) k0 hb.1 hb.2 hc0 hk0 (gN w) 0 _ _ _ (by omega) rfl rfl hm hf
      · simp only [cP, cN, bI_0, Bool.not_eq_false, lt_nle, Decidable.not_not] at b21
        exact And.intro (hs _ _ _ (Or.inr ⟨fun q => absurd (b21.symm.trans q.2) (by decide), rfl, rfl⟩) hm hf) rfl
theorem k_full : CtS mX3_full 6 (mW1 (fun (a : List Line9) u S => LawR a S) (fun (a : List Line9) u S v S' => (u < 0 ∧ v = -1 ∧ S' = tl S) ∨ (¬ u < 0 ∧ FulR a (S 0 16) u 61 0 (thkF (tl S)) v S'))) := by
  intro l G d hd as h z Q hs
  match as, hs with
  | [.ref b, .int u], hs =>
    obtain ⟨S, a, hm, hp, hs⟩ := hs
    replace hp : LawR a S := hp
    replace hs : ∀ v S' h', ((u < 0 ∧ v = -1 ∧ S' = tl S) ∨ (¬ u < 0 ∧ FulR a (S 0 16) u 61 0 (thkF (tl S)) v S')) → IsMod G b S' h' → FrM b h h' → Q (some (.int v)) h' := hs
    have hf : FrM b h h := FrM.rf
    refine Ct.of rfl (Nat.le_of_ble_eq_true rfl) rfl ?_
    refine X.w wkX3_full (fcons (ceV k_allGrow mmV2 ckX3_274 rfl mrV2 (by omega) rfl) (fcons (ceV k_allSizes mmR0 ckX3_316 rfl mrR0 (by omega) rfl) (fcons (ceV k_thinksOfSizes mmV0 ckX3_271 rfl mrV0 (by omega) rfl) fnil))) [5] 5 rfl ?_
    refine pF0 (okV_W rfl) (by first | assumption | exact hm.obj | exact hm.arr _ rfl) (Nat.le_of_ble_eq_true rfl) (by first | exact hm.N | exact hm.No _) ?_
    intro h2 e2
    have hm := hm.u0 e2 rfl; have hf := hf.u0 e2
    replace hm : IsMod G b (tl S) h2 := hm
    replace hp : LawR a (tl S) := hp.chg rfl rfl rfl rfl rfl rfl
    have loop : (∀ v S' h', FulR a (S 0 16) u 61 0 (thkF (tl S)) v S' → IsMod G b S' h' → FrM b h h' → Q (some (.int v)) h') → ∀ (n k : Nat) (i : Int32) (S1 : SS) (h1 : AH), k + n = 61 → i = nI k → Chg [16, 17, 18, 19] (tl S) S1 → (∀ v S', FulR a (S 0 16) u n k S1 v S' → FulR a (S 0 16) u 61 0 (thkF (tl S)) v S') → IsMod G b S1 h1 → FrM b h h1 → X l G mX3_full (rmK d 0 0) (TGm G (fun v h' z' => Q v h' ∧ z' = z) 0 0) 0 0 17 [(0, .ref b), (1, .int u), (2, .int i)] [] h1 z := by
      intro hs n
      induction n using Nat.strongRecOn with
      | _ n ih =>
      intro k i S1 h1 hk hi hch hE hm hf
      subst hi
      have hL1 : LawR a S1 := hp.chg (by rw [hch 0 rfl]) (hch 13 rfl) (hch 14 rfl) (hch 10 rfl) (hch 11 rfl) (hch 12 rfl)
      have e16 : S1 0 16 = S 0 16 := by rw [hch 0 rfl]; rfl
      refine X.w wkX3_full (fcons (ceV k_allGrow mmV2 ckX3_274 rfl mrV2 (by omega) rfl) (fcons (ceV k_allSizes mmR0 ckX3_316 rfl mrR0 (by omega) rfl) (fcons (ceV k_thinksOfSizes mmV0 ckX3_271 rfl mrV0 (by omega) rfl) fnil))) [17] 19 rfl ?_
      refine And.intro (fun b20 => ?_) (fun b20 => ?_)
      · simp only [cP, cN, bI_0, Bool.not_eq_false, lt_nle, Decidable.not_not] at b20
        obtain rfl : n = 0 := by
          have h9 : ¬ nI k ≤ nI 60 := b20
          rw [nI_leI (by omega) (by decide)] at h9
          omega
        exact And.intro (hs _ _ _ (hE _ _ ⟨rfl, rfl⟩) hm hf) rfl
      · simp only [cP, cN, bI_0, Bool.not_eq_false, lt_nle, Decidable.not_not] at b20
        have hc2 : k ≤ 60 := (nI_leI (by omega) (by decide)).mp b20
        obtain ⟨n, rfl⟩ : ∃ q, n = q + 1 := ⟨n - 1, by omega⟩
        refine Exists.intro _ (Exists.intro () (And.intro hm (And.intro trivial ?_)))
        intro v24 e24
        (try dsimp only at e24)
        refine And.intro (fun b28 => ?_) (fun b28 => ?_)
        · simp only [cP, cN, bI_0, Bool.not_eq_false, lt_nle, Decidable.not_not] at b28
          rw [e24] at b28
          refine And.intro (fun b36 => ?_) (fun b36 => ?_)
          · simp only [cP, cN, bI_0, Bool.not_eq_false, lt_nle, Decidable.not_not] at b36
            refine Exists.intro _ (Exists.intro a (And.intro hm (And.intro hL1 ?_)))
            intro S47 h47 p47 hm hf47
            have hf := hf.tr hf47
            (try dsimp only at p47)
            refine ih n (by omega) (k + 1) _ _ _ (by omega) (nI_1 k) (hch.tr p47.1) (fun v S' q => hE v S' (Or.inr ⟨b28, S47, ?_, q⟩)) hm hf
            rw [if_neg (fun q => b36 (by rw [q]; rfl))]
            exact p47
          · simp only [cP, cN, bI_0, Bool.not_eq_false, lt_nle, Decidable.not_not] at b36
            refine gF (by first | assumption | exact hm.obj | exact hm.arr _ rfl) ?_
            refine Exists.intro _ (Exists.intro a (And.intro hm (And.intro hL1 ?_)))
            intro S47 h47 p47 hm hf47
            have hf := hf.tr hf47
            (try dsimp only at p47)
            have hk00 : k = 0 := (nI_eq (by omega) (by decide)).mp b36
            refine ih n (by omega) (k + 1) _ _ _ (by omega) (nI_1 k) (hch.tr p47.1) (fun v S' q => hE v S' (Or.inr ⟨b28, S47, ?_, q⟩)) hm hf
            rw [if_pos hk00, ← e16]
            exact p47
        · simp only [cP, cN, bI_0, Bool.not_eq_false, lt_nle, Decidable.not_not] at b28
          rw [e24] at b28
          exact And.intro (hs _ _ _ (hE _ _ (Or.inl ⟨b28, rfl, rfl⟩)) hm hf) rfl
    refine X.w wkX3_full (fcons (ceV k_allGrow mmV2 ckX3_274 rfl mrV2 (by omega) rfl) (fcons (ceV k_allSizes mmR0 ckX3_316 rfl mrR0 (by omega) rfl) (fcons (ceV k_thinksOfSizes mmV0 ckX3_271 rfl mrV0 (by omega) rfl) fnil))) [17] 8 rfl ?_
    refine And.intro (fun b6 => ?_) (fun b6 => ?_)
    · simp only [cP, cN, bI_0, Bool.not_eq_false, lt_nle, Decidable.not_not] at b6
      refine Exists.intro _ (Exists.intro () (And.intro hm (And.intro trivial ?_)))
      intro S12 h12 p12 hm hf12
      have hf := hf.tr hf12
      (try dsimp only at p12)
      subst p12
      exact loop (fun v S' h' q hm hf => hs _ _ _ (Or.inr ⟨by rw [Int32.not_lt]; exact b6, q⟩) hm hf) 61 0 _ _ _ rfl rfl ((Chg.rf (S := tl S)).set rfl) (fun _ _ q => q) hm hf
    · simp only [cP, cN, bI_0, Bool.not_eq_false, lt_nle, Decidable.not_not] at b6
      exact And.intro (hs _ _ _ (Or.inl ⟨lt_nle.mpr b6, rfl, rfl⟩) hm hf) rfl
