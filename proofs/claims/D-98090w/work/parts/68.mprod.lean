set_option maxRecDepth 100000
/-! products, sums, comparisons in the model -/
theorem RdQ.ok {r : PR} {S S' : SS} {n m : Nat} {v : Int32} (h : RdQ r S n m v S') (hv : ¬ v = -1) : ∃ c k1, r = .inr (c, k1) ∧ RdQ (.inr (c, k1)) S n m v S' := by
  cases r with
  | inl e => exact absurd h.2.1 hv
  | inr q => exact ⟨q.1, q.2, rfl, h⟩
theorem RdQ.no {r : PR} {S S' : SS} {n m : Nat} {v : Int32} (h : RdQ r S n m v S') (hv : v = -1) : ∃ e, r = .inl e ∧ RdQ (.inl e) S n m v S' := by
  cases r with
  | inl e => exact ⟨e, rfl, h⟩
  | inr q => exact absurd (hv.symm.trans h.2.1) (by decide)
theorem RdQ.sd {S S' : SS} {n m k : Nat} {c : Code9} {v : Int32} (h : RdQ (.inr (c, k)) S n m v S') (h1 : k ≤ n) (h2 : m + c.length ≤ k) : Sd n m c k 0 S S' := ⟨h.1, h.2.2.1, h.2.2.2.1, h.2.2.2.2, h1, h2⟩
theorem tab3 (c d : Code9) (o : Nat × Int32) : c ++ d ++ [o] = c ++ d ++ [o] := rfl
theorem k_readProduct : CtS mX3_readProduct 5 (mW0 (fun (a : Nat × Nat × Nat) S => RdP S a.1 a.2.1 a.2.2) (fun (a : Nat × Nat × Nat) S v S' => RdQ (pProd (S 8) a.2.1 a.1) S a.2.1 a.2.2 v S')) := by
  intro l G d hd as h z Q hs
  match as, hs with
  | [.ref b], hs =>
    obtain ⟨S, a, hm, hp, hs⟩ := hs
    replace hp : RdP S a.1 a.2.1 a.2.2 := hp
    replace hs : ∀ v S' h', (RdQ (pProd (S 8) a.2.1 a.1) S a.2.1 a.2.2 v S') → IsMod G b S' h' → FrM b h h' → Q (some (.int v)) h' := hs
    have hf : FrM b h h := FrM.rf
    refine Ct.of rfl (Nat.le_of_ble_eq_true rfl) rfl ?_
    obtain ⟨k, n, m⟩ := a
    dsimp only at hp hs
    have ro := hp.2
    have hkn : k ≤ n := hp.1.2.2.2.2.1
    have hmk : m ≤ k := by have h9 := hp.1.2.2.2.2.2; simp at h9; exact h9
    have loop : ∀ (f : Nat) (c : Code9) (k1 : Nat) (S1 : SS) (h1 : AH), n - k1 < f → k1 ≤ n → pProdL (S 8) n f c k1 = pProd (S 8) n k → Sd n m c k1 0 S S1 → IsMod G b S1 h1 → FrM b h h1 → ∀ J : LL, X l G mX3_readProduct (rmK d 0 0) (TGm G (fun v h' z' => Q v h' ∧ z' = z) 0 0) 0 0 10 ([(0, .ref b)] ++ J) [] h1 z := by
      intro f
      induction f with
      | zero => intro c k1 S1 h1 hf; omega
      | succ f ih =>
      intro c k1 S1 h1 hnf hkn1 hE hd hm hf J
      refine X.cut _ J rfl ?_
      have hd1 := hd
      refine X.w wkX3_readProduct (fcons (ceV k_emits mmV2 ckX3_200 rfl mrV2 (by omega) rfl) (fcons (ceV k_errs mmW1 ckX3_197 rfl mrW1 (by omega) rfl) (fcons (ceV k_reads mmV0 ckX3_203 rfl mrV0 (by omega) rfl) (fcons (ceV k_isSign mmR1 ckX3_210 rfl mrR1 (by omega) rfl) (fcons (ceV k_readUnit mmW0 ckX3_206 rfl mrW0 (by omega) rfl) fnil))))) [10] 38 rfl ?_
      refine Exists.intro _ (Exists.intro () (And.intro hm (And.intro trivial ?_)))
      intro v13 e13
      subst e13
      refine And.intro (fun b16 => ?_) (fun b16 => ?_)
      · simp only [cP, cN, bI_0, Bool.not_eq_false, lt_nle, Decidable.not_not] at b16
        rw [hd1.sg] at b16
        have hK4 : ¬ tK (S 8) n k1 = 0 := by rw [(sgn_K b16).1]; decide
        refine Exists.intro _ (Exists.intro () (And.intro hm (And.intro trivial ?_)))
        intro v31 e31
        subst e31
        refine Exists.intro _ (Exists.intro (tN (S 8) n k1, n) (And.intro hm (And.intro ⟨hd.pos, (tN_adv hd.2.2.2.2.1 hK4).2, ro.fr hd.1⟩ ?_)))
        intro S36 h36 p36 hm hf36
        have hf := hf.tr hf36
        (try dsimp only at p36)
        obtain ⟨f36, rfl, hFO, hTk⟩ := p36
        have hd := hd.read hK4 hFO hTk
        have hkk := tN_adv (t := S 8) (n := n) (k := k1) hkn1 hK4
        refine And.intro (fun b40 => ?_) (fun b40 => ?_)
        · simp only [cP, cN, bI_0, Bool.not_eq_false, lt_nle, Decidable.not_not] at b40
          refine And.intro (fun b58 => ?_) (fun b58 => ?_)
          · simp only [cP, cN, bI_0, Bool.not_eq_false, lt_nle, Decidable.not_not] at b58
            refine Exists.intro _ (Exists.intro (tN (S 8) n k1, n, m + c.length) (And.intro hm (And.intro (hd.p ro) ?_)))
            intro v75 S75 h75 p75 hm hf75
            have hf := hf.tr hf75
            (try dsimp only at p75)
            rw [hd.1.1 8 (by decide) (by decide) (by decide)] at p75
            refine And.intro (fun b79 => ?_) (fun b79 => ?_)
            · simp only [cP, cN, bI_0, Bool.not_eq_false, lt_nle, Decidable.not_not] at b79
              obtain ⟨dd, k2, hu, p75⟩ := p75.ok b79
              have hg := pUnit_g hkk.2 dd k2 hu
              obtain ⟨hv75, hd⟩ := hd.call p75 hg.1 hg.2.1 hg.2.2.1
              refine And.intro (fun b86 => ?_) (fun b86 => ?_)
              · simp only [cP, cN, bI_0, Bool.not_eq_false, lt_nle, Decidable.not_not] at b86
                rw [hd1.sg] at b86
                exact absurd (b16.symm.trans b86) (by decide)
              · simp only [cP, cN, bI_0, Bool.not_eq_false, lt_nle, Decidable.not_not] at b86
                refine Exists.intro _ (Exists.intro (m + (c ++ dd).length) (And.intro hm (And.intro ⟨hd.2.2.1, hd.lt ro⟩ ?_)))
                intro S95 h95 p95 hm hf95
                have hf := hf.tr hf95
                (try dsimp only at p95)
                subst p95
                rw [pProdL, if_pos b16, hu] at hE
                exact ih _ k2 _ _ (by omega) hg.2.1 hE (hd.emit (o := 4) (x := 0)) hm hf [(1, .int (bI (signM S1 42)))]
            · simp only [cP, cN, bI_0, Bool.not_eq_false, lt_nle, Decidable.not_not] at b79
              obtain ⟨e, hu, p75⟩ := p75.no b79
              obtain ⟨hv75, hq⟩ := hd.fail p75
              rw [pProdL, if_pos b16, hu] at hE
              rw [← hE] at hs
              exact And.intro (hs _ _ _ hq hm hf) rfl
          · simp only [cP, cN, bI_0, Bool.not_eq_false, lt_nle, Decidable.not_not] at b58
            rw [hd1.sg] at b58
            exact absurd (b16.symm.trans b58) (by decide)
        · simp only [cP, cN, bI_0, Bool.not_eq_false, lt_nle, Decidable.not_not] at b40
          rw [hd1.sg] at b40
          exact absurd (b16.symm.trans b40) (by decide)
      · simp only [cP, cN, bI_0, Bool.not_eq_false, lt_nle, Decidable.not_not] at b16
        rw [hd1.sg] at b16
        refine Exists.intro _ (Exists.intro () (And.intro hm (And.intro trivial ?_)))
        intro v22 e22
        subst e22
        refine And.intro (fun b25 => ?_) (fun b25 => ?_)
        · simp only [cP, cN, bI_0, Bool.not_eq_false, lt_nle, Decidable.not_not] at b25
          rw [hd1.sg] at b25
          rw [pProdL, if_neg (by rw [b16]; decide), if_neg (by rw [b25]; decide)] at hE
          rw [← hE] at hs
          exact And.intro (hs _ _ _ (hd1.q (k0 := k)) hm hf) rfl
        · simp only [cP, cN, bI_0, Bool.not_eq_false, lt_nle, Decidable.not_not] at b25
          rw [hd1.sg] at b25
          have hK4 : ¬ tK (S 8) n k1 = 0 := by rw [(sgn_K b25).1]; decide
          refine Exists.intro _ (Exists.intro () (And.intro hm (And.intro trivial ?_)))
          intro v31 e31
          subst e31
          refine Exists.intro _ (Exists.intro (tN (S 8) n k1, n) (And.intro hm (And.intro ⟨hd.pos, (tN_adv hd.2.2.2.2.1 hK4).2, ro.fr hd.1⟩ ?_)))
          intro S36 h36 p36 hm hf36
          have hf := hf.tr hf36
          (try dsimp only at p36)
          obtain ⟨f36, rfl, hFO, hTk⟩ := p36
          have hd := hd.read hK4 hFO hTk
          have hkk := tN_adv (t := S 8) (n := n) (k := k1) hkn1 hK4
          refine And.intro (fun b40 => ?_) (fun b40 => ?_)
          · simp only [cP, cN, bI_0, Bool.not_eq_false, lt_nle, Decidable.not_not] at b40
            rw [hd1.sg] at b40
            exact absurd (b16.symm.trans b40) (by decide)
          · simp only [cP, cN, bI_0, Bool.not_eq_false, lt_nle, Decidable.not_not] at b40
            refine gF (by first | assumption | exact hm.obj | exact hm.arr _ rfl) ?_
            refine And.intro (fun b48 => ?_) (fun b48 => ?_)
            · simp only [cP, cN, bI_0, Bool.not_eq_false, lt_nle, Decidable.not_not] at b48
              have h3 : tK (S 8) n (tN (S 8) n k1) = 3 := hd.tok.symm.trans b48
              refine And.intro (fun b58 => ?_) (fun b58 => ?_)
              · simp only [cP, cN, bI_0, Bool.not_eq_false, lt_nle, Decidable.not_not] at b58
                rw [hd1.sg] at b58
                exact absurd (b16.symm.trans b58) (by decide)
              · simp only [cP, cN, bI_0, Bool.not_eq_false, lt_nle, Decidable.not_not] at b58
                refine gF (by first | assumption | exact hm.obj | exact hm.arr _ rfl) ?_
                refine And.intro (fun b65 => ?_) (fun b65 => ?_)
                · simp only [cP, cN, bI_0, Bool.not_eq_false, lt_nle, Decidable.not_not] at b65
                  have h0 : ¬ tV (S 8) n (tN (S 8) n k1) = 0 := fun q => b65 ((hd.val (by rw [h3]; decide) (by rw [h3]; decide)).trans q)
                  refine Exists.intro _ (Exists.intro (tN (S 8) n k1, n, m + c.length) (And.intro hm (And.intro (hd.p ro) ?_)))
                  intro v75 S75 h75 p75 hm hf75
                  have hf := hf.tr hf75
                  (try dsimp only at p75)
                  rw [hd.1.1 8 (by decide) (by decide) (by decide)] at p75
                  refine And.intro (fun b79 => ?_) (fun b79 => ?_)
                  · simp only [cP, cN, bI_0, Bool.not_eq_false, lt_nle, Decidable.not_not] at b79
                    obtain ⟨dd, k2, hu, p75⟩ := p75.ok b79
                    have hg := pUnit_g hkk.2 dd k2 hu
                    obtain ⟨hv75, hd⟩ := hd.call p75 hg.1 hg.2.1 hg.2.2.1
                    refine And.intro (fun b86 => ?_) (fun b86 => ?_)
                    · simp only [cP, cN, bI_0, Bool.not_eq_false, lt_nle, Decidable.not_not] at b86
                      refine Exists.intro _ (Exists.intro (m + (c ++ dd).length) (And.intro hm (And.intro ⟨hd.2.2.1, hd.lt ro⟩ ?_)))
                      intro S95 h95 p95 hm hf95
                      have hf := hf.tr hf95
                      (try dsimp only at p95)
                      subst p95
                      have hu2 : pUnit (S 8) n (tN (S 8) n k1) = .inr ([(0, tV (S 8) n (tN (S 8) n k1))], tN (S 8) n (tN (S 8) n k1)) := by unfold pUnit; rw [if_pos h3]
                      rw [hu2] at hu
                      cases hu
                      rw [pProdL, if_neg (by rw [b16]; decide), if_pos b25, if_pos h3, if_neg h0] at hE
                      exact ih _ _ _ _ (by omega) hg.2.1 hE (hd.emit (o := 5) (x := 0)) hm hf [(1, .int (bI (signM S1 42)))]
                    · simp only [cP, cN, bI_0, Bool.not_eq_false, lt_nle, Decidable.not_not] at b86
                      rw [hd1.sg] at b86
                      exact absurd (b16.symm.trans b86) (by decide)
                  · simp only [cP, cN, bI_0, Bool.not_eq_false, lt_nle, Decidable.not_not] at b79
                    obtain ⟨e, hu, p75⟩ := p75.no b79
                    obtain ⟨hv75, hq⟩ := hd.fail p75
                    have hu2 : pUnit (S 8) n (tN (S 8) n k1) = .inr ([(0, tV (S 8) n (tN (S 8) n k1))], tN (S 8) n (tN (S 8) n k1)) := by unfold pUnit; rw [if_pos h3]
                    rw [hu2] at hu
                    cases hu
                · simp only [cP, cN, bI_0, Bool.not_eq_false, lt_nle, Decidable.not_not] at b65
                  have h0 : tV (S 8) n (tN (S 8) n k1) = 0 := (hd.val (by rw [h3]; decide) (by rw [h3]; decide)).symm.trans b65
                  refine Exists.intro _ (Exists.intro () (And.intro hm (And.intro trivial ?_)))
                  intro v70 S70 h70 p70 hm hf70
                  have hf := hf.tr hf70
                  (try dsimp only at p70)
                  obtain ⟨rfl, rfl⟩ := p70
                  rw [pProdL, if_neg (by rw [b16]; decide), if_pos b25, if_pos h3, if_pos h0] at hE
                  rw [← hE] at hs
                  exact And.intro (hs _ _ _ hd.err hm hf) rfl
            · simp only [cP, cN, bI_0, Bool.not_eq_false, lt_nle, Decidable.not_not] at b48
              have h3 : ¬ tK (S 8) n (tN (S 8) n k1) = 3 := fun q => b48 (hd.tok.trans q)
              refine Exists.intro _ (Exists.intro () (And.intro hm (And.intro trivial ?_)))
              intro v53 S53 h53 p53 hm hf53
              have hf := hf.tr hf53
              (try dsimp only at p53)
              obtain ⟨rfl, rfl⟩ := p53
              rw [pProdL, if_neg (by rw [b16]; decide), if_pos b25, if_neg h3] at hE
              rw [← hE] at hs
              exact And.intro (hs _ _ _ hd.err hm hf) rfl
    refine X.w wkX3_readProduct (fcons (ceV k_emits mmV2 ckX3_200 rfl mrV2 (by omega) rfl) (fcons (ceV k_errs mmW1 ckX3_197 rfl mrW1 (by omega) rfl) (fcons (ceV k_reads mmV0 ckX3_203 rfl mrV0 (by omega) rfl) (fcons (ceV k_isSign mmR1 ckX3_210 rfl mrR1 (by omega) rfl) (fcons (ceV k_readUnit mmW0 ckX3_206 rfl mrW0 (by omega) rfl) fnil))))) [10] 7 rfl ?_
    refine Exists.intro _ (Exists.intro (k, n, m) (And.intro hm (And.intro hp ?_)))
    intro v1 S1 h1 p1 hm hf1
    have hf := hf.tr hf1
    (try dsimp only at p1)
    refine And.intro (fun b5 => ?_) (fun b5 => ?_)
    · simp only [cP, cN, bI_0, Bool.not_eq_false, lt_nle, Decidable.not_not] at b5
      obtain ⟨c, k1, hu, p1⟩ := p1.ok b5
      have hg := pUnit_g hkn c k1 hu
      have hd := p1.sd hg.2.1 (by omega)
      exact loop (n + 1) c k1 _ _ (by omega) hg.2.1 (by unfold pProd; rw [hu]) hd hm hf []
    · simp only [cP, cN, bI_0, Bool.not_eq_false, lt_nle, Decidable.not_not] at b5
      obtain ⟨e, hu, p1⟩ := p1.no b5
      have hv1 := b5
      have e2 : pProd (S 8) n k = .inl e := by unfold pProd; rw [hu]
      rw [e2] at hs
      rw [hv1] at p1
      exact And.intro (hs _ _ _ p1 hm hf) rfl
theorem k_readSum : CtS mX3_readSum 6 (mW0 (fun (a : Nat × Nat × Nat) S => RdP S a.1 a.2.1 a.2.2) (fun (a : Nat × Nat × Nat) S v S' => RdQ (pSum (S 8) a.2.1 a.1) S a.2.1 a.2.2 v S')) := by
  intro l G d hd as h z Q hs
  match as, hs with
  | [.ref b], hs =>
    obtain ⟨S, a, hm, hp, hs⟩ := hs
    replace hp : RdP S a.1 a.2.1 a.2.2 := hp
    replace hs : ∀ v S' h', (RdQ (pSum (S 8) a.2.1 a.1) S a.2.1 a.2.2 v S') → IsMod G b S' h' → FrM b h h' → Q (some (.int v)) h' := hs
    have hf : FrM b h h := FrM.rf
    refine Ct.of rfl (Nat.le_of_ble_eq_true rfl) rfl ?_
    obtain ⟨k, n, m⟩ := a
    dsimp only at hp hs
    have ro := hp.2
    have hkn : k ≤ n := hp.1.2.2.2.2.1
    have hmk : m ≤ k := by have h9 := hp.1.2.2.2.2.2; simp at h9; exact h9
    have loop : ∀ (f : Nat) (c : Code9) (k1 : Nat) (S1 : SS) (h1 : AH), n - k1 < f → k1 ≤ n → pSumL (S 8) n f c k1 = pSum (S 8) n k → Sd n m c k1 0 S S1 → IsMod G b S1 h1 → FrM b h h1 → ∀ J : LL, X l G mX3_readSum (rmK d 0 0) (TGm G (fun v h' z' => Q v h' ∧ z' = z) 0 0) 0 0 10 ([(0, .ref b)] ++ J) [] h1 z := by
      intro f
      induction f with
      | zero => intro c k1 S1 h1 hf; omega
      | succ f ih =>
      intro c k1 S1 h1 hnf hkn1 hE hd hm hf J
      refine X.cut _ J rfl ?_
      have hd1 := hd
      refine X.w wkX3_readSum (fcons (ceV k_emits mmV2 ckX3_200 rfl mrV2 (by omega) rfl) (fcons (ceV k_reads mmV0 ckX3_203 rfl mrV0 (by omega) rfl) (fcons (ceV k_isSign mmR1 ckX3_210 rfl mrR1 (by omega) rfl) (fcons (ceV k_readProduct mmW0 ckX3_213 rfl mrW0 (by omega) rfl) fnil)))) [10] 28 rfl ?_
      refine Exists.intro _ (Exists.intro () (And.intro hm (And.intro trivial ?_)))
      intro v13 e13
      subst e13
      refine And.intro (fun b16 => ?_) (fun b16 => ?_)
      · simp only [cP, cN, bI_0, Bool.not_eq_false, lt_nle, Decidable.not_not] at b16
        rw [hd1.sg] at b16
        have hsg : sgn (S 8) n k1 43 = true ∨ sgn (S 8) n k1 45 = true := Or.inl b16
        have hK4 : ¬ tK (S 8) n k1 = 0 := by rw [(sgn_K b16).1]; decide
        have hK5 : ¬ tK (S 8) n k1 = 1 := by rw [(sgn_K b16).1]; decide
        refine gF (by first | assumption | exact hm.obj | exact hm.arr _ rfl) ?_
        refine And.intro (fun b34 => ?_) (fun b34 => ?_)
        · simp only [cP, cN, bI_0, Bool.not_eq_false, lt_nle, Decidable.not_not] at b34
          have h43 : ¬ tV (S 8) n k1 = 43 := fun q => b34 ((hd1.val hK4 hK5).trans q)
          refine Exists.intro _ (Exists.intro (tN (S 8) n k1, n) (And.intro hm (And.intro ⟨hd.pos, (tN_adv hd.2.2.2.2.1 hK4).2, ro.fr hd.1⟩ ?_)))
          intro S44 h44 p44 hm hf44
          have hf := hf.tr hf44
          (try dsimp only at p44)
          obtain ⟨f44, rfl, hFO, hTk⟩ := p44
          have hd := hd.read hK4 hFO hTk
          have hkk := tN_adv (t := S 8) (n := n) (k := k1) hkn1 hK4
          refine Exists.intro _ (Exists.intro (tN (S 8) n k1, n, m + c.length) (And.intro hm (And.intro (hd.p ro) ?_)))
          intro v48 S48 h48 p48 hm hf48
          have hf := hf.tr hf48
          (try dsimp only at p48)
          rw [hd.1.1 8 (by decide) (by decide) (by decide)] at p48
          refine And.intro (fun b52 => ?_) (fun b52 => ?_)
          · simp only [cP, cN, bI_0, Bool.not_eq_false, lt_nle, Decidable.not_not] at b52
            obtain ⟨dd, k2, hu, p48⟩ := p48.ok b52
            have hg := pProd_g hkk.2 dd k2 hu
            obtain ⟨hv48, hd⟩ := hd.call p48 hg.1 hg.2.1 hg.2.2.1
            refine Exists.intro _ (Exists.intro (m + (c ++ dd).length) (And.intro hm (And.intro ⟨hd.2.2.1, hd.lt ro⟩ ?_)))
            intro S60 h60 p60 hm hf60
            have hf := hf.tr hf60
            (try dsimp only at p60)
            subst p60
            rw [pSumL, if_pos hsg, hu] at hE
            dsimp only at hE
            rw [if_neg h43] at hE
            exact ih _ k2 _ _ (by omega) hg.2.1 hE (hd.emit (o := 3) (x := 0)) hm hf [(1, .int 3)]
          · simp only [cP, cN, bI_0, Bool.not_eq_false, lt_nle, Decidable.not_not] at b52
            obtain ⟨e, hu, p48⟩ := p48.no b52
            obtain ⟨hv48, hq⟩ := hd.fail p48
            rw [pSumL, if_pos hsg, hu] at hE
            rw [← hE] at hs
            exact And.intro (hs _ _ _ hq hm hf) rfl
        · simp only [cP, cN, bI_0, Bool.not_eq_false, lt_nle, Decidable.not_not] at b34
          have h43 : tV (S 8) n k1 = 43 := (hd1.val hK4 hK5).symm.trans b34
          refine Exists.intro _ (Exists.intro (tN (S 8) n k1, n) (And.intro hm (And.intro ⟨hd.pos, (tN_adv hd.2.2.2.2.1 hK4).2, ro.fr hd.1⟩ ?_)))
          intro S44 h44 p44 hm hf44
          have hf := hf.tr hf44
          (try dsimp only at p44)
          obtain ⟨f44, rfl, hFO, hTk⟩ := p44
          have hd := hd.read hK4 hFO hTk
          have hkk := tN_adv (t := S 8) (n := n) (k := k1) hkn1 hK4
          refine Exists.intro _ (Exists.intro (tN (S 8) n k1, n, m + c.length) (And.intro hm (And.intro (hd.p ro) ?_)))
          intro v48 S48 h48 p48 hm hf48
          have hf := hf.tr hf48
          (try dsimp only at p48)
          rw [hd.1.1 8 (by decide) (by decide) (by decide)] at p48
          refine And.intro (fun b52 => ?_) (fun b52 => ?_)
          · simp only [cP, cN, bI_0, Bool.not_eq_false, lt_nle, Decidable.not_not] at b52
            obtain ⟨dd, k2, hu, p48⟩ := p48.ok b52
            have hg := pProd_g hkk.2 dd k2 hu
            obtain ⟨hv48, hd⟩ := hd.call p48 hg.1 hg.2.1 hg.2.2.1
            refine Exists.intro _ (Exists.intro (m + (c ++ dd).length) (And.intro hm (And.intro ⟨hd.2.2.1, hd.lt ro⟩ ?_)))
            intro S60 h60 p60 hm hf60
            have hf := hf.tr hf60
            (try dsimp only at p60)
            subst p60
            rw [pSumL, if_pos hsg, hu] at hE
            dsimp only at hE
            rw [if_pos h43] at hE
            exact ih _ k2 _ _ (by omega) hg.2.1 hE (hd.emit (o := 2) (x := 0)) hm hf [(1, .int 2)]
          · simp only [cP, cN, bI_0, Bool.not_eq_false, lt_nle, Decidable.not_not] at b52
            obtain ⟨e, hu, p48⟩ := p48.no b52
            obtain ⟨hv48, hq⟩ := hd.fail p48
            rw [pSumL, if_pos hsg, hu] at hE
            rw [← hE] at hs
            exact And.intro (hs _ _ _ hq hm hf) rfl
      · simp only [cP, cN, bI_0, Bool.not_eq_false, lt_nle, Decidable.not_not] at b16
        rw [hd1.sg] at b16
        refine Exists.intro _ (Exists.intro () (And.intro hm (And.intro trivial ?_)))
        intro v22 e22
        subst e22
        refine And.intro (fun b25 => ?_) (fun b25 => ?_)
        · simp only [cP, cN, bI_0, Bool.not_eq_false, lt_nle, Decidable.not_not] at b25
          rw [hd1.sg] at b25
          rw [pSumL, if_neg (fun q => q.elim (fun q => absurd (b16.symm.trans q) (by decide)) (fun q => absurd (b25.symm.trans q) (by decide)))] at hE
          rw [← hE] at hs
          exact And.intro (hs _ _ _ (hd1.q (k0 := k)) hm hf) rfl
        · simp only [cP, cN, bI_0, Bool.not_eq_false, lt_nle, Decidable.not_not] at b25
          rw [hd1.sg] at b25
          have hsg : sgn (S 8) n k1 43 = true ∨ sgn (S 8) n k1 45 = true := Or.inr b25
          have hK4 : ¬ tK (S 8) n k1 = 0 := by rw [(sgn_K b25).1]; decide
          have hK5 : ¬ tK (S 8) n k1 = 1 := by rw [(sgn_K b25).1]; decide
          refine gF (by first | assumption | exact hm.obj | exact hm.arr _ rfl) ?_
          refine And.intro (fun b34 => ?_) (fun b34 => ?_)
          · simp only [cP, cN, bI_0, Bool.not_eq_false, lt_nle, Decidable.not_not] at b34
            have h43 : ¬ tV (S 8) n k1 = 43 := fun q => b34 ((hd1.val hK4 hK5).trans q)
            refine Exists.intro _ (Exists.intro (tN (S 8) n k1, n) (And.intro hm (And.intro ⟨hd.pos, (tN_adv hd.2.2.2.2.1 hK4).2, ro.fr hd.1⟩ ?_)))
            intro S44 h44 p44 hm hf44
            have hf := hf.tr hf44
            (try dsimp only at p44)
            obtain ⟨f44, rfl, hFO, hTk⟩ := p44
            have hd := hd.read hK4 hFO hTk
            have hkk := tN_adv (t := S 8) (n := n) (k := k1) hkn1 hK4
            refine Exists.intro _ (Exists.intro (tN (S 8) n k1, n, m + c.length) (And.intro hm (And.intro (hd.p ro) ?_)))
            intro v48 S48 h48 p48 hm hf48
            have hf := hf.tr hf48
            (try dsimp only at p48)
            rw [hd.1.1 8 (by decide) (by decide) (by decide)] at p48
            refine And.intro (fun b52 => ?_) (fun b52 => ?_)
            · simp only [cP, cN, bI_0, Bool.not_eq_false, lt_nle, Decidable.not_not] at b52
              obtain ⟨dd, k2, hu, p48⟩ := p48.ok b52
              have hg := pProd_g hkk.2 dd k2 hu
              obtain ⟨hv48, hd⟩ := hd.call p48 hg.1 hg.2.1 hg.2.2.1
              refine Exists.intro _ (Exists.intro (m + (c ++ dd).length) (And.intro hm (And.intro ⟨hd.2.2.1, hd.lt ro⟩ ?_)))
              intro S60 h60 p60 hm hf60
              have hf := hf.tr hf60
              (try dsimp only at p60)
              subst p60
              rw [pSumL, if_pos hsg, hu] at hE
              dsimp only at hE
              rw [if_neg h43] at hE
              exact ih _ k2 _ _ (by omega) hg.2.1 hE (hd.emit (o := 3) (x := 0)) hm hf [(1, .int 3)]
            · simp only [cP, cN, bI_0, Bool.not_eq_false, lt_nle, Decidable.not_not] at b52
              obtain ⟨e, hu, p48⟩ := p48.no b52
              obtain ⟨hv48, hq⟩ := hd.fail p48
              rw [pSumL, if_pos hsg, hu] at hE
              rw [← hE] at hs
              exact And.intro (hs _ _ _ hq hm hf) rfl
          · simp only [cP, cN, bI_0, Bool.not_eq_false, lt_nle, Decidable.not_not] at b34
            have h43 : tV (S 8) n k1 = 43 := (hd1.val hK4 hK5).symm.trans b34
            refine Exists.intro _ (Exists.intro (tN (S 8) n k1, n) (And.intro hm (And.intro ⟨hd.pos, (tN_adv hd.2.2.2.2.1 hK4).2, ro.fr hd.1⟩ ?_)))
            intro S44 h44 p44 hm hf44
            have hf := hf.tr hf44
            (try dsimp only at p44)
            obtain ⟨f44, rfl, hFO, hTk⟩ := p44
            have hd := hd.read hK4 hFO hTk
            have hkk := tN_adv (t := S 8) (n := n) (k := k1) hkn1 hK4
            refine Exists.intro _ (Exists.intro (tN (S 8) n k1, n, m + c.length) (And.intro hm (And.intro (hd.p ro) ?_)))
            intro v48 S48 h48 p48 hm hf48
            have hf := hf.tr hf48
            (try dsimp only at p48)
            rw [hd.1.1 8 (by decide) (by decide) (by decide)] at p48
            refine And.intro (fun b52 => ?_) (fun b52 => ?_)
            · simp only [cP, cN, bI_0, Bool.not_eq_false, lt_nle, Decidable.not_not] at b52
              obtain ⟨dd, k2, hu, p48⟩ := p48.ok b52
              have hg := pProd_g hkk.2 dd k2 hu
              obtain ⟨hv48, hd⟩ := hd.call p48 hg.1 hg.2.1 hg.2.2.1
              refine Exists.intro _ (Exists.intro (m + (c ++ dd).length) (And.intro hm (And.intro ⟨hd.2.2.1, hd.lt ro⟩ ?_)))
              intro S60 h60 p60 hm hf60
              have hf := hf.tr hf60
              (try dsimp only at p60)
              subst p60
              rw [pSumL, if_pos hsg, hu] at hE
              dsimp only at hE
              rw [if_pos h43] at hE
              exact ih _ k2 _ _ (by omega) hg.2.1 hE (hd.emit (o := 2) (x := 0)) hm hf [(1, .int 2)]
            · simp only [cP, cN, bI_0, Bool.not_eq_false, lt_nle, Decidable.not_not] at b52
              obtain ⟨e, hu, p48⟩ := p48.no b52
              obtain ⟨hv48, hq⟩ := hd.fail p48
              rw [pSumL, if_pos hsg, hu] at hE
              rw [← hE] at hs
              exact And.intro (hs _ _ _ hq hm hf) rfl
    refine X.w wkX3_readSum (fcons (ceV k_emits mmV2 ckX3_200 rfl mrV2 (by omega) rfl) (fcons (ceV k_reads mmV0 ckX3_203 rfl mrV0 (by omega) rfl) (fcons (ceV k_isSign mmR1 ckX3_210 rfl mrR1 (by omega) rfl) (fcons (ceV k_readProduct mmW0 ckX3_213 rfl mrW0 (by omega) rfl) fnil)))) [10] 7 rfl ?_
    refine Exists.intro _ (Exists.intro (k, n, m) (And.intro hm (And.intro hp ?_)))
    intro v1 S1 h1 p1 hm hf1
    have hf := hf.tr hf1
    (try dsimp only at p1)
    refine And.intro (fun b5 => ?_) (fun b5 => ?_)
    · simp only [cP, cN, bI_0, Bool.not_eq_false, lt_nle, Decidable.not_not] at b5
      obtain ⟨c, k1, hu, p1⟩ := p1.ok b5
      have hg := pProd_g hkn c k1 hu
      have hd := p1.sd hg.2.1 (by omega)
      exact loop (n + 1) c k1 _ _ (by omega) hg.2.1 (by unfold pSum; rw [hu]) hd hm hf []
    · simp only [cP, cN, bI_0, Bool.not_eq_false, lt_nle, Decidable.not_not] at b5
      obtain ⟨e, hu, p1⟩ := p1.no b5
      have hv1 := b5
      have e2 : pSum (S 8) n k = .inl e := by unfold pSum; rw [hu]
      rw [e2] at hs
      rw [hv1] at p1
      exact And.intro (hs _ _ _ p1 hm hf) rfl
theorem k_readCompared : CtS mX3_readCompared 7 (mW0 (fun (a : Nat × Nat × Nat) S => RdP S a.1 a.2.1 a.2.2) (fun (a : Nat × Nat × Nat) S v S' => RdQ (pCmp (S 8) a.2.1 a.1) S a.2.1 a.2.2 v S')) := by
  intro l G d hd as h z Q hs
  match as, hs with
  | [.ref b], hs =>
    obtain ⟨S, a, hm, hp, hs⟩ := hs
    replace hp : RdP S a.1 a.2.1 a.2.2 := hp
    replace hs : ∀ v S' h', (RdQ (pCmp (S 8) a.2.1 a.1) S a.2.1 a.2.2 v S') → IsMod G b S' h' → FrM b h h' → Q (some (.int v)) h' := hs
    have hf : FrM b h h := FrM.rf
    refine Ct.of rfl (Nat.le_of_ble_eq_true rfl) rfl ?_
    obtain ⟨k, n, m⟩ := a
    dsimp only at hp hs
    have ro := hp.2
    have hkn : k ≤ n := hp.1.2.2.2.2.1
    have hmk : m ≤ k := by have h9 := hp.1.2.2.2.2.2; simp at h9; exact h9
    refine X.w wkX3_readCompared (fcons (ceV k_emits mmV2 ckX3_200 rfl mrV2 (by omega) rfl) (fcons (ceV k_reads mmV0 ckX3_203 rfl mrV0 (by omega) rfl) (fcons (ceV k_errs mmW1 ckX3_197 rfl mrW1 (by omega) rfl) (fcons (ceV k_isSign mmR1 ckX3_210 rfl mrR1 (by omega) rfl) (fcons (ceV k_readSum mmW0 ckX3_216 rfl mrW0 (by omega) rfl) fnil))))) [] 40 rfl ?_
    refine Exists.intro _ (Exists.intro (k, n, m) (And.intro hm (And.intro hp ?_)))
    intro v1 S1 h1 p1 hm hf1
    have hf := hf.tr hf1
    (try dsimp only at p1)
    refine And.intro (fun b5 => ?_) (fun b5 => ?_)
    · simp only [cP, cN, bI_0, Bool.not_eq_false, lt_nle, Decidable.not_not] at b5
      obtain ⟨c, k1, hu, p1⟩ := p1.ok b5
      have hg := pSum_g hkn c k1 hu
      have hd := p1.sd hg.2.1 (by omega)
      have hd1 := hd
      have hkn1 := hg.2.1
      refine Exists.intro _ (Exists.intro () (And.intro hm (And.intro trivial ?_)))
      intro v13 e13
      subst e13
      refine And.intro (fun b16 => ?_) (fun b16 => ?_)
      · simp only [cP, cN, bI_0, Bool.not_eq_false, lt_nle, Decidable.not_not] at b16
        rw [hd1.sg] at b16
        have hsg : sgn (S 8) n k1 60 = true ∨ sgn (S 8) n k1 61 = true ∨ sgn (S 8) n k1 62 = true := Or.inl b16
        have hK4 : ¬ tK (S 8) n k1 = 0 := by rw [(sgn_K b16).1]; decide
        have hK5 : ¬ tK (S 8) n k1 = 1 := by rw [(sgn_K b16).1]; decide
        refine gF (by first | assumption | exact hm.obj | exact hm.arr _ rfl) ?_
        refine And.intro (fun b49 => ?_) (fun b49 => ?_)
        · simp only [cP, cN, bI_0, Bool.not_eq_false, lt_nle, Decidable.not_not] at b49
          have h60 : ¬ tV (S 8) n k1 = 60 := fun q => b49 ((hd1.val hK4 hK5).trans q)
          refine gF (by first | assumption | exact hm.obj | exact hm.arr _ rfl) ?_
          refine And.intro (fun b63 => ?_) (fun b63 => ?_)
          · simp only [cP, cN, bI_0, Bool.not_eq_false, lt_nle, Decidable.not_not] at b63
            have h61 : ¬ tV (S 8) n k1 = 61 := fun q => b63 ((hd1.val hK4 hK5).trans q)
            refine Exists.intro _ (Exists.intro (tN (S 8) n k1, n) (And.intro hm (And.intro ⟨hd.pos, (tN_adv hd.2.2.2.2.1 hK4).2, ro.fr hd.1⟩ ?_)))
            intro S75 h75 p75 hm hf75
            have hf := hf.tr hf75
            (try dsimp only at p75)
            obtain ⟨f75, rfl, hFO, hTk⟩ := p75
            have hd := hd.read hK4 hFO hTk
            have hkk := tN_adv (t := S 8) (n := n) (k := k1) hkn1 hK4
            refine Exists.intro _ (Exists.intro (tN (S 8) n k1, n, m + c.length) (And.intro hm (And.intro (hd.p ro) ?_)))
            intro v79 S79 h79 p79 hm hf79
            have hf := hf.tr hf79
            (try dsimp only at p79)
            rw [hd.1.1 8 (by decide) (by decide) (by decide)] at p79
            refine And.intro (fun b83 => ?_) (fun b83 => ?_)
            · simp only [cP, cN, bI_0, Bool.not_eq_false, lt_nle, Decidable.not_not] at b83
              obtain ⟨dd, k2, hu2, p79⟩ := p79.ok b83
              have hg2 := pSum_g hkk.2 dd k2 hu2
              obtain ⟨hv79, hd⟩ := hd.call p79 hg2.1 hg2.2.1 hg2.2.2.1
              refine Exists.intro _ (Exists.intro (m + (c ++ dd).length) (And.intro hm (And.intro ⟨hd.2.2.1, hd.lt ro⟩ ?_)))
              intro S91 h91 p91 hm hf91
              have hf := hf.tr hf91
              (try dsimp only at p91)
              subst p91
              have e2 : pCmp (S 8) n k = .inr (c ++ dd ++ [(8, 0)], k2) := by
                unfold pCmp
                rw [hu]
                dsimp only
                rw [if_pos hsg, hu2]
                dsimp only
                rw [if_neg h60, if_neg h61]
              rw [e2] at hs
              exact And.intro (hs _ _ _ ((hd.emit (o := 8) (x := 0)).q (k0 := k)) hm hf) rfl
            · simp only [cP, cN, bI_0, Bool.not_eq_false, lt_nle, Decidable.not_not] at b83
              obtain ⟨e, hu2, p79⟩ := p79.no b83
              obtain ⟨hv79, hq⟩ := hd.fail p79
              have e2 : pCmp (S 8) n k = .inl e := by
                unfold pCmp
                rw [hu]
                dsimp only
                rw [if_pos hsg, hu2]
              rw [e2] at hs
              exact And.intro (hs _ _ _ hq hm hf) rfl
          · simp only [cP, cN, bI_0, Bool.not_eq_false, lt_nle, Decidable.not_not] at b63
            have h61 : tV (S 8) n k1 = 61 := (hd1.val hK4 hK5).symm.trans b63
            refine Exists.intro _ (Exists.intro (tN (S 8) n k1, n) (And.intro hm (And.intro ⟨hd.pos, (tN_adv hd.2.2.2.2.1 hK4).2, ro.fr hd.1⟩ ?_)))
            intro S75 h75 p75 hm hf75
            have hf := hf.tr hf75
            (try dsimp only at p75)
            obtain ⟨f75, rfl, hFO, hTk⟩ := p75
            have hd := hd.read hK4 hFO hTk
            have hkk := tN_adv (t := S 8) (n := n) (k := k1) hkn1 hK4
            refine Exists.intro _ (Exists.intro (tN (S 8) n k1, n, m + c.length) (And.intro hm (And.intro (hd.p ro) ?_)))
            intro v79 S79 h79 p79 hm hf79
            have hf := hf.tr hf79
            (try dsimp only at p79)
            rw [hd.1.1 8 (by decide) (by decide) (by decide)] at p79
            refine And.intro (fun b83 => ?_) (fun b83 => ?_)
            · simp only [cP, cN, bI_0, Bool.not_eq_false, lt_nle, Decidable.not_not] at b83
              obtain ⟨dd, k2, hu2, p79⟩ := p79.ok b83
              have hg2 := pSum_g hkk.2 dd k2 hu2
              obtain ⟨hv79, hd⟩ := hd.call p79 hg2.1 hg2.2.1 hg2.2.2.1
              refine Exists.intro _ (Exists.intro (m + (c ++ dd).length) (And.intro hm (And.intro ⟨hd.2.2.1, hd.lt ro⟩ ?_)))
              intro S91 h91 p91 hm hf91
              have hf := hf.tr hf91
              (try dsimp only at p91)
              subst p91
              have e2 : pCmp (S 8) n k = .inr (c ++ dd ++ [(7, 0)], k2) := by
                unfold pCmp
                rw [hu]
                dsimp only
                rw [if_pos hsg, hu2]
                dsimp only
                rw [if_neg h60, if_pos h61]
              rw [e2] at hs
              exact And.intro (hs _ _ _ ((hd.emit (o := 7) (x := 0)).q (k0 := k)) hm hf) rfl
            · simp only [cP, cN, bI_0, Bool.not_eq_false, lt_nle, Decidable.not_not] at b83
              obtain ⟨e, hu2, p79⟩ := p79.no b83
              obtain ⟨hv79, hq⟩ := hd.fail p79
              have e2 : pCmp (S 8) n k = .inl e := by
                unfold pCmp
                rw [hu]
                dsimp only
                rw [if_pos hsg, hu2]
              rw [e2] at hs
              exact And.intro (hs _ _ _ hq hm hf) rfl
        · simp only [cP, cN, bI_0, Bool.not_eq_false, lt_nle, Decidable.not_not] at b49
          have h60 : tV (S 8) n k1 = 60 := (hd1.val hK4 hK5).symm.trans b49
          refine Exists.intro _ (Exists.intro (tN (S 8) n k1, n) (And.intro hm (And.intro ⟨hd.pos, (tN_adv hd.2.2.2.2.1 hK4).2, ro.fr hd.1⟩ ?_)))
          intro S75 h75 p75 hm hf75
          have hf := hf.tr hf75
          (try dsimp only at p75)
          obtain ⟨f75, rfl, hFO, hTk⟩ := p75
          have hd := hd.read hK4 hFO hTk
          have hkk := tN_adv (t := S 8) (n := n) (k := k1) hkn1 hK4
          refine Exists.intro _ (Exists.intro (tN (S 8) n k1, n, m + c.length) (And.intro hm (And.intro (hd.p ro) ?_)))
          intro v79 S79 h79 p79 hm hf79
          have hf := hf.tr hf79
          (try dsimp only at p79)
          rw [hd.1.1 8 (by decide) (by decide) (by decide)] at p79
          refine And.intro (fun b83 => ?_) (fun b83 => ?_)
          · simp only [cP, cN, bI_0, Bool.not_eq_false, lt_nle, Decidable.not_not] at b83
            obtain ⟨dd, k2, hu2, p79⟩ := p79.ok b83
            have hg2 := pSum_g hkk.2 dd k2 hu2
            obtain ⟨hv79, hd⟩ := hd.call p79 hg2.1 hg2.2.1 hg2.2.2.1
            refine Exists.intro _ (Exists.intro (m + (c ++ dd).length) (And.intro hm (And.intro ⟨hd.2.2.1, hd.lt ro⟩ ?_)))
            intro S91 h91 p91 hm hf91
            have hf := hf.tr hf91
            (try dsimp only at p91)
            subst p91
            have e2 : pCmp (S 8) n k = .inr (c ++ dd ++ [(6, 0)], k2) := by
              unfold pCmp
              rw [hu]
              dsimp only
              rw [if_pos hsg, hu2]
              dsimp only
              rw [if_pos h60]
            rw [e2] at hs
            exact And.intro (hs _ _ _ ((hd.emit (o := 6) (x := 0)).q (k0 := k)) hm hf) rfl
          · simp only [cP, cN, bI_0, Bool.not_eq_false, lt_nle, Decidable.not_not] at b83
            obtain ⟨e, hu2, p79⟩ := p79.no b83
            obtain ⟨hv79, hq⟩ := hd.fail p79
            have e2 : pCmp (S 8) n k = .inl e := by
              unfold pCmp
              rw [hu]
              dsimp only
              rw [if_pos hsg, hu2]
            rw [e2] at hs
            exact And.intro (hs _ _ _ hq hm hf) rfl
      · simp only [cP, cN, bI_0, Bool.not_eq_false, lt_nle, Decidable.not_not] at b16
        rw [hd1.sg] at b16
        refine Exists.intro _ (Exists.intro () (And.intro hm (And.intro trivial ?_)))
        intro v22 e22
        subst e22
        refine And.intro (fun b25 => ?_) (fun b25 => ?_)
        · simp only [cP, cN, bI_0, Bool.not_eq_false, lt_nle, Decidable.not_not] at b25
          rw [hd1.sg] at b25
          have hsg : sgn (S 8) n k1 60 = true ∨ sgn (S 8) n k1 61 = true ∨ sgn (S 8) n k1 62 = true := Or.inr (Or.inl b25)
          have hK4 : ¬ tK (S 8) n k1 = 0 := by rw [(sgn_K b25).1]; decide
          have hK5 : ¬ tK (S 8) n k1 = 1 := by rw [(sgn_K b25).1]; decide
          refine gF (by first | assumption | exact hm.obj | exact hm.arr _ rfl) ?_
          refine And.intro (fun b49 => ?_) (fun b49 => ?_)
          · simp only [cP, cN, bI_0, Bool.not_eq_false, lt_nle, Decidable.not_not] at b49
            have h60 : ¬ tV (S 8) n k1 = 60 := fun q => b49 ((hd1.val hK4 hK5).trans q)
            refine gF (by first | assumption | exact hm.obj | exact hm.arr _ rfl) ?_
            refine And.intro (fun b63 => ?_) (fun b63 => ?_)
            · simp only [cP, cN, bI_0, Bool.not_eq_false, lt_nle, Decidable.not_not] at b63
              have h61 : ¬ tV (S 8) n k1 = 61 := fun q => b63 ((hd1.val hK4 hK5).trans q)
              refine Exists.intro _ (Exists.intro (tN (S 8) n k1, n) (And.intro hm (And.intro ⟨hd.pos, (tN_adv hd.2.2.2.2.1 hK4).2, ro.fr hd.1⟩ ?_)))
              intro S75 h75 p75 hm hf75
              have hf := hf.tr hf75
              (try dsimp only at p75)
              obtain ⟨f75, rfl, hFO, hTk⟩ := p75
              have hd := hd.read hK4 hFO hTk
              have hkk := tN_adv (t := S 8) (n := n) (k := k1) hkn1 hK4
              refine Exists.intro _ (Exists.intro (tN (S 8) n k1, n, m + c.length) (And.intro hm (And.intro (hd.p ro) ?_)))
              intro v79 S79 h79 p79 hm hf79
              have hf := hf.tr hf79
              (try dsimp only at p79)
              rw [hd.1.1 8 (by decide) (by decide) (by decide)] at p79
              refine And.intro (fun b83 => ?_) (fun b83 => ?_)
              · simp only [cP, cN, bI_0, Bool.not_eq_false, lt_nle, Decidable.not_not] at b83
                obtain ⟨dd, k2, hu2, p79⟩ := p79.ok b83
                have hg2 := pSum_g hkk.2 dd k2 hu2
                obtain ⟨hv79, hd⟩ := hd.call p79 hg2.1 hg2.2.1 hg2.2.2.1
                refine Exists.intro _ (Exists.intro (m + (c ++ dd).length) (And.intro hm (And.intro ⟨hd.2.2.1, hd.lt ro⟩ ?_)))
                intro S91 h91 p91 hm hf91
                have hf := hf.tr hf91
                (try dsimp only at p91)
                subst p91
                have e2 : pCmp (S 8) n k = .inr (c ++ dd ++ [(8, 0)], k2) := by
                  unfold pCmp
                  rw [hu]
                  dsimp only
                  rw [if_pos hsg, hu2]
                  dsimp only
                  rw [if_neg h60, if_neg h61]
                rw [e2] at hs
                exact And.intro (hs _ _ _ ((hd.emit (o := 8) (x := 0)).q (k0 := k)) hm hf) rfl
              · simp only [cP, cN, bI_0, Bool.not_eq_false, lt_nle, Decidable.not_not] at b83
                obtain ⟨e, hu2, p79⟩ := p79.no b83
                obtain ⟨hv79, hq⟩ := hd.fail p79
                have e2 : pCmp (S 8) n k = .inl e := by
                  unfold pCmp
                  rw [hu]
                  dsimp only
                  rw [if_pos hsg, hu2]
                rw [e2] at hs
                exact And.intro (hs _ _ _ hq hm hf) rfl
            · simp only [cP, cN, bI_0, Bool.not_eq_false, lt_nle, Decidable.not_not] at b63
              have h61 : tV (S 8) n k1 = 61 := (hd1.val hK4 hK5).symm.trans b63
              refine Exists.intro _ (Exists.intro (tN (S 8) n k1, n) (And.intro hm (And.intro ⟨hd.pos, (tN_adv hd.2.2.2.2.1 hK4).2, ro.fr hd.1⟩ ?_)))
              intro S75 h75 p75 hm hf75
              have hf := hf.tr hf75
              (try dsimp only at p75)
              obtain ⟨f75, rfl, hFO, hTk⟩ := p75
              have hd := hd.read hK4 hFO hTk
              have hkk := tN_adv (t := S 8) (n := n) (k := k1) hkn1 hK4
              refine Exists.intro _ (Exists.intro (tN (S 8) n k1, n, m + c.length) (And.intro hm (And.intro (hd.p ro) ?_)))
              intro v79 S79 h79 p79 hm hf79
              have hf := hf.tr hf79
              (try dsimp only at p79)
              rw [hd.1.1 8 (by decide) (by decide) (by decide)] at p79
              refine And.intro (fun b83 => ?_) (fun b83 => ?_)
              · simp only [cP, cN, bI_0, Bool.not_eq_false, lt_nle, Decidable.not_not] at b83
                obtain ⟨dd, k2, hu2, p79⟩ := p79.ok b83
                have hg2 := pSum_g hkk.2 dd k2 hu2
                obtain ⟨hv79, hd⟩ := hd.call p79 hg2.1 hg2.2.1 hg2.2.2.1
                refine Exists.intro _ (Exists.intro (m + (c ++ dd).length) (And.intro hm (And.intro ⟨hd.2.2.1, hd.lt ro⟩ ?_)))
                intro S91 h91 p91 hm hf91
                have hf := hf.tr hf91
                (try dsimp only at p91)
                subst p91
                have e2 : pCmp (S 8) n k = .inr (c ++ dd ++ [(7, 0)], k2) := by
                  unfold pCmp
                  rw [hu]
                  dsimp only
                  rw [if_pos hsg, hu2]
                  dsimp only
                  rw [if_neg h60, if_pos h61]
                rw [e2] at hs
                exact And.intro (hs _ _ _ ((hd.emit (o := 7) (x := 0)).q (k0 := k)) hm hf) rfl
              · simp only [cP, cN, bI_0, Bool.not_eq_false, lt_nle, Decidable.not_not] at b83
                obtain ⟨e, hu2, p79⟩ := p79.no b83
                obtain ⟨hv79, hq⟩ := hd.fail p79
                have e2 : pCmp (S 8) n k = .inl e := by
                  unfold pCmp
                  rw [hu]
                  dsimp only
                  rw [if_pos hsg, hu2]
                rw [e2] at hs
                exact And.intro (hs _ _ _ hq hm hf) rfl
          · simp only [cP, cN, bI_0, Bool.not_eq_false, lt_nle, Decidable.not_not] at b49
            have h60 : tV (S 8) n k1 = 60 := (hd1.val hK4 hK5).symm.trans b49
            refine Exists.intro _ (Exists.intro (tN (S 8) n k1, n) (And.intro hm (And.intro ⟨hd.pos, (tN_adv hd.2.2.2.2.1 hK4).2, ro.fr hd.1⟩ ?_)))
            intro S75 h75 p75 hm hf75
            have hf := hf.tr hf75
            (try dsimp only at p75)
            obtain ⟨f75, rfl, hFO, hTk⟩ := p75
            have hd := hd.read hK4 hFO hTk
            have hkk := tN_adv (t := S 8) (n := n) (k := k1) hkn1 hK4
            refine Exists.intro _ (Exists.intro (tN (S 8) n k1, n, m + c.length) (And.intro hm (And.intro (hd.p ro) ?_)))
            intro v79 S79 h79 p79 hm hf79
            have hf := hf.tr hf79
            (try dsimp only at p79)
            rw [hd.1.1 8 (by decide) (by decide) (by decide)] at p79
            refine And.intro (fun b83 => ?_) (fun b83 => ?_)
            · simp only [cP, cN, bI_0, Bool.not_eq_false, lt_nle, Decidable.not_not] at b83
              obtain ⟨dd, k2, hu2, p79⟩ := p79.ok b83
              have hg2 := pSum_g hkk.2 dd k2 hu2
              obtain ⟨hv79, hd⟩ := hd.call p79 hg2.1 hg2.2.1 hg2.2.2.1
              refine Exists.intro _ (Exists.intro (m + (c ++ dd).length) (And.intro hm (And.intro ⟨hd.2.2.1, hd.lt ro⟩ ?_)))
              intro S91 h91 p91 hm hf91
              have hf := hf.tr hf91
              (try dsimp only at p91)
              subst p91
              have e2 : pCmp (S 8) n k = .inr (c ++ dd ++ [(6, 0)], k2) := by
                unfold pCmp
                rw [hu]
                dsimp only
                rw [if_pos hsg, hu2]
                dsimp only
                rw [if_pos h60]
              rw [e2] at hs
              exact And.intro (hs _ _ _ ((hd.emit (o := 6) (x := 0)).q (k0 := k)) hm hf) rfl
            · simp only [cP, cN, bI_0, Bool.not_eq_false, lt_nle, Decidable.not_not] at b83
              obtain ⟨e, hu2, p79⟩ := p79.no b83
              obtain ⟨hv79, hq⟩ := hd.fail p79
              have e2 : pCmp (S 8) n k = .inl e := by
                unfold pCmp
                rw [hu]
                dsimp only
                rw [if_pos hsg, hu2]
              rw [e2] at hs
              exact And.intro (hs _ _ _ hq hm hf) rfl
        · simp only [cP, cN, bI_0, Bool.not_eq_false, lt_nle, Decidable.not_not] at b25
          rw [hd1.sg] at b25
          refine Exists.intro _ (Exists.intro () (And.intro hm (And.intro trivial ?_)))
          intro v31 e31
          subst e31
          refine And.intro (fun b34 => ?_) (fun b34 => ?_)
          · simp only [cP, cN, bI_0, Bool.not_eq_false, lt_nle, Decidable.not_not] at b34
            rw [hd1.sg] at b34
            have hsg : sgn (S 8) n k1 60 = true ∨ sgn (S 8) n k1 61 = true ∨ sgn (S 8) n k1 62 = true := Or.inr (Or.inr b34)
            have hK4 : ¬ tK (S 8) n k1 = 0 := by rw [(sgn_K b34).1]; decide
            have hK5 : ¬ tK (S 8) n k1 = 1 := by rw [(sgn_K b34).1]; decide
            refine gF (by first | assumption | exact hm.obj | exact hm.arr _ rfl) ?_
            refine And.intro (fun b49 => ?_) (fun b49 => ?_)
            · simp only [cP, cN, bI_0, Bool.not_eq_false, lt_nle, Decidable.not_not] at b49
              have h60 : ¬ tV (S 8) n k1 = 60 := fun q => b49 ((hd1.val hK4 hK5).trans q)
              refine gF (by first | assumption | exact hm.obj | exact hm.arr _ rfl) ?_
              refine And.intro (fun b63 => ?_) (fun b63 => ?_)
              · simp only [cP, cN, bI_0, Bool.not_eq_false, lt_nle, Decidable.not_not] at b63
                have h61 : ¬ tV (S 8) n k1 = 61 := fun q => b63 ((hd1.val hK4 hK5).trans q)
                refine Exists.intro _ (Exists.intro (tN (S 8) n k1, n) (And.intro hm (And.intro ⟨hd.pos, (tN_adv hd.2.2.2.2.1 hK4).2, ro.fr hd.1⟩ ?_)))
                intro S75 h75 p75 hm hf75
                have hf := hf.tr hf75
                (try dsimp only at p75)
                obtain ⟨f75, rfl, hFO, hTk⟩ := p75
                have hd := hd.read hK4 hFO hTk
                have hkk := tN_adv (t := S 8) (n := n) (k := k1) hkn1 hK4
                refine Exists.intro _ (Exists.intro (tN (S 8) n k1, n, m + c.length) (And.intro hm (And.intro (hd.p ro) ?_)))
                intro v79 S79 h79 p79 hm hf79
                have hf := hf.tr hf79
                (try dsimp only at p79)
                rw [hd.1.1 8 (by decide) (by decide) (by decide)] at p79
                refine And.intro (fun b83 => ?_) (fun b83 => ?_)
                · simp only [cP, cN, bI_0, Bool.not_eq_false, lt_nle, Decidable.not_not] at b83
                  obtain ⟨dd, k2, hu2, p79⟩ := p79.ok b83
                  have hg2 := pSum_g hkk.2 dd k2 hu2
                  obtain ⟨hv79, hd⟩ := hd.call p79 hg2.1 hg2.2.1 hg2.2.2.1
                  refine Exists.intro _ (Exists.intro (m + (c ++ dd).length) (And.intro hm (And.intro ⟨hd.2.2.1, hd.lt ro⟩ ?_)))
                  intro S91 h91 p91 hm hf91
                  have hf := hf.tr hf91
                  (try dsimp only at p91)
                  subst p91
                  have e2 : pCmp (S 8) n k = .inr (c ++ dd ++ [(8, 0)], k2) := by
                    unfold pCmp
                    rw [hu]
                    dsimp only
                    rw [if_pos hsg, hu2]
                    dsimp only
                    rw [if_neg h60, if_neg h61]
                  rw [e2] at hs
                  exact And.intro (hs _ _ _ ((hd.emit (o := 8) (x := 0)).q (k0 := k)) hm hf) rfl
                · simp only [cP, cN, bI_0, Bool.not_eq_false, lt_nle, Decidable.not_not] at b83
                  obtain ⟨e, hu2, p79⟩ := p79.no b83
                  obtain ⟨hv79, hq⟩ := hd.fail p79
                  have e2 : pCmp (S 8) n k = .inl e := by
                    unfold pCmp
                    rw [hu]
                    dsimp only
                    rw [if_pos hsg, hu2]
                  rw [e2] at hs
                  exact And.intro (hs _ _ _ hq hm hf) rfl
              · simp only [cP, cN, bI_0, Bool.not_eq_false, lt_nle, Decidable.not_not] at b63
                have h61 : tV (S 8) n k1 = 61 := (hd1.val hK4 hK5).symm.trans b63
                refine Exists.intro _ (Exists.intro (tN (S 8) n k1, n) (And.intro hm (And.intro ⟨hd.pos, (tN_adv hd.2.2.2.2.1 hK4).2, ro.fr hd.1⟩ ?_)))
                intro S75 h75 p75 hm hf75
                have hf := hf.tr hf75
                (try dsimp only at p75)
                obtain ⟨f75, rfl, hFO, hTk⟩ := p75
                have hd := hd.read hK4 hFO hTk
                have hkk := tN_adv (t := S 8) (n := n) (k := k1) hkn1 hK4
                refine Exists.intro _ (Exists.intro (tN (S 8) n k1, n, m + c.length) (And.intro hm (And.intro (hd.p ro) ?_)))
                intro v79 S79 h79 p79 hm hf79
                have hf := hf.tr hf79
                (try dsimp only at p79)
                rw [hd.1.1 8 (by decide) (by decide) (by decide)] at p79
                refine And.intro (fun b83 => ?_) (fun b83 => ?_)
                · simp only [cP, cN, bI_0, Bool.not_eq_false, lt_nle, Decidable.not_not] at b83
                  obtain ⟨dd, k2, hu2, p79⟩ := p79.ok b83
                  have hg2 := pSum_g hkk.2 dd k2 hu2
                  obtain ⟨hv79, hd⟩ := hd.call p79 hg2.1 hg2.2.1 hg2.2.2.1
                  refine Exists.intro _ (Exists.intro (m + (c ++ dd).length) (And.intro hm (And.intro ⟨hd.2.2.1, hd.lt ro⟩ ?_)))
                  intro S91 h91 p91 hm hf91
                  have hf := hf.tr hf91
                  (try dsimp only at p91)
                  subst p91
                  have e2 : pCmp (S 8) n k = .inr (c ++ dd ++ [(7, 0)], k2) := by
                    unfold pCmp
                    rw [hu]
                    dsimp only
                    rw [if_pos hsg, hu2]
                    dsimp only
                    rw [if_neg h60, if_pos h61]
                  rw [e2] at hs
                  exact And.intro (hs _ _ _ ((hd.emit (o := 7) (x := 0)).q (k0 := k)) hm hf) rfl
                · simp only [cP, cN, bI_0, Bool.not_eq_false, lt_nle, Decidable.not_not] at b83
                  obtain ⟨e, hu2, p79⟩ := p79.no b83
                  obtain ⟨hv79, hq⟩ := hd.fail p79
                  have e2 : pCmp (S 8) n k = .inl e := by
                    unfold pCmp
                    rw [hu]
                    dsimp only
                    rw [if_pos hsg, hu2]
                  rw [e2] at hs
                  exact And.intro (hs _ _ _ hq hm hf) rfl
            · simp only [cP, cN, bI_0, Bool.not_eq_false, lt_nle, Decidable.not_not] at b49
              have h60 : tV (S 8) n k1 = 60 := (hd1.val hK4 hK5).symm.trans b49
              refine Exists.intro _ (Exists.intro (tN (S 8) n k1, n) (And.intro hm (And.intro ⟨hd.pos, (tN_adv hd.2.2.2.2.1 hK4).2, ro.fr hd.1⟩ ?_)))
              intro S75 h75 p75 hm hf75
              have hf := hf.tr hf75
              (try dsimp only at p75)
              obtain ⟨f75, rfl, hFO, hTk⟩ := p75
              have hd := hd.read hK4 hFO hTk
              have hkk := tN_adv (t := S 8) (n := n) (k := k1) hkn1 hK4
              refine Exists.intro _ (Exists.intro (tN (S 8) n k1, n, m + c.length) (And.intro hm (And.intro (hd.p ro) ?_)))
              intro v79 S79 h79 p79 hm hf79
              have hf := hf.tr hf79
              (try dsimp only at p79)
              rw [hd.1.1 8 (by decide) (by decide) (by decide)] at p79
              refine And.intro (fun b83 => ?_) (fun b83 => ?_)
              · simp only [cP, cN, bI_0, Bool.not_eq_false, lt_nle, Decidable.not_not] at b83
                obtain ⟨dd, k2, hu2, p79⟩ := p79.ok b83
                have hg2 := pSum_g hkk.2 dd k2 hu2
                obtain ⟨hv79, hd⟩ := hd.call p79 hg2.1 hg2.2.1 hg2.2.2.1
                refine Exists.intro _ (Exists.intro (m + (c ++ dd).length) (And.intro hm (And.intro ⟨hd.2.2.1, hd.lt ro⟩ ?_)))
                intro S91 h91 p91 hm hf91
                have hf := hf.tr hf91
                (try dsimp only at p91)
                subst p91
                have e2 : pCmp (S 8) n k = .inr (c ++ dd ++ [(6, 0)], k2) := by
                  unfold pCmp
                  rw [hu]
                  dsimp only
                  rw [if_pos hsg, hu2]
                  dsimp only
                  rw [if_pos h60]
                rw [e2] at hs
                exact And.intro (hs _ _ _ ((hd.emit (o := 6) (x := 0)).q (k0 := k)) hm hf) rfl
              · simp only [cP, cN, bI_0, Bool.not_eq_false, lt_nle, Decidable.not_not] at b83
                obtain ⟨e, hu2, p79⟩ := p79.no b83
                obtain ⟨hv79, hq⟩ := hd.fail p79
                have e2 : pCmp (S 8) n k = .inl e := by
                  unfold pCmp
                  rw [hu]
                  dsimp only
                  rw [if_pos hsg, hu2]
                rw [e2] at hs
                exact And.intro (hs _ _ _ hq hm hf) rfl
          · simp only [cP, cN, bI_0, Bool.not_eq_false, lt_nle, Decidable.not_not] at b34
            rw [hd1.sg] at b34
            refine Exists.intro _ (Exists.intro () (And.intro hm (And.intro trivial ?_)))
            intro v39 S39 h39 p39 hm hf39
            have hf := hf.tr hf39
            (try dsimp only at p39)
            obtain ⟨rfl, rfl⟩ := p39
            have e2 : pCmp (S 8) n k = .inl (1, tS (S 8) n k1) := by
              unfold pCmp
              rw [hu]
              dsimp only
              rw [if_neg (fun q => q.elim (fun q => absurd (b16.symm.trans q) (by decide)) (fun q => q.elim (fun q => absurd (b25.symm.trans q) (by decide)) (fun q => absurd (b34.symm.trans q) (by decide))))]
            rw [e2] at hs
            exact And.intro (hs _ _ _ hd1.err hm hf) rfl
    · simp only [cP, cN, bI_0, Bool.not_eq_false, lt_nle, Decidable.not_not] at b5
      obtain ⟨e, hu, p1⟩ := p1.no b5
      have hv1 := b5
      have e2 : pCmp (S 8) n k = .inl e := by unfold pCmp; rw [hu]
      rw [e2] at hs
      rw [hv1] at p1
      exact And.intro (hs _ _ _ p1 hm hf) rfl
