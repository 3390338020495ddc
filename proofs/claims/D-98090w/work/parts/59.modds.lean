set_option maxRecDepth 100000
/-! odds, engaged, went, sizes in the model -/
def wayL (N : Int32) : Nat → Nat → Int32 → Int32
  | 0, _, v => v
  | f + 1, i, v => if v ≤ 0 then v else wayL N f (i + 1) (v * (N - nI i) / (nI i + 1))
def waysM (N : Int32) (k : Nat) : Int32 := wayL N k 0 (if nI k ≤ N then 1 else 0)
theorem nI1_ne {c : Nat} (h : c < 1000) : ¬ nI c + 1 = 0 := by
  rw [nI_1]
  exact nI_ne0 (by omega) (by omega)
theorem k_waysOf : CtS mX3_waysOf 1 (mR2 (fun (a : Nat) u w S => w = nI a ∧ a ≤ 4) (fun (a : Nat) u w S => waysM u a)) := by
  intro l G d hd as h z Q hs
  match as, hs with
  | [.ref b, .int u, .int w], hs =>
    obtain ⟨S, a, hm, hp, hs⟩ := hs
    replace hp : w = nI a ∧ a ≤ 4 := hp
    replace hs : ∀ r9, r9 = waysM u a → Q (some (.int r9)) h := hs
    have hf : FrM b h h := FrM.rf
    refine Ct.of rfl (Nat.le_of_ble_eq_true rfl) rfl ?_
    obtain ⟨rfl, ha⟩ := hp
    have loop : ∀ (n c : Nat) (i : Int32) (v : Int32), c + n = a → i = nI c → (wayL u n c v = waysM u a) → X l G mX3_waysOf (rmK d 0 0) (TGm G (fun v h' z' => Q v h' ∧ z' = z) 0 0) 0 0 14 [(0, .ref b), (1, .int u), (2, .int (nI a)), (3, .int v), (4, .int i)] [] h z := by
      intro  n
      induction n using Nat.strongRecOn with
      | _ n ih =>
      intro c i v  hc hi hv
      subst hi
      refine X.w wkX3_waysOf fnil [14] 19 rfl ?_
      refine And.intro (fun b17 => ?_) (fun b17 => ?_)
      · simp only [cP, cN, bI_0, Bool.not_eq_false, lt_nle, Decidable.not_not] at b17
        have hc2 : a ≤ c := (le64 (by omega) (by omega)).mp b17
        obtain rfl : n = 0 := by omega
        exact And.intro (hs _ hv) rfl
      · simp only [cP, cN, bI_0, Bool.not_eq_false, lt_nle, Decidable.not_not] at b17
        have hc2 : c < a := nle64 b17 (by omega) (by omega)
        obtain ⟨n, rfl⟩ : ∃ k, n = k + 1 := ⟨n - 1, by omega⟩
        refine And.intro (fun b21 => ?_) (fun b21 => ?_)
        · simp only [cP, cN, bI_0, Bool.not_eq_false, lt_nle, Decidable.not_not] at b21
          exact And.intro (hs _ (by rw [← hv, wayL, if_pos b21])) rfl
        · simp only [cP, cN, bI_0, Bool.not_eq_false, lt_nle, Decidable.not_not] at b21
          refine And.intro (nI1_ne (by omega)) ?_
          refine ih n (by omega) (c + 1) _ _ (by omega) (nI_1 c) ?_
          rw [← hv, wayL, if_neg b21]
    refine X.w wkX3_waysOf fnil [14] 10 rfl ?_
    refine And.intro (fun b2 => ?_) (fun b2 => ?_)
    · simp only [cP, cN, bI_0, Bool.not_eq_false, lt_nle, Decidable.not_not] at b2
      exact loop a 0 _ _ (by omega) rfl (by unfold waysM; rw [if_pos b2])
    · simp only [cP, cN, bI_0, Bool.not_eq_false, lt_nle, Decidable.not_not] at b2
      exact loop a 0 _ _ (by omega) rfl (by unfold waysM; rw [if_neg b2])
def godM (S : SS) (ce0 r : Int32) (c : Nat) : Bool := craM S ce0 r c && decide (S 5 (gN (S 1 c - 1)) = 0)
def allN (S : SS) (ce0 r : Int32) : Nat := cntP (craM S ce0 r) 64 0
def godN (S : SS) (ce0 r : Int32) : Nat := cntP (godM S ce0 r) 64 0
theorem cnt_fold (p : Nat → Bool) : foldN p (fun _ x => x + 1) 0 64 = nI (cntP p 64 0) := by
  have h := fold_cnt p 64 0
  rw [show (0 : Nat) + 64 = 64 from rfl] at h
  rw [h]
  show 0 + _ = _
  simp
theorem ways_ge : ∀ n, n < 65 → ∀ k, k < 5 → 0 ≤ waysM (nI n) k ∧ (k ≤ n → ¬ waysM (nI n) k = 0) := by decide +kernel
def oddP (x y w : Int32) : Int32 := if w = 0 then x / nI (Nat.gcd (gN x) (gN y)) else y / nI (Nat.gcd (gN x) (gN y))
def oddM (S : SS) (ce0 r n w : Int32) : Int32 := if arM S ce0 r = true ∧ isInB n 1 4 = true ∧ isInB w 0 1 = true then (if nI (allN S ce0 r) < n then -1 else oddP (waysM (nI (godN S ce0 r)) (gN n)) (waysM (nI (allN S ce0 r)) (gN n)) w) else -1
def wdP4 (S : SS) (_ _ _ _ : Int32) : Prop := wdM S
theorem k_odds : CtS mX3_odds 4 (mW4 (fun (a : Unit) ce0 r n0 w S => wdP4 S ce0 r n0 w) (fun (a : Unit) ce0 r n0 w S v S' => v = oddM (tl S) ce0 r n0 w ∧ S' = tl S)) := by
  intro l G d hd as h z Q hs
  match as, hs with
  | [.ref b, .int ce0, .int r, .int n0, .int w], hs =>
    obtain ⟨S, a, hm, hp, hs⟩ := hs
    replace hp : wdP4 S ce0 r n0 w := hp
    replace hs : ∀ v S' h', (v = oddM (tl S) ce0 r n0 w ∧ S' = tl S) → IsMod G b S' h' → FrM b h h' → Q (some (.int v)) h' := hs
    have hf : FrM b h h := FrM.rf
    refine Ct.of rfl (Nat.le_of_ble_eq_true rfl) rfl ?_
    refine X.w wkX3_odds (fcons (ceV k_waysOf mmR2 ckX3_304 rfl mrR2 (by omega) rfl) (fcons (ceV k_isCapAround mmR3 ckX3_301 rfl mrR3 (by omega) rfl) (fcons (ceV k_isIn mmR3 ckX3_107 rfl mrR3 (by omega) rfl) (fcons (ceV k_isAround mmR2 ckX3_297 rfl mrR2 (by omega) rfl) fnil)))) [5] 5 rfl ?_
    refine pF0 (okV_W rfl) (by first | assumption | exact hm.obj | exact hm.arr _ rfl) (Nat.le_of_ble_eq_true rfl) (by first | exact hm.N | exact hm.No _) ?_
    intro h2 e2
    have hm := hm.u0 e2 rfl; have hf := hf.u0 e2
    replace hm : IsMod G b (tl S) h2 := hm
    replace hp : wdP4 (tl S) ce0 r n0 w := hp
    generalize tl S = S at hm hs hp
    replace hs : ∀ v h', v = oddM S ce0 r n0 w → IsMod G b S h' → FrM b h h' → Q (some (.int v)) h' := fun v h' e => hs v S h' ⟨e, rfl⟩
    have fin : ∀ (A B X1 Y1 : Nat) (x5 x6 : Int32), A < 2 ^ 31 → B < 2 ^ 31 → X1 < 2 ^ 31 → Y1 < 2 ^ 31 → 0 < B → Nat.gcd X1 Y1 = Nat.gcd A B → oddP (nI A) (nI B) w = oddM S ce0 r n0 w → ∀ J : LL, X l G mX3_odds (rmK d 0 0) (TGm G (fun v h' z' => Q v h' ∧ z' = z) 0 0) 0 0 138 ([(0, .ref b), (1, .int ce0), (2, .int r), (3, .int n0), (4, .int w), (5, .int x5), (6, .int x6), (7, .int (nI A)), (8, .int (nI B)), (9, .int (nI X1)), (10, .int (nI Y1))] ++ J) [] h2 z := by
      intro A B X1 Y1 x5 x6 hA hB hX hY hB0 hg ho
      induction Y1 using Nat.strongRecOn generalizing X1 with
      | _ Y1 ih =>
      intro J
      refine X.cut _ J rfl ?_
      have hg0 : 0 < Nat.gcd A B := Nat.gcd_pos_of_pos_right A hB0
      have hga : Nat.gcd (gN (nI A)) (gN (nI B)) = Nat.gcd A B := by rw [gN_nI hA, gN_nI hB]
      refine X.w wkX3_odds (fcons (ceV k_waysOf mmR2 ckX3_304 rfl mrR2 (by omega) rfl) (fcons (ceV k_isCapAround mmR3 ckX3_301 rfl mrR3 (by omega) rfl) (fcons (ceV k_isIn mmR3 ckX3_107 rfl mrR3 (by omega) rfl) (fcons (ceV k_isAround mmR2 ckX3_297 rfl mrR2 (by omega) rfl) fnil)))) [138] 13 rfl ?_
      refine And.intro (fun b140 => ?_) (fun b140 => ?_)
      · simp only [cP, cN, bI_0, Bool.not_eq_false, lt_nle, Decidable.not_not] at b140
        have hY0 : Y1 = 0 := (nI_eq hY (by decide)).mp b140
        have hX0 : nI X1 = nI (Nat.gcd A B) := by rw [← hg, hY0, Nat.gcd_zero_right]
        have hgX : Nat.gcd A B < 2 ^ 31 := by rw [← hg, hY0, Nat.gcd_zero_right]; exact hX
        refine And.intro (fun b163 => ?_) (fun b163 => ?_)
        · simp only [cP, cN, bI_0, Bool.not_eq_false, lt_nle, Decidable.not_not] at b163
          refine And.intro (by rw [hX0]; exact nI_ne0 hg0 (by omega)) ?_
          exact And.intro (hs _ _ (by rw [← ho]; unfold oddP; rw [if_neg b163, hga, hX0]) hm hf) rfl
        · simp only [cP, cN, bI_0, Bool.not_eq_false, lt_nle, Decidable.not_not] at b163
          refine And.intro (by rw [hX0]; exact nI_ne0 hg0 (by omega)) ?_
          exact And.intro (hs _ _ (by rw [← ho]; unfold oddP; rw [if_pos b163, hga, hX0]) hm hf) rfl
      · simp only [cP, cN, bI_0, Bool.not_eq_false, lt_nle, Decidable.not_not] at b140
        have hY0 : 0 < Y1 := by
          rcases Nat.eq_zero_or_pos Y1 with e | e
          · rw [e] at b140; exact absurd rfl b140
          · exact e
        refine And.intro b140 ?_
        have h9 := ih (X1 % Y1) (Nat.mod_lt _ hY0) Y1 hY (by have := Nat.mod_lt X1 hY0; omega) (by rw [← hg, Nat.gcd_comm Y1, ← Nat.gcd_rec, Nat.gcd_comm]) [(11, .int (nI (X1 % Y1)))]
        rw [pk_rem hX hY0 hY]
        exact h9
    have loop : ∀ (n c : Nat) (i : Int32) (x y : Int32), c + n = 64 → i = nI c → (arM S ce0 r = true) → (isInB n0 1 4 = true) → (isInB w 0 1 = true) → (x = foldN (craM S ce0 r) (fun _ x => x + 1) 0 c) → (y = foldN (godM S ce0 r) (fun _ x => x + 1) 0 c) → X l G mX3_odds (rmK d 0 0) (TGm G (fun v h' z' => Q v h' ∧ z' = z) 0 0) 0 0 46 [(0, .ref b), (1, .int ce0), (2, .int r), (3, .int n0), (4, .int w), (5, .int x), (6, .int y), (7, .int i)] [] h2 z := by
      intro  n
      induction n using Nat.strongRecOn with
      | _ n ih =>
      intro c i x y  hc hi h1 h3 h4 hx hy
      subst hi
      refine X.w wkX3_odds (fcons (ceV k_waysOf mmR2 ckX3_304 rfl mrR2 (by omega) rfl) (fcons (ceV k_isCapAround mmR3 ckX3_301 rfl mrR3 (by omega) rfl) (fcons (ceV k_isIn mmR3 ckX3_107 rfl mrR3 (by omega) rfl) (fcons (ceV k_isAround mmR2 ckX3_297 rfl mrR2 (by omega) rfl) fnil)))) [46, 112] 33 rfl ?_
      refine And.intro (fun b50 => ?_) (fun b50 => ?_)
      · simp only [cP, cN, bI_0, Bool.not_eq_false, lt_nle, Decidable.not_not] at b50
        have hc2 : 64 ≤ c := (le64 (by omega) (by omega)).mp b50
        obtain rfl : c = 64 := by omega
        refine And.intro (fun b107 => ?_) (fun b107 => ?_)
        · simp only [cP, cN, bI_0, Bool.not_eq_false, lt_nle, Decidable.not_not] at b107
          rw [cnt_fold] at hx hy
          obtain ⟨k, hk1, hk4, rfl⟩ := isInB_nI (a := 1) (b := 4) (by decide) h3 (by decide)
          have hA := cntP_le (craM S ce0 r) 64 0
          have hG := cntP_le (godM S ce0 r) 64 0
          refine X.w wkX3_odds (fcons (ceV k_waysOf mmR2 ckX3_304 rfl mrR2 (by omega) rfl) (fcons (ceV k_isCapAround mmR3 ckX3_301 rfl mrR3 (by omega) rfl) (fcons (ceV k_isIn mmR3 ckX3_107 rfl mrR3 (by omega) rfl) (fcons (ceV k_isAround mmR2 ckX3_297 rfl mrR2 (by omega) rfl) fnil)))) [138] 16 rfl ?_
          refine Exists.intro _ (Exists.intro k (And.intro hm (And.intro ⟨rfl, hk4⟩ ?_)))
          intro v116 e116
          (try dsimp only at e116)
          refine Exists.intro _ (Exists.intro k (And.intro hm (And.intro ⟨rfl, hk4⟩ ?_)))
          intro v125 e125
          (try dsimp only at e125)
          rw [hy] at e116
          rw [hx] at e125 b107
          have hkA : k ≤ allN S ce0 r := (nI_leI (by omega) (by unfold allN; omega)).mp b107
          have w1 := (ways_ge (godN S ce0 r) (by unfold godN; omega) k (by omega)).1
          have w2 := ways_ge (allN S ce0 r) (by unfold allN; omega) k (by omega)
          obtain ⟨A, hA2, eA⟩ := nI_of (x := waysM (nI (godN S ce0 r)) k) (by rw [Int32.not_lt]; exact w1)
          obtain ⟨B, hB2, eB⟩ := nI_of (x := waysM (nI (allN S ce0 r)) k) (by rw [Int32.not_lt]; exact w2.1)
          have e1 : v116 = nI A := e116.trans eA
          have e2 : v125 = nI B := e125.trans eB
          subst e1
          subst e2
          refine fin A B A B _ _ hA2 hB2 hA2 hB2 ?_ rfl ?_ []
          · rcases Nat.eq_zero_or_pos B with e | e
            · exact absurd (by rw [eB, e]; rfl) (w2.2 hkA)
            · exact e
          · unfold oddM
            rw [if_pos ⟨h1, h3, h4⟩, if_neg (by rw [Int32.not_lt]; exact b107), gN_nI (by omega), eA, eB]
        · simp only [cP, cN, bI_0, Bool.not_eq_false, lt_nle, Decidable.not_not] at b107
          rw [cnt_fold] at hx
          exact And.intro (hs _ _ (by unfold oddM; rw [if_pos ⟨h1, h3, h4⟩, if_pos (by rw [lt_nle]; rw [hx] at b107; exact b107)]) hm hf) rfl
      · simp only [cP, cN, bI_0, Bool.not_eq_false, lt_nle, Decidable.not_not] at b50
        have hc2 : c < 64 := nle64 b50 (by omega) (by omega)
        refine Exists.intro _ (Exists.intro c (And.intro hm (And.intro ⟨rfl, hc2⟩ ?_)))
        intro v58 e58
        subst e58
        refine And.intro (fun b61 => ?_) (fun b61 => ?_)
        · simp only [cP, cN, bI_0, Bool.not_eq_false, lt_nle, Decidable.not_not] at b61
          obtain ⟨k, hk, ek⟩ := hp c hc2 (by have h9 := b61; unfold craM at h9; rw [Bool.and_eq_true] at h9; exact h9.1)
          refine gF (by first | assumption | exact hm.obj | exact hm.arr _ rfl) ?_
          refine gF (by first | assumption | exact hm.obj | exact hm.arr _ rfl) ?_
          refine gA (by first | assumption | exact hm.obj | exact hm.arr _ rfl) (by first | exact ixN (by omega) (by decide) | exact ixz (by omega) (by decide) | exact ixa (a := 64) rfl (by omega) (by decide) | exact ixa (a := 128) rfl (by omega) (by decide) | exact ixa (a := 192) rfl (by omega) (by decide) | exact ixa (a := 256) rfl (by omega) (by decide) | exact ixa (a := 262) rfl (by omega) (by decide) | exact ixa (a := 268) rfl (by omega) (by decide) | exact ixa (a := 274) rfl (by omega) (by decide) | exact ixa (a := 348) rfl (by omega) (by decide) | exact ixa (a := 400) rfl (by omega) (by decide)) ?_
          refine gA (by first | assumption | exact hm.obj | exact hm.arr _ rfl) (ixE ek hk (by decide)) ?_
          refine And.intro (fun b89 => ?_) (fun b89 => ?_)
          · simp only [cP, cN, bI_0, Bool.not_eq_false, lt_nle, Decidable.not_not] at b89
            refine ih (n - 1) (by omega) (c + 1) _ _ _ (by omega) (nI_1 c) h1 h3 h4 ?_ ?_
            · rw [hx, foldN_t (show craM S ce0 r c = true from b61)]
            · rw [hy, foldN_f (show godM S ce0 r c = false from by unfold godM; rw [b61, ek, gN_nI (by omega)]; simp only [b89, decide_true, decide_false, Bool.and_true, Bool.true_and, Bool.and_false, Bool.false_and, Bool.or_true, Bool.true_or, Bool.or_false, Bool.false_or, not_true_eq_false, not_false_eq_true, Bool.not_true, Bool.not_false, decide_not, if_true, if_false, and_true, true_and, and_false, false_and, or_true, true_or, or_false, false_or, Bool.false_eq_true])]
          · simp only [cP, cN, bI_0, Bool.not_eq_false, lt_nle, Decidable.not_not] at b89
            refine ih (n - 1) (by omega) (c + 1) _ _ _ (by omega) (nI_1 c) h1 h3 h4 ?_ ?_
            · rw [hx, foldN_t (show craM S ce0 r c = true from b61)]
            · rw [hy, foldN_t (show godM S ce0 r c = true from by unfold godM; rw [b61, ek, gN_nI (by omega)]; simp only [b89, decide_true, decide_false, Bool.and_true, Bool.true_and, Bool.and_false, Bool.false_and, Bool.or_true, Bool.true_or, Bool.or_false, Bool.false_or, not_true_eq_false, not_false_eq_true, Bool.not_true, Bool.not_false, decide_not, if_true, if_false, and_true, true_and, and_false, false_and, or_true, true_or, or_false, false_or, Bool.false_eq_true])]
        · simp only [cP, cN, bI_0, Bool.not_eq_false, lt_nle, Decidable.not_not] at b61
          refine ih (n - 1) (by omega) (c + 1) _ _ _ (by omega) (nI_1 c) h1 h3 h4 ?_ ?_
          · rw [hx, foldN_f (show craM S ce0 r c = false from b61)]
          · rw [hy, foldN_f (show godM S ce0 r c = false from by unfold godM; rw [b61]; rfl)]
    refine X.w wkX3_odds (fcons (ceV k_waysOf mmR2 ckX3_304 rfl mrR2 (by omega) rfl) (fcons (ceV k_isCapAround mmR3 ckX3_301 rfl mrR3 (by omega) rfl) (fcons (ceV k_isIn mmR3 ckX3_107 rfl mrR3 (by omega) rfl) (fcons (ceV k_isAround mmR2 ckX3_297 rfl mrR2 (by omega) rfl) fnil)))) [46] 25 rfl ?_
    refine Exists.intro _ (Exists.intro () (And.intro hm (And.intro trivial ?_)))
    intro v8 e8
    subst e8
    refine And.intro (fun b11 => ?_) (fun b11 => ?_)
    · simp only [cP, cN, bI_0, Bool.not_eq_false, lt_nle, Decidable.not_not] at b11
      exact And.intro (hs _ _ (by unfold oddM; rw [if_neg (fun q => absurd (b11.symm.trans q.1) (by decide))]) hm hf) rfl
    · simp only [cP, cN, bI_0, Bool.not_eq_false, lt_nle, Decidable.not_not] at b11
      refine Exists.intro _ (Exists.intro () (And.intro hm (And.intro trivial ?_)))
      intro v18 e18
      subst e18
      refine And.intro (fun b21 => ?_) (fun b21 => ?_)
      · simp only [cP, cN, bI_0, Bool.not_eq_false, lt_nle, Decidable.not_not] at b21
        exact And.intro (hs _ _ (by unfold oddM; rw [if_neg (fun q => absurd (b21.symm.trans q.2.1) (by decide))]) hm hf) rfl
      · simp only [cP, cN, bI_0, Bool.not_eq_false, lt_nle, Decidable.not_not] at b21
        refine Exists.intro _ (Exists.intro () (And.intro hm (And.intro trivial ?_)))
        intro v29 e29
        subst e29
        refine And.intro (fun b32 => ?_) (fun b32 => ?_)
        · simp only [cP, cN, bI_0, Bool.not_eq_false, lt_nle, Decidable.not_not] at b32
          exact loop 64 0 _ _ _ rfl rfl b11 b21 b32 rfl rfl
        · simp only [cP, cN, bI_0, Bool.not_eq_false, lt_nle, Decidable.not_not] at b32
          exact And.intro (hs _ _ (by unfold oddM; rw [if_neg (fun q => absurd (b32.symm.trans q.2.2) (by decide))]) hm hf) rfl
def engB (S : SS) (a c : Nat) : Bool := capM S a && (decide (S 1 a = S 1 c) && (decide (farI (nI a) (nI c) = 1) && (decide (S 1 (128 + a) = S 1 (128 + c)) && !(decide (S 1 (192 + a) = S 1 (192 + c))))))
theorem k_areEngaged : CtS mX3_areEngaged 3 (mR2 (fun (a : Nat × Nat) u w S => u = nI a.1 ∧ w = nI a.2 ∧ a.1 < 64 ∧ a.2 < 64) (fun (a : Nat × Nat) u w S => bI (engB S a.1 a.2))) := by
  intro l G d hd as h z Q hs
  match as, hs with
  | [.ref b, .int u, .int w], hs =>
    obtain ⟨S, a, hm, hp, hs⟩ := hs
    replace hp : u = nI a.1 ∧ w = nI a.2 ∧ a.1 < 64 ∧ a.2 < 64 := hp
    replace hs : ∀ r9, r9 = bI (engB S a.1 a.2) → Q (some (.int r9)) h := hs
    have hf : FrM b h h := FrM.rf
    refine Ct.of rfl (Nat.le_of_ble_eq_true rfl) rfl ?_
    obtain ⟨a1, a2⟩ := a
    dsimp only at hp hs
    obtain ⟨rfl, rfl, h1, h2⟩ := hp
    refine X.w wkX3_areEngaged (fcons (ceV k_farOf mmR2 ckX3_253 rfl mrR2 (by omega) rfl) fnil) [] 56 rfl ?_
    refine gF (by first | assumption | exact hm.obj | exact hm.arr _ rfl) ?_
    refine gA (by first | assumption | exact hm.obj | exact hm.arr _ rfl) (by first | exact ixN (by omega) (by decide) | exact ixz (by omega) (by decide) | exact ixa (a := 64) rfl (by omega) (by decide) | exact ixa (a := 128) rfl (by omega) (by decide) | exact ixa (a := 192) rfl (by omega) (by decide) | exact ixa (a := 256) rfl (by omega) (by decide) | exact ixa (a := 262) rfl (by omega) (by decide) | exact ixa (a := 268) rfl (by omega) (by decide) | exact ixa (a := 274) rfl (by omega) (by decide) | exact ixa (a := 348) rfl (by omega) (by decide) | exact ixa (a := 400) rfl (by omega) (by decide)) ?_
    refine And.intro (fun b8 => ?_) (fun b8 => ?_)
    · simp only [cP, cN, bI_0, Bool.not_eq_false, lt_nle, Decidable.not_not] at b8
      refine And.intro (by first | exact Or.inl rfl | exact Or.inr rfl | exact bI_01 _) ?_
      exact And.intro (hs _ (by rw [show engB S a1 a2 = false from by unfold engB; rw [show (capM S a1) = false from decide_eq_false (by rw [lt_nle, Decidable.not_not]; exact b8)]; rfl]; rfl)) rfl
    · simp only [cP, cN, bI_0, Bool.not_eq_false, lt_nle, Decidable.not_not] at b8
      refine gF (by first | assumption | exact hm.obj | exact hm.arr _ rfl) ?_
      refine gA (by first | assumption | exact hm.obj | exact hm.arr _ rfl) (by first | exact ixN (by omega) (by decide) | exact ixz (by omega) (by decide) | exact ixa (a := 64) rfl (by omega) (by decide) | exact ixa (a := 128) rfl (by omega) (by decide) | exact ixa (a := 192) rfl (by omega) (by decide) | exact ixa (a := 256) rfl (by omega) (by decide) | exact ixa (a := 262) rfl (by omega) (by decide) | exact ixa (a := 268) rfl (by omega) (by decide) | exact ixa (a := 274) rfl (by omega) (by decide) | exact ixa (a := 348) rfl (by omega) (by decide) | exact ixa (a := 400) rfl (by omega) (by decide)) ?_
      refine gF (by first | assumption | exact hm.obj | exact hm.arr _ rfl) ?_
      refine gA (by first | assumption | exact hm.obj | exact hm.arr _ rfl) (by first | exact ixN (by omega) (by decide) | exact ixz (by omega) (by decide) | exact ixa (a := 64) rfl (by omega) (by decide) | exact ixa (a := 128) rfl (by omega) (by decide) | exact ixa (a := 192) rfl (by omega) (by decide) | exact ixa (a := 256) rfl (by omega) (by decide) | exact ixa (a := 262) rfl (by omega) (by decide) | exact ixa (a := 268) rfl (by omega) (by decide) | exact ixa (a := 274) rfl (by omega) (by decide) | exact ixa (a := 348) rfl (by omega) (by decide) | exact ixa (a := 400) rfl (by omega) (by decide)) ?_
      refine And.intro (fun b27 => ?_) (fun b27 => ?_)
      · simp only [cP, cN, bI_0, Bool.not_eq_false, lt_nle, Decidable.not_not] at b27
        refine And.intro (by first | exact Or.inl rfl | exact Or.inr rfl | exact bI_01 _) ?_
        exact And.intro (hs _ (by rw [show engB S a1 a2 = false from by unfold engB; rw [show (capM S a1) = true from decide_eq_true (by rw [lt_nle]; exact b8), show (decide (S 1 a1 = S 1 a2)) = false from decide_eq_false b27]; rfl]; rfl)) rfl
      · simp only [cP, cN, bI_0, Bool.not_eq_false, lt_nle, Decidable.not_not] at b27
        refine Exists.intro _ (Exists.intro () (And.intro hm (And.intro trivial ?_)))
        intro v33 e33
        subst e33
        refine And.intro (fun b37 => ?_) (fun b37 => ?_)
        · simp only [cP, cN, bI_0, Bool.not_eq_false, lt_nle, Decidable.not_not] at b37
          refine And.intro (by first | exact Or.inl rfl | exact Or.inr rfl | exact bI_01 _) ?_
          exact And.intro (hs _ (by rw [show engB S a1 a2 = false from by unfold engB; rw [show (capM S a1) = true from decide_eq_true (by rw [lt_nle]; exact b8), show (decide (S 1 a1 = S 1 a2)) = true from decide_eq_true b27, show (decide (farI (nI a1) (nI a2) = 1)) = false from decide_eq_false b37]; rfl]; rfl)) rfl
        · simp only [cP, cN, bI_0, Bool.not_eq_false, lt_nle, Decidable.not_not] at b37
          refine gF (by first | assumption | exact hm.obj | exact hm.arr _ rfl) ?_
          refine gA (by first | assumption | exact hm.obj | exact hm.arr _ rfl) (by first | exact ixN (by omega) (by decide) | exact ixz (by omega) (by decide) | exact ixa (a := 64) rfl (by omega) (by decide) | exact ixa (a := 128) rfl (by omega) (by decide) | exact ixa (a := 192) rfl (by omega) (by decide) | exact ixa (a := 256) rfl (by omega) (by decide) | exact ixa (a := 262) rfl (by omega) (by decide) | exact ixa (a := 268) rfl (by omega) (by decide) | exact ixa (a := 274) rfl (by omega) (by decide) | exact ixa (a := 348) rfl (by omega) (by decide) | exact ixa (a := 400) rfl (by omega) (by decide)) ?_
          refine gF (by first | assumption | exact hm.obj | exact hm.arr _ rfl) ?_
          refine gA (by first | assumption | exact hm.obj | exact hm.arr _ rfl) (by first | exact ixN (by omega) (by decide) | exact ixz (by omega) (by decide) | exact ixa (a := 64) rfl (by omega) (by decide) | exact ixa (a := 128) rfl (by omega) (by decide) | exact ixa (a := 192) rfl (by omega) (by decide) | exact ixa (a := 256) rfl (by omega) (by decide) | exact ixa (a := 262) rfl (by omega) (by decide) | exact ixa (a := 268) rfl (by omega) (by decide) | exact ixa (a := 274) rfl (by omega) (by decide) | exact ixa (a := 348) rfl (by omega) (by decide) | exact ixa (a := 400) rfl (by omega) (by decide)) ?_
          refine And.intro (fun b60 => ?_) (fun b60 => ?_)
          · simp only [cP, cN, bI_0, Bool.not_eq_false, lt_nle, Decidable.not_not] at b60
            refine And.intro (by first | exact Or.inl rfl | exact Or.inr rfl | exact bI_01 _) ?_
            exact And.intro (hs _ (by rw [show engB S a1 a2 = false from by unfold engB; rw [show (capM S a1) = true from decide_eq_true (by rw [lt_nle]; exact b8), show (decide (S 1 a1 = S 1 a2)) = true from decide_eq_true b27, show (decide (farI (nI a1) (nI a2) = 1)) = true from decide_eq_true b37, show (decide (S 1 (128 + a1) = S 1 (128 + a2))) = false from decide_eq_false b60]; rfl]; rfl)) rfl
          · simp only [cP, cN, bI_0, Bool.not_eq_false, lt_nle, Decidable.not_not] at b60
            refine gF (by first | assumption | exact hm.obj | exact hm.arr _ rfl) ?_
            refine gA (by first | assumption | exact hm.obj | exact hm.arr _ rfl) (by first | exact ixN (by omega) (by decide) | exact ixz (by omega) (by decide) | exact ixa (a := 64) rfl (by omega) (by decide) | exact ixa (a := 128) rfl (by omega) (by decide) | exact ixa (a := 192) rfl (by omega) (by decide) | exact ixa (a := 256) rfl (by omega) (by decide) | exact ixa (a := 262) rfl (by omega) (by decide) | exact ixa (a := 268) rfl (by omega) (by decide) | exact ixa (a := 274) rfl (by omega) (by decide) | exact ixa (a := 348) rfl (by omega) (by decide) | exact ixa (a := 400) rfl (by omega) (by decide)) ?_
            refine gF (by first | assumption | exact hm.obj | exact hm.arr _ rfl) ?_
            refine gA (by first | assumption | exact hm.obj | exact hm.arr _ rfl) (by first | exact ixN (by omega) (by decide) | exact ixz (by omega) (by decide) | exact ixa (a := 64) rfl (by omega) (by decide) | exact ixa (a := 128) rfl (by omega) (by decide) | exact ixa (a := 192) rfl (by omega) (by decide) | exact ixa (a := 256) rfl (by omega) (by decide) | exact ixa (a := 262) rfl (by omega) (by decide) | exact ixa (a := 268) rfl (by omega) (by decide) | exact ixa (a := 274) rfl (by omega) (by decide) | exact ixa (a := 348) rfl (by omega) (by decide) | exact ixa (a := 400) rfl (by omega) (by decide)) ?_
            refine And.intro (fun b83 => ?_) (fun b83 => ?_)
            · simp only [cP, cN, bI_0, Bool.not_eq_false, lt_nle, Decidable.not_not] at b83
              refine And.intro (by first | exact Or.inl rfl | exact Or.inr rfl | exact bI_01 _) ?_
              exact And.intro (hs _ (by rw [show engB S a1 a2 = false from by unfold engB; rw [show (capM S a1) = true from decide_eq_true (by rw [lt_nle]; exact b8), show (decide (S 1 a1 = S 1 a2)) = true from decide_eq_true b27, show (decide (farI (nI a1) (nI a2) = 1)) = true from decide_eq_true b37, show (decide (S 1 (128 + a1) = S 1 (128 + a2))) = true from decide_eq_true b60, show (!(decide (S 1 (192 + a1) = S 1 (192 + a2)))) = false from by simp only [b83, decide_true, decide_false, Bool.and_true, Bool.true_and, Bool.and_false, Bool.false_and, Bool.or_true, Bool.true_or, Bool.or_false, Bool.false_or, not_true_eq_false, not_false_eq_true, Bool.not_true, Bool.not_false, decide_not, if_true, if_false, and_true, true_and, and_false, false_and, or_true, true_or, or_false, false_or, Bool.false_eq_true]]; rfl]; rfl)) rfl
            · simp only [cP, cN, bI_0, Bool.not_eq_false, lt_nle, Decidable.not_not] at b83
              refine And.intro (by first | exact Or.inl rfl | exact Or.inr rfl | exact bI_01 _) ?_
              exact And.intro (hs _ (by rw [show engB S a1 a2 = true from by unfold engB; rw [show (capM S a1) = true from decide_eq_true (by rw [lt_nle]; exact b8), show (decide (S 1 a1 = S 1 a2)) = true from decide_eq_true b27, show (decide (farI (nI a1) (nI a2) = 1)) = true from decide_eq_true b37, show (decide (S 1 (128 + a1) = S 1 (128 + a2))) = true from decide_eq_true b60, show (!(decide (S 1 (192 + a1) = S 1 (192 + a2)))) = true from by simp only [b83, decide_true, decide_false, Bool.and_true, Bool.true_and, Bool.and_false, Bool.false_and, Bool.or_true, Bool.true_or, Bool.or_false, Bool.false_or, not_true_eq_false, not_false_eq_true, Bool.not_true, Bool.not_false, decide_not, if_true, if_false, and_true, true_and, and_false, false_and, or_true, true_or, or_false, false_or, Bool.false_eq_true]]; rfl]; rfl)) rfl
def egS (S : SS) (a c : Nat) (q : Int32 × Int32) : Int32 × Int32 := if engB S a c = true then (q.1 + 1, if q.1 = 0 then 64 * nI a + nI c else q.2) else q
def egI (S : SS) (a : Nat) : Nat → Int32 × Int32 → Int32 × Int32
  | 0, q => q
  | k + 1, q => egS S a (a + 1 + k) (egI S a k q)
def egO (S : SS) : Nat → Int32 × Int32
  | 0 => (0, -1)
  | a + 1 => egI S a (63 - a) (egO S a)
def egM (S : SS) (w : Int32) : Int32 := if isInB w 0 2 = true then (if w = 0 then (egO S 64).1 else if (egO S 64).2 = -1 then -1 else if w = 1 then (egO S 64).2 / 64 else (egO S 64).2 - (egO S 64).2 / 64 * 64) else -1
theorem k_engaged : CtS mX3_engaged 4 (mW1 (fun (a : Unit) w S => True) (fun (a : Unit) w S v S' => v = egM (tl S) w ∧ S' = tl S)) := by
  intro l G d hd as h z Q hs
  match as, hs with
  | [.ref b, .int w], hs =>
    obtain ⟨S, a, hm, hp, hs⟩ := hs
    replace hp : True := hp
    replace hs : ∀ v S' h', (v = egM (tl S) w ∧ S' = tl S) → IsMod G b S' h' → FrM b h h' → Q (some (.int v)) h' := hs
    have hf : FrM b h h := FrM.rf
    refine Ct.of rfl (Nat.le_of_ble_eq_true rfl) rfl ?_
    refine X.w wkX3_engaged (fcons (ceV k_areEngaged mmR2 ckX3_310 rfl mrR2 (by omega) rfl) (fcons (ceV k_isIn mmR3 ckX3_107 rfl mrR3 (by omega) rfl) fnil)) [5] 5 rfl ?_
    refine pF0 (okV_W rfl) (by first | assumption | exact hm.obj | exact hm.arr _ rfl) (Nat.le_of_ble_eq_true rfl) (by first | exact hm.N | exact hm.No _) ?_
    intro h2 e2
    have hm := hm.u0 e2 rfl; have hf := hf.u0 e2
    replace hm : IsMod G b (tl S) h2 := hm
    generalize tl S = S at hm hs hp
    replace hs : ∀ v h', v = egM S w → IsMod G b S h' → FrM b h h' → Q (some (.int v)) h' := fun v h' e => hs v S h' ⟨e, rfl⟩
    have loop : ∀ (n c : Nat) (i : Int32) (x y : Int32), c + n = 64 → i = nI c → (isInB w 0 2 = true) → ((x, y) = egO S c) → X l G mX3_engaged (rmK d 0 0) (TGm G (fun v h' z' => Q v h' ∧ z' = z) 0 0) 0 0 24 [(0, .ref b), (1, .int w), (2, .int x), (3, .int y), (4, .int i)] [] h2 z := by
      intro  n
      induction n using Nat.strongRecOn with
      | _ n ih =>
      intro c i x y  hc hi h1 hx
      subst hi
      refine X.w wkX3_engaged (fcons (ceV k_areEngaged mmR2 ckX3_310 rfl mrR2 (by omega) rfl) (fcons (ceV k_isIn mmR3 ckX3_107 rfl mrR3 (by omega) rfl) fnil)) [37] 17 rfl ?_
      refine And.intro (fun b28 => ?_) (fun b28 => ?_)
      · simp only [cP, cN, bI_0, Bool.not_eq_false, lt_nle, Decidable.not_not] at b28
        have hc2 : 64 ≤ c := (le64 (by omega) (by omega)).mp b28
        obtain rfl : c = 64 := by omega
        refine And.intro (fun b92 => ?_) (fun b92 => ?_)
        · simp only [cP, cN, bI_0, Bool.not_eq_false, lt_nle, Decidable.not_not] at b92
          refine And.intro (fun b99 => ?_) (fun b99 => ?_)
          · simp only [cP, cN, bI_0, Bool.not_eq_false, lt_nle, Decidable.not_not] at b99
            refine And.intro (fun b108 => ?_) (fun b108 => ?_)
            · simp only [cP, cN, bI_0, Bool.not_eq_false, lt_nle, Decidable.not_not] at b108
              refine And.intro (by decide) ?_
              exact And.intro (hs _ _ (by unfold egM; rw [if_pos h1, if_neg b92, ← hx]; show _ = if y = -1 then _ else _; rw [if_neg b99, if_neg b108]) hm hf) rfl
            · simp only [cP, cN, bI_0, Bool.not_eq_false, lt_nle, Decidable.not_not] at b108
              refine And.intro (by decide) ?_
              exact And.intro (hs _ _ (by unfold egM; rw [if_pos h1, if_neg b92, ← hx]; show _ = if y = -1 then _ else _; rw [if_neg b99, if_pos b108]) hm hf) rfl
          · simp only [cP, cN, bI_0, Bool.not_eq_false, lt_nle, Decidable.not_not] at b99
            exact And.intro (hs _ _ (by unfold egM; rw [if_pos h1, if_neg b92, ← hx]; show _ = if y = -1 then _ else _; rw [if_pos b99]) hm hf) rfl
        · simp only [cP, cN, bI_0, Bool.not_eq_false, lt_nle, Decidable.not_not] at b92
          exact And.intro (hs _ _ (by unfold egM; rw [if_pos h1, if_pos b92, ← hx]) hm hf) rfl
      · simp only [cP, cN, bI_0, Bool.not_eq_false, lt_nle, Decidable.not_not] at b28
        have hc2 : c < 64 := nle64 b28 (by omega) (by omega)
        have out : ∀ (x y : Int32), (x, y) = egI S c (63 - c) (egO S c) → X l G mX3_engaged (rmK d 0 0) (TGm G (fun v h' z' => Q v h' ∧ z' = z) 0 0) 0 0 85 [(0, .ref b), (1, .int w), (2, .int x), (3, .int y), (4, .int (nI c))] [] h2 z := by
          intro x y hxy
          refine X.w wkX3_engaged (fcons (ceV k_areEngaged mmR2 ckX3_310 rfl mrR2 (by omega) rfl) (fcons (ceV k_isIn mmR3 ckX3_107 rfl mrR3 (by omega) rfl) fnil)) [24] 4 rfl ?_
          exact ih (n - 1) (by omega) (c + 1) _ _ _ (by omega) (nI_1 c) h1 hxy
        have inn : ∀ (n e : Nat) (i : Int32) (x y : Int32), e + n = (63 - c) → i = nI (c + 1 + e) → ((x, y) = egI S c e (egO S c)) → X l G mX3_engaged (rmK d 0 0) (TGm G (fun v h' z' => Q v h' ∧ z' = z) 0 0) 0 0 37 [(0, .ref b), (1, .int w), (2, .int x), (3, .int y), (4, .int (nI c)), (5, .int i)] [] h2 z := by
          intro  n
          induction n using Nat.strongRecOn with
          | _ n ih2 =>
          intro e i x y  hc hi hx2
          subst hi
          refine X.w wkX3_engaged (fcons (ceV k_areEngaged mmR2 ckX3_310 rfl mrR2 (by omega) rfl) (fcons (ceV k_isIn mmR3 ckX3_107 rfl mrR3 (by omega) rfl) fnil)) [37, 85] 25 rfl ?_
          refine And.intro (fun b41 => ?_) (fun b41 => ?_)
          · simp only [cP, cN, bI_0, Bool.not_eq_false, lt_nle, Decidable.not_not] at b41
            have hc4 : 64 ≤ c + 1 + e := (le64 (by omega) (by omega)).mp b41
            obtain rfl : e = 63 - c := by omega
            refine X.cut [(0, .ref b), (1, .int w), (2, .int x), (3, .int y), (4, .int (nI c))] [(5, .int (nI (c + 1 + (63 - c))))] rfl ?_
            exact out x y hx2
          · simp only [cP, cN, bI_0, Bool.not_eq_false, lt_nle, Decidable.not_not] at b41
            have hc4 : c + 1 + e < 64 := nle64 b41 (by omega) (by omega)
            refine Exists.intro _ (Exists.intro (c, c + 1 + e) (And.intro hm (And.intro ⟨rfl, rfl, hc2, by show c + 1 + e < 64; omega⟩ ?_)))
            intro v49 e49
            subst e49
            refine And.intro (fun b52 => ?_) (fun b52 => ?_)
            · simp only [cP, cN, bI_0, Bool.not_eq_false, lt_nle, Decidable.not_not] at b52
              refine And.intro (fun b59 => ?_) (fun b59 => ?_)
              · simp only [cP, cN, bI_0, Bool.not_eq_false, lt_nle, Decidable.not_not] at b59
                refine ih2 (n - 1) (by omega) (e + 1) _ _ _ (by omega) (nI_1 (c + 1 + e)) ?_
                rw [egI, ← hx2, egS, if_pos b52, if_neg b59]
              · simp only [cP, cN, bI_0, Bool.not_eq_false, lt_nle, Decidable.not_not] at b59
                refine ih2 (n - 1) (by omega) (e + 1) _ _ _ (by omega) (nI_1 (c + 1 + e)) ?_
                rw [egI, ← hx2, egS, if_pos b52, if_pos b59]
            · simp only [cP, cN, bI_0, Bool.not_eq_false, lt_nle, Decidable.not_not] at b52
              refine ih2 (n - 1) (by omega) (e + 1) _ _ _ (by omega) (nI_1 (c + 1 + e)) ?_
              rw [egI, ← hx2, egS, if_neg (by rw [b52]; decide)]
        exact inn (63 - c) 0 _ x y (by omega) (nI_1 c) hx
    refine X.w wkX3_engaged (fcons (ceV k_areEngaged mmR2 ckX3_310 rfl mrR2 (by omega) rfl) (fcons (ceV k_isIn mmR3 ckX3_107 rfl mrR3 (by omega) rfl) fnil)) [24] 14 rfl ?_
    refine Exists.intro _ (Exists.intro () (And.intro hm (And.intro trivial ?_)))
    intro v9 e9
    subst e9
    refine And.intro (fun b12 => ?_) (fun b12 => ?_)
    · simp only [cP, cN, bI_0, Bool.not_eq_false, lt_nle, Decidable.not_not] at b12
      exact loop 64 0 _ _ _ rfl rfl b12 rfl
    · simp only [cP, cN, bI_0, Bool.not_eq_false, lt_nle, Decidable.not_not] at b12
      exact And.intro (hs _ _ (by unfold egM; rw [b12]; rfl) hm hf) rfl
def wntB (S : SS) (ce0 r fr to : Int32) (i : Nat) : Bool := decide (farI (S 7 (4 * i + 1)) ce0 ≤ r) && isInB (S 7 (4 * i + 3)) fr to
def wntM (S : SS) (ce0 r fr to : Int32) : Int32 := if arM S ce0 r = true ∧ fr ≤ to then foldN (wntB S ce0 r fr to) (fun i x => x ||| (1 : Int32) <<< (S 7 (4 * i) &&& 31)) 0 (gN (S 1 347)) else -1
def bkP (S : SS) (_ _ _ _ : Int32) : Prop := Bd 100 (S 1 347)
theorem k_went : CtS mX3_went 3 (mW4 (fun (a : Unit) ce0 r fr to S => bkP S ce0 r fr to) (fun (a : Unit) ce0 r fr to S v S' => v = wntM (tl S) ce0 r fr to ∧ S' = tl S)) := by
  intro l G d hd as h z Q hs
  match as, hs with
  | [.ref b, .int ce0, .int r, .int fr, .int to], hs =>
    obtain ⟨S, a, hm, hp, hs⟩ := hs
    replace hp : bkP S ce0 r fr to := hp
    replace hs : ∀ v S' h', (v = wntM (tl S) ce0 r fr to ∧ S' = tl S) → IsMod G b S' h' → FrM b h h' → Q (some (.int v)) h' := hs
    have hf : FrM b h h := FrM.rf
    refine Ct.of rfl (Nat.le_of_ble_eq_true rfl) rfl ?_
    refine X.w wkX3_went (fcons (ceV k_isIn mmR3 ckX3_107 rfl mrR3 (by omega) rfl) (fcons (ceV k_farOf mmR2 ckX3_253 rfl mrR2 (by omega) rfl) (fcons (ceV k_isAround mmR2 ckX3_297 rfl mrR2 (by omega) rfl) fnil))) [5] 5 rfl ?_
    refine pF0 (okV_W rfl) (by first | assumption | exact hm.obj | exact hm.arr _ rfl) (Nat.le_of_ble_eq_true rfl) (by first | exact hm.N | exact hm.No _) ?_
    intro h2 e2
    have hm := hm.u0 e2 rfl; have hf := hf.u0 e2
    replace hm : IsMod G b (tl S) h2 := hm
    replace hp : bkP (tl S) ce0 r fr to := hp
    generalize tl S = S at hm hs hp
    replace hs : ∀ v h', v = wntM S ce0 r fr to → IsMod G b S h' → FrM b h h' → Q (some (.int v)) h' := fun v h' e => hs v S h' ⟨e, rfl⟩
    have hp2 := hp.2
    have loop : ∀ (n c : Nat) (i : Int32) (v : Int32), c + n = gN (S 1 347) → i = nI c → (arM S ce0 r = true) → (fr ≤ to) → (v = foldN (wntB S ce0 r fr to) (fun i x => x ||| (1 : Int32) <<< (S 7 (4 * i) &&& 31)) 0 c) → X l G mX3_went (rmK d 0 0) (TGm G (fun v h' z' => Q v h' ∧ z' = z) 0 0) 0 0 28 [(0, .ref b), (1, .int ce0), (2, .int r), (3, .int fr), (4, .int to), (5, .int v), (6, .int i)] [] h2 z := by
      intro  n
      induction n using Nat.strongRecOn with
      | _ n ih =>
      intro c i v  hc hi h1 h3 hv
      subst hi
      refine X.w wkX3_went (fcons (ceV k_isIn mmR3 ckX3_107 rfl mrR3 (by omega) rfl) (fcons (ceV k_farOf mmR2 ckX3_253 rfl mrR2 (by omega) rfl) (fcons (ceV k_isAround mmR2 ckX3_297 rfl mrR2 (by omega) rfl) fnil))) [28] 47 rfl ?_
      refine gF (by first | assumption | exact hm.obj | exact hm.arr _ rfl) ?_
      refine gA (by first | assumption | exact hm.obj | exact hm.arr _ rfl) (ixE (j := 347) rfl (by decide) (by decide)) ?_
      refine And.intro (fun b38 => ?_) (fun b38 => ?_)
      · simp only [cP, cN, bI_0, Bool.not_eq_false, lt_nle, Decidable.not_not] at b38
        have hc2 : gN (S 1 347) ≤ c := (le64 (by omega) (by omega)).mp (hp.1 ▸ b38)
        have hc3 : c = gN (S 1 347) := by omega
        exact And.intro (hs _ _ (by rw [hv]; unfold wntM; rw [if_pos ⟨h1, h3⟩, hc3]) hm hf) rfl
      · simp only [cP, cN, bI_0, Bool.not_eq_false, lt_nle, Decidable.not_not] at b38
        have hc2 : c < gN (S 1 347) := nle64 (k := gN (S 1 347)) (hp.1 ▸ b38) (by omega) (by omega)
        refine gF (by first | assumption | exact hm.obj | exact hm.arr _ rfl) ?_
        refine gA (by first | assumption | exact hm.obj | exact hm.arr _ rfl) (ixE (j := 4 * c + 1) (by rw [show (4 : Int32) = nI 4 from rfl, show (1 : Int32) = nI 1 from rfl, pk_mul, nI_add]) (by omega) (by decide)) ?_
        refine Exists.intro _ (Exists.intro () (And.intro hm (And.intro trivial ?_)))
        intro v54 e54
        subst e54
        refine And.intro (fun b58 => ?_) (fun b58 => ?_)
        · simp only [cP, cN, bI_0, Bool.not_eq_false, lt_nle, Decidable.not_not] at b58
          refine ih (n - 1) (by omega) (c + 1) _ _ (by omega) (nI_1 c) h1 h3 ?_
          rw [hv, foldN_f (show wntB S ce0 r fr to c = false from by simp only [wntB, b38, b58, decide_true, decide_false, Bool.and_true, Bool.true_and, Bool.and_false, Bool.false_and, Bool.or_true, Bool.true_or, Bool.or_false, Bool.false_or, not_true_eq_false, not_false_eq_true, Bool.not_true, Bool.not_false, decide_not, if_true, if_false, and_true, true_and, and_false, false_and, or_true, true_or, or_false, false_or, Bool.false_eq_true])]
        · simp only [cP, cN, bI_0, Bool.not_eq_false, lt_nle, Decidable.not_not] at b58
          refine gF (by first | assumption | exact hm.obj | exact hm.arr _ rfl) ?_
          refine gA (by first | assumption | exact hm.obj | exact hm.arr _ rfl) (ixE (j := 4 * c + 3) (by rw [show (4 : Int32) = nI 4 from rfl, show (3 : Int32) = nI 3 from rfl, pk_mul, nI_add]) (by omega) (by decide)) ?_
          refine Exists.intro _ (Exists.intro () (And.intro hm (And.intro trivial ?_)))
          intro v76 e76
          subst e76
          refine And.intro (fun b79 => ?_) (fun b79 => ?_)
          · simp only [cP, cN, bI_0, Bool.not_eq_false, lt_nle, Decidable.not_not] at b79
            refine ih (n - 1) (by omega) (c + 1) _ _ (by omega) (nI_1 c) h1 h3 ?_
            rw [hv, foldN_f (show wntB S ce0 r fr to c = false from by simp only [wntB, b38, b58, b79, decide_true, decide_false, Bool.and_true, Bool.true_and, Bool.and_false, Bool.false_and, Bool.or_true, Bool.true_or, Bool.or_false, Bool.false_or, not_true_eq_false, not_false_eq_true, Bool.not_true, Bool.not_false, decide_not, if_true, if_false, and_true, true_and, and_false, false_and, or_true, true_or, or_false, false_or, Bool.false_eq_true])]
          · simp only [cP, cN, bI_0, Bool.not_eq_false, lt_nle, Decidable.not_not] at b79
            refine gF (by first | assumption | exact hm.obj | exact hm.arr _ rfl) ?_
            refine gA (by first | assumption | exact hm.obj | exact hm.arr _ rfl) (ixE (j := 4 * c) (by rw [show (4 : Int32) = nI 4 from rfl, pk_mul]) (by omega) (by decide)) ?_
            refine ih (n - 1) (by omega) (c + 1) _ _ (by omega) (nI_1 c) h1 h3 ?_
            rw [hv, foldN_t (show wntB S ce0 r fr to c = true from by simp only [wntB, b38, b58, b79, decide_true, decide_false, Bool.and_true, Bool.true_and, Bool.and_false, Bool.false_and, Bool.or_true, Bool.true_or, Bool.or_false, Bool.false_or, not_true_eq_false, not_false_eq_true, Bool.not_true, Bool.not_false, decide_not, if_true, if_false, and_true, true_and, and_false, false_and, or_true, true_or, or_false, false_or, Bool.false_eq_true])]
    refine X.w wkX3_went (fcons (ceV k_isIn mmR3 ckX3_107 rfl mrR3 (by omega) rfl) (fcons (ceV k_farOf mmR2 ckX3_253 rfl mrR2 (by omega) rfl) (fcons (ceV k_isAround mmR2 ckX3_297 rfl mrR2 (by omega) rfl) fnil))) [28] 14 rfl ?_
    refine Exists.intro _ (Exists.intro () (And.intro hm (And.intro trivial ?_)))
    intro v8 e8
    subst e8
    refine And.intro (fun b11 => ?_) (fun b11 => ?_)
    · simp only [cP, cN, bI_0, Bool.not_eq_false, lt_nle, Decidable.not_not] at b11
      exact And.intro (hs _ _ (by unfold wntM; rw [if_neg (fun q => absurd (b11.symm.trans q.1) (by decide))]) hm hf) rfl
    · simp only [cP, cN, bI_0, Bool.not_eq_false, lt_nle, Decidable.not_not] at b11
      refine And.intro (fun b17 => ?_) (fun b17 => ?_)
      · simp only [cP, cN, bI_0, Bool.not_eq_false, lt_nle, Decidable.not_not] at b17
        exact loop (gN (S 1 347)) 0 _ _ (by omega) rfl b11 b17 rfl
      · simp only [cP, cN, bI_0, Bool.not_eq_false, lt_nle, Decidable.not_not] at b17
        exact And.intro (hs _ _ (by unfold wntM; rw [if_neg (fun q => b17 q.2)]) hm hf) rfl
