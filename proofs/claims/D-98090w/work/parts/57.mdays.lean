set_option maxRecDepth 100000
/-! a day in the model, days -/
def cpsF (S : SS) (k : Nat) : Nat → Int32 := fun j => if 64 ≤ j ∧ j < 64 + k then S 18 (j - 64) else S 1 j
def cpsM (S : SS) : SS := setF S 1 (cpsF S 64)
theorem cpsF_0 (S : SS) : cpsF S 0 = S 1 := by
  funext j
  unfold cpsF
  rw [if_neg (by omega)]
theorem cpsF_s {S : SS} {c : Nat} : upd (cpsF S c) (64 + c) (S 18 c) = cpsF S (c + 1) := by
  funext j
  by_cases e : j = 64 + c
  · subst e
    rw [pk_us]
    unfold cpsF
    rw [if_pos (by omega), show 64 + c - 64 = c from by omega]
  · rw [pk_un e]
    unfold cpsF
    by_cases e2 : 64 ≤ j ∧ j < 64 + c
    · rw [if_pos e2, if_pos (by omega)]
    · rw [if_neg e2, if_neg (by omega)]
def frzM (S : SS) : SS := if S 0 14 ≤ 0 then S else drwM S
def frzEM (S : SS) : Int32 := if S 0 14 ≤ 0 then 0 else if S 0 14 ≤ drawR (S 0 4) 1000 then 0 else 1
def skF (S : SS) (k : Nat) : Nat → Int32 := fun j => if 262 ≤ j ∧ j < 262 + k then (if S 1 j ≤ 0 then S 1 j else S 1 j - 1) else S 1 j
theorem skF_0 (S : SS) : skF S 0 = S 1 := by
  funext j
  unfold skF
  rw [if_neg (by omega)]
theorem skF_c {S : SS} {c : Nat} : skF S c (262 + c) = S 1 (262 + c) := by
  unfold skF
  rw [if_neg (by omega)]
theorem skF_s {S : SS} {c : Nat} (h : ¬ S 1 (262 + c) ≤ 0) : upd (skF S c) (262 + c) (S 1 (262 + c) - 1) = skF S (c + 1) := by
  funext j
  by_cases e : j = 262 + c
  · subst e
    rw [pk_us]
    unfold skF
    rw [if_pos (show 262 ≤ 262 + c ∧ 262 + c < 262 + (c + 1) by omega), if_neg h]
  · rw [pk_un e]
    unfold skF
    by_cases e2 : 262 ≤ j ∧ j < 262 + c
    · rw [if_pos e2, if_pos (show 262 ≤ j ∧ j < 262 + (c + 1) by omega)]
    · rw [if_neg e2, if_neg (show ¬ (262 ≤ j ∧ j < 262 + (c + 1)) by omega)]
theorem skF_n {S : SS} {c : Nat} (h : S 1 (262 + c) ≤ 0) : skF S (c + 1) = skF S c := by
  funext j
  unfold skF
  by_cases e : j = 262 + c
  · subst e
    rw [if_pos (show 262 ≤ 262 + c ∧ 262 + c < 262 + (c + 1) by omega), if_neg (show ¬ (262 ≤ 262 + c ∧ 262 + c < 262 + c) by omega), if_pos h]
  · by_cases e2 : 262 ≤ j ∧ j < 262 + c
    · rw [if_pos e2, if_pos (show 262 ≤ j ∧ j < 262 + (c + 1) by omega)]
    · rw [if_neg e2, if_neg (show ¬ (262 ≤ j ∧ j < 262 + (c + 1)) by omega)]
def fin1 (S : SS) (f : Int32) : SS := up2 (up2 S 0 16 f) 1 346 0
def fin2 (S : SS) (f : Int32) (m : Nat) : SS := up2 (setF (fin1 S f) 1 (skF (fin1 S f) m)) 0 17 (S 0 17 + 1)
def finM (S : SS) (m : Nat) : SS := fin2 (frzM S) (frzEM S) m
/-- a day of the model -/
def EndR (L : List Line9) (m : Nat) (S : SS) (v : Int32) (S' : SS) : Prop := ∃ S1, Chg [16, 17, 18, 19] S S1 ∧ (∀ c, c < 64 → capM S c = true → S1 18 c = grwM (thkF S) L 0 (S 0 16) c) ∧ v = eatEM (cpsM S1) ∧ S' = finM (ranM (eatM (cpsM S1))) m
theorem eatEM_01 (S : SS) : eatEM S = 0 ∨ eatEM S = 1 := by
  unfold eatEM
  split
  · exact Or.inl rfl
  · split
    · exact Or.inl rfl
    · split
      · exact Or.inl rfl
      · exact Or.inr rfl
theorem eatM_m (S : SS) : eatM S 0 12 = S 0 12 := by
  unfold eatM
  split
  · rfl
  · split
    · rfl
    · split <;> rfl
theorem ranM_m (S : SS) : ranM S 0 12 = S 0 12 := by
  show wetMS S 0 12 = _
  unfold wetMS
  split <;> rfl
theorem cps_lo {S : SS} {c : Nat} (h : c < 64) : cpsM S 1 c = S 1 c := by
  show cpsF S 64 c = _
  unfold cpsF
  rw [if_neg (by omega)]
theorem k_ends : CtS mX3_ends 6 (mW0 (fun (a : List Line9 × Nat) S => LawR a.1 S ∧ S 0 12 = nI a.2 ∧ a.2 ≤ 6 ∧ ∀ c, c < 64 → 0 ≤ S 1 c) (fun (a : List Line9 × Nat) S v S' => EndR a.1 a.2 S v S')) := by
  intro l G d hd as h z Q hs
  match as, hs with
  | [.ref b], hs =>
    obtain ⟨S, a, hm, hp, hs⟩ := hs
    replace hp : LawR a.1 S ∧ S 0 12 = nI a.2 ∧ a.2 ≤ 6 ∧ ∀ c, c < 64 → 0 ≤ S 1 c := hp
    replace hs : ∀ v S' h', (EndR a.1 a.2 S v S') → IsMod G b S' h' → FrM b h h' → Q (some (.int v)) h' := hs
    have hf : FrM b h h := FrM.rf
    refine Ct.of rfl (Nat.le_of_ble_eq_true rfl) rfl ?_
    obtain ⟨L, m⟩ := a
    dsimp only at hp hs
    obtain ⟨hL, hm6, h6, hge⟩ := hp
    have j92 : ∀ (S3 : SS) (ev : Int32), ev = 0 ∨ ev = 1 → S3 0 12 = nI m → (∀ h', IsMod G b (up2 (setF S3 1 (skF S3 m)) 0 17 (S3 0 17 + 1)) h' → FrM b h h' → Q (some (.int ev)) h') → ∀ (n c : Nat) (i : Int32) (h1 : AH), c + n = m → i = nI c → IsMod G b (setF S3 1 (skF S3 c)) h1 → FrM b h h1 → X l G mX3_ends (rmK d 0 0) (TGm G (fun v h' z' => Q v h' ∧ z' = z) 0 0) 0 0 92 [(0, .ref b), (1, .int ev), (2, .int i)] [] h1 z := by
      intro S3 ev hev hm3 hs n
      induction n using Nat.strongRecOn with
      | _ n ih =>
      intro c i h1 hc hi hm hf
      subst hi
      refine X.w wkX3_ends (fcons (ceV k_draw mmW1 ckX3_268 rfl mrW1 (by omega) rfl) (fcons (ceV k_rains mmV0 ckX3_281 rfl mrV0 (by omega) rfl) (fcons (ceV k_isEaten mmW0 ckX3_277 rfl mrW0 (by omega) rfl) (fcons (ceV k_allGrow mmV2 ckX3_274 rfl mrV2 (by omega) rfl) (fcons (ceV k_thinksOfSizes mmV0 ckX3_271 rfl mrV0 (by omega) rfl) fnil))))) [92] 29 rfl ?_
      refine gF (by first | assumption | exact hm.obj | exact hm.arr _ rfl) ?_
      refine And.intro (fun b97 => ?_) (fun b97 => ?_)
      · simp only [cP, cN, bI_0, Bool.not_eq_false, lt_nle, Decidable.not_not] at b97
        have hc2 : m ≤ c := (le64 (by omega) (by omega)).mp (hm3 ▸ b97)
        obtain rfl : c = m := by omega
        refine gF (by first | assumption | exact hm.obj | exact hm.arr _ rfl) ?_
        refine pF0 (okV_W rfl) (by first | assumption | exact hm.obj | exact hm.arr _ rfl) (Nat.le_of_ble_eq_true rfl) (by first | exact hm.N | exact hm.No _) ?_
        intro h148 e148
        have hm := hm.u0 e148 rfl; have hf := hf.u0 e148
        refine And.intro hev ?_
        exact And.intro (hs _ hm hf) rfl
      · simp only [cP, cN, bI_0, Bool.not_eq_false, lt_nle, Decidable.not_not] at b97
        have hc2 : c < m := nle64 (k := m) (hm3 ▸ b97) (by omega) (by omega)
        refine gF (by first | assumption | exact hm.obj | exact hm.arr _ rfl) ?_
        refine gA (by first | assumption | exact hm.obj | exact hm.arr _ rfl) (by first | exact ixa (a := 262) rfl (by omega) (by decide) | exact ixa (a := 64) rfl (by omega) (by decide) | exact ixN (by omega) (by decide) | exact ixE (j := 346) rfl (by decide) (by decide)) ?_
        refine And.intro (fun b110 => ?_) (fun b110 => ?_)
        · simp only [cP, cN, bI_0, Bool.not_eq_false, lt_nle, Decidable.not_not] at b110
          have b2 : S3 1 (262 + c) ≤ 0 := by rw [← skF_c (S := S3) (c := c)]; exact b110
          refine ih (n - 1) (by omega) (c + 1) _ _ (by omega) (nI_1 c) ?_ hf
          rw [skF_n b2]
          exact hm
        · simp only [cP, cN, bI_0, Bool.not_eq_false, lt_nle, Decidable.not_not] at b110
          refine gF (by first | assumption | exact hm.obj | exact hm.arr _ rfl) ?_
          refine gF (by first | assumption | exact hm.obj | exact hm.arr _ rfl) ?_
          refine gA (by first | assumption | exact hm.obj | exact hm.arr _ rfl) (by first | exact ixa (a := 262) rfl (by omega) (by decide) | exact ixa (a := 64) rfl (by omega) (by decide) | exact ixN (by omega) (by decide) | exact ixE (j := 346) rfl (by decide) (by decide)) ?_
          refine sA (by first | assumption | exact hm.obj | exact hm.arr _ rfl) (by first | exact ixa (a := 262) rfl (by omega) (by decide) | exact ixa (a := 64) rfl (by omega) (by decide) | exact ixN (by omega) (by decide) | exact ixE (j := 346) rfl (by decide) (by decide)) (by first | exact hm.N | exact hm.No _) ?_
          intro h134 e134
          have hm := hm.uA e134 rfl; have hf := hf.uA e134 (by decide)
          have b2 : ¬ S3 1 (262 + c) ≤ 0 := by rw [← skF_c (S := S3) (c := c)]; exact b110
          refine ih (n - 1) (by omega) (c + 1) _ _ (by omega) (nI_1 c) ?_ hf
          rw [up2_set] at hm
          rw [← skF_s b2]
          rw [show setF S3 1 (skF S3 c) 1 (262 + c) = S3 1 (262 + c) from skF_c] at hm
          exact hm
    have j78 : ∀ (S3 : SS) (ev f : Int32) (h1 : AH), ev = 0 ∨ ev = 1 → S3 0 12 = nI m → (∀ h', IsMod G b (fin2 S3 f m) h' → FrM b h h' → Q (some (.int ev)) h') → IsMod G b S3 h1 → FrM b h h1 → X l G mX3_ends (rmK d 0 0) (TGm G (fun v h' z' => Q v h' ∧ z' = z) 0 0) 0 0 78 [(0, .ref b), (1, .int ev)] [.int f, .ref b] h1 z := by
      intro S3 ev f h1 hev hm3 hs hm hf
      refine X.w wkX3_ends (fcons (ceV k_draw mmW1 ckX3_268 rfl mrW1 (by omega) rfl) (fcons (ceV k_rains mmV0 ckX3_281 rfl mrV0 (by omega) rfl) (fcons (ceV k_isEaten mmW0 ckX3_277 rfl mrW0 (by omega) rfl) (fcons (ceV k_allGrow mmV2 ckX3_274 rfl mrV2 (by omega) rfl) (fcons (ceV k_thinksOfSizes mmV0 ckX3_271 rfl mrV0 (by omega) rfl) fnil))))) [92] 10 rfl ?_
      refine pF0 (okV_W rfl) (by first | assumption | exact hm.obj | exact hm.arr _ rfl) (Nat.le_of_ble_eq_true rfl) (by first | exact hm.N | exact hm.No _) ?_
      intro h78 e78
      have hm := hm.u0 e78 rfl; have hf := hf.u0 e78
      refine gF (by first | assumption | exact hm.obj | exact hm.arr _ rfl) ?_
      refine sA (by first | assumption | exact hm.obj | exact hm.arr _ rfl) (by first | exact ixa (a := 262) rfl (by omega) (by decide) | exact ixa (a := 64) rfl (by omega) (by decide) | exact ixN (by omega) (by decide) | exact ixE (j := 346) rfl (by decide) (by decide)) (by first | exact hm.N | exact hm.No _) ?_
      intro h89 e89
      have hm := hm.uA e89 rfl; have hf := hf.uA e89 (by decide)
      exact j92 (fin1 S3 f) ev hev hm3 hs m 0 _ _ (by omega) rfl (by rw [skF_0, setF_self]; exact hm) hf
    have j42 : ∀ (S3 : SS) (h1 : AH), (∀ c, c < 64 → 0 ≤ S3 1 c) → S3 0 12 = nI m → (∀ h', IsMod G b (finM (ranM (eatM S3)) m) h' → FrM b h h' → Q (some (.int (eatEM S3))) h') → IsMod G b S3 h1 → FrM b h h1 → ∀ i, X l G mX3_ends (rmK d 0 0) (TGm G (fun v h' z' => Q v h' ∧ z' = z) 0 0) 0 0 42 [(0, .ref b), (1, .int i)] [] h1 z := by
      intro S3 h1 hge hm3 hs hm hf i
      have hm4 : ranM (eatM S3) 0 12 = nI m := by rw [ranM_m, eatM_m]; exact hm3
      generalize hS4 : ranM (eatM S3) = S4 at hs hm4
      refine X.w wkX3_ends (fcons (ceV k_draw mmW1 ckX3_268 rfl mrW1 (by omega) rfl) (fcons (ceV k_rains mmV0 ckX3_281 rfl mrV0 (by omega) rfl) (fcons (ceV k_isEaten mmW0 ckX3_277 rfl mrW0 (by omega) rfl) (fcons (ceV k_allGrow mmV2 ckX3_274 rfl mrV2 (by omega) rfl) (fcons (ceV k_thinksOfSizes mmV0 ckX3_271 rfl mrV0 (by omega) rfl) fnil))))) [78] 19 rfl ?_
      refine Exists.intro _ (Exists.intro () (And.intro hm (And.intro hge ?_)))
      intro v43 S43 h43 p43 hm hf43
      have hf := hf.tr hf43
      (try dsimp only at p43)
      obtain ⟨rfl, rfl⟩ := p43
      refine Exists.intro _ (Exists.intro () (And.intro hm (And.intro trivial ?_)))
      intro S48 h48 p48 hm hf48
      have hf := hf.tr hf48
      (try dsimp only at p48)
      rw [hS4] at p48
      subst p48
      refine gF (by first | assumption | exact hm.obj | exact hm.arr _ rfl) ?_
      refine And.intro (fun b56 => ?_) (fun b56 => ?_)
      · simp only [cP, cN, bI_0, Bool.not_eq_false, lt_nle, Decidable.not_not] at b56
        refine j78 S48 _ 0 _ (eatEM_01 S3) hm4 ?_ hm hf
        unfold finM frzM frzEM at hs
        rw [if_pos b56, if_pos b56] at hs
        exact hs
      · simp only [cP, cN, bI_0, Bool.not_eq_false, lt_nle, Decidable.not_not] at b56
        refine Exists.intro _ (Exists.intro () (And.intro hm (And.intro (show ¬ (1000 : Int32) = 0 by decide) ?_)))
        intro v63 S63 h63 p63 hm hf63
        have hf := hf.tr hf63
        (try dsimp only at p63)
        obtain ⟨rfl, rfl⟩ := p63
        replace hm : IsMod G b (drwM S48) h63 := hm
        refine gF (by first | assumption | exact hm.obj | exact hm.arr _ rfl) ?_
        refine And.intro (fun b70 => ?_) (fun b70 => ?_)
        · simp only [cP, cN, bI_0, Bool.not_eq_false, lt_nle, Decidable.not_not] at b70
          have b70' :  S48 0 14 ≤ drawR (S48 0 4) 1000 := b70
          refine j78 (drwM S48) _ 0 _ (eatEM_01 S3) hm4 ?_ hm hf
          unfold finM frzM frzEM at hs
          rw [if_neg b56, if_neg b56, if_pos b70'] at hs
          exact hs
        · simp only [cP, cN, bI_0, Bool.not_eq_false, lt_nle, Decidable.not_not] at b70
          have b70' : ¬ S48 0 14 ≤ drawR (S48 0 4) 1000 := b70
          refine j78 (drwM S48) _ 1 _ (eatEM_01 S3) hm4 ?_ hm hf
          unfold finM frzM frzEM at hs
          rw [if_neg b56, if_neg b56, if_neg b70'] at hs
          exact hs
    have j15 : ∀ (S2 : SS), (∀ c, c < 64 → 0 ≤ S2 1 c) → S2 0 12 = nI m → (∀ h', IsMod G b (finM (ranM (eatM (cpsM S2))) m) h' → FrM b h h' → Q (some (.int (eatEM (cpsM S2)))) h') → ∀ (n c : Nat) (i : Int32) (h1 : AH), c + n = 64 → i = nI c → IsMod G b (setF S2 1 (cpsF S2 c)) h1 → FrM b h h1 → X l G mX3_ends (rmK d 0 0) (TGm G (fun v h' z' => Q v h' ∧ z' = z) 0 0) 0 0 15 [(0, .ref b), (1, .int i)] [] h1 z := by
      intro S2 hge hm3 hs n
      induction n using Nat.strongRecOn with
      | _ n ih =>
      intro c i h1 hc hi hm hf
      subst hi
      refine X.w wkX3_ends (fcons (ceV k_draw mmW1 ckX3_268 rfl mrW1 (by omega) rfl) (fcons (ceV k_rains mmV0 ckX3_281 rfl mrV0 (by omega) rfl) (fcons (ceV k_isEaten mmW0 ckX3_277 rfl mrW0 (by omega) rfl) (fcons (ceV k_allGrow mmV2 ckX3_274 rfl mrV2 (by omega) rfl) (fcons (ceV k_thinksOfSizes mmV0 ckX3_271 rfl mrV0 (by omega) rfl) fnil))))) [15, 42] 17 rfl ?_
      refine And.intro (fun b18 => ?_) (fun b18 => ?_)
      · simp only [cP, cN, bI_0, Bool.not_eq_false, lt_nle, Decidable.not_not] at b18
        have hc2 : 64 ≤ c := (le64 (by omega) (by omega)).mp b18
        obtain rfl : c = 64 := by omega
        exact j42 (cpsM S2) _ (fun c hc => by rw [cps_lo hc]; exact hge c hc) hm3 hs hm hf _
      · simp only [cP, cN, bI_0, Bool.not_eq_false, lt_nle, Decidable.not_not] at b18
        have hc2 : c < 64 := nle64 b18 (by omega) (by omega)
        refine gF (by first | assumption | exact hm.obj | exact hm.arr _ rfl) ?_
        refine gF (by first | assumption | exact hm.obj | exact hm.arr _ rfl) ?_
        refine gA (by first | assumption | exact hm.obj | exact hm.arr _ rfl) (by first | exact ixa (a := 262) rfl (by omega) (by decide) | exact ixa (a := 64) rfl (by omega) (by decide) | exact ixN (by omega) (by decide) | exact ixE (j := 346) rfl (by decide) (by decide)) ?_
        refine sA (by first | assumption | exact hm.obj | exact hm.arr _ rfl) (by first | exact ixa (a := 262) rfl (by omega) (by decide) | exact ixa (a := 64) rfl (by omega) (by decide) | exact ixN (by omega) (by decide) | exact ixE (j := 346) rfl (by decide) (by decide)) (by first | exact hm.N | exact hm.No _) ?_
        intro h35 e35
        have hm := hm.uA e35 rfl; have hf := hf.uA e35 (by decide)
        rw [up2_set] at hm
        refine ih (n - 1) (by omega) (c + 1) _ _ (by omega) (nI_1 c) ?_ hf
        rw [← cpsF_s]
        exact hm
    refine X.w wkX3_ends (fcons (ceV k_draw mmW1 ckX3_268 rfl mrW1 (by omega) rfl) (fcons (ceV k_rains mmV0 ckX3_281 rfl mrV0 (by omega) rfl) (fcons (ceV k_isEaten mmW0 ckX3_277 rfl mrW0 (by omega) rfl) (fcons (ceV k_allGrow mmV2 ckX3_274 rfl mrV2 (by omega) rfl) (fcons (ceV k_thinksOfSizes mmV0 ckX3_271 rfl mrV0 (by omega) rfl) fnil))))) [15] 11 rfl ?_
    refine Exists.intro _ (Exists.intro () (And.intro hm (And.intro trivial ?_)))
    intro S1 h1 p1 hm hf1
    have hf := hf.tr hf1
    (try dsimp only at p1)
    subst p1
    refine gF (by first | assumption | exact hm.obj | exact hm.arr _ rfl) ?_
    refine Exists.intro _ (Exists.intro L (And.intro hm (And.intro (hL.chg rfl rfl rfl rfl rfl rfl) ?_)))
    intro S10 h10 p10 hm hf10
    have hf := hf.tr hf10
    (try dsimp only at p10)
    obtain ⟨q1, q2⟩ := p10
    have q3 : Chg [16, 17, 18, 19] S S10 := ((Chg.rf (S := S)).set rfl).tr q1
    refine j15 S10 (fun c hc => by rw [q3 1 rfl]; exact hge c hc) (by rw [q3 0 rfl]; exact hm6) (fun h' hm hf => hs _ _ _ ⟨S10, q3, q2, rfl, rfl⟩ hm hf) 64 0 _ _ rfl rfl ?_ hf
    rw [cpsF_0, setF_self]
    exact hm
def GoodM (L : List Line9) (m : Nat) (S : SS) : Prop := LawR L S ∧ S 0 12 = nI m ∧ m ≤ 6 ∧ ∀ c, c < 64 → 0 ≤ S 1 c
theorem up2_n {S : SS} {o o' j : Nat} {x : Int32} (h : o' ≠ o) : up2 S o j x o' = S o' := if_neg h
theorem up2_s {S : SS} {o j : Nat} {x : Int32} : up2 S o j x o = upd (S o) j x := if_pos rfl
theorem drwM_0 (S : SS) {k : Nat} (h : k ≠ 4) : drwM S 0 k = S 0 k := by unfold drwM; rw [up2_s, pk_un h]
theorem drwM_o (S : SS) {o : Nat} (h : o ≠ 0) : drwM S o = S o := by unfold drwM; rw [up2_n h]
theorem eatM_0 (S : SS) {k : Nat} (h : k ≠ 4) : eatM S 0 k = S 0 k := by
  unfold eatM
  generalize eatCM S = q
  generalize capsM S = w
  split
  · rfl
  · split
    · rfl
    · split
      · rw [drwM_0 _ h]
      · rw [up2_n (by decide), drwM_0 _ h, drwM_0 _ h]
theorem eatM_o (S : SS) {o : Nat} (h : o ≠ 0) (h1 : o ≠ 1) : eatM S o = S o := by
  unfold eatM
  generalize eatCM S = q
  generalize capsM S = w
  split
  · rfl
  · split
    · rfl
    · split
      · rw [drwM_o _ h]
      · rw [up2_n h1, drwM_o _ h, drwM_o _ h]
theorem eatM_1 (S : SS) (c : Nat) : eatM S 1 c = S 1 c ∨ eatM S 1 c = 0 := by
  unfold eatM
  generalize eatCM S = q
  generalize capsM S = w
  split
  · exact Or.inl rfl
  · split
    · exact Or.inl rfl
    · split
      · rw [drwM_o _ (by decide)]; exact Or.inl rfl
      · rw [up2_s, drwM_o _ (by decide), drwM_o _ (by decide)]
        by_cases e : c = q
        · rw [e]; exact Or.inr pk_us
        · exact Or.inl (pk_un e)
theorem wetMS_0 (S : SS) {k : Nat} (h : k ≠ 4) : wetMS S 0 k = S 0 k := by
  unfold wetMS
  split
  · rfl
  · rw [drwM_0 _ h]
theorem wetMS_o (S : SS) {o : Nat} (h : o ≠ 0) : wetMS S o = S o := by
  unfold wetMS
  split
  · rfl
  · rw [drwM_o _ h]
theorem ranM_0 (S : SS) {k : Nat} (h : k ≠ 4) : ranM S 0 k = S 0 k := by
  unfold ranM
  rw [setF_n (by decide), wetMS_0 _ h]
theorem ranM_o (S : SS) {o : Nat} (h : o ≠ 0) (h3 : o ≠ 3) : ranM S o = S o := by
  unfold ranM
  rw [setF_n h3, wetMS_o _ h]
theorem frzM_0 (S : SS) {k : Nat} (h : k ≠ 4) : frzM S 0 k = S 0 k := by
  unfold frzM
  split
  · rfl
  · rw [drwM_0 _ h]
theorem frzM_o (S : SS) {o : Nat} (h : o ≠ 0) : frzM S o = S o := by
  unfold frzM
  split
  · rfl
  · rw [drwM_o _ h]
theorem fin2_o (S : SS) (f : Int32) (m : Nat) {o : Nat} (h0 : o ≠ 0) (h1 : o ≠ 1) : fin2 S f m o = S o := by
  unfold fin2 fin1
  rw [up2_n h0, setF_n h1, up2_n h1, up2_n h0]
theorem fin2_0 (S : SS) (f : Int32) (m : Nat) {k : Nat} (h0 : k ≠ 16) (h1 : k ≠ 17) : fin2 S f m 0 k = S 0 k := by
  unfold fin2 fin1
  rw [up2_s, pk_un h1, setF_n (by decide), up2_n (by decide), up2_s, pk_un h0]
theorem fin2_1 (S : SS) (f : Int32) (m : Nat) : fin2 S f m 1 = skF (fin1 S f) m := by
  unfold fin2
  rw [up2_n (by decide), setF_s]
theorem fin1_1 (S : SS) (f : Int32) : fin1 S f 1 = upd (S 1) 346 0 := by
  unfold fin1
  rw [up2_s, up2_n (by decide)]
theorem EndR.o {L : List Line9} {m : Nat} {S S' : SS} {v : Int32} (h : EndR L m S v S') {o : Nat} (h0 : o ≠ 0) (h1 : o ≠ 1) (h3 : o ≠ 3) (hm : mem1 [16, 17, 18, 19] o = false) : S' o = S o := by
  obtain ⟨S1, e1, e2, e3, rfl⟩ := h
  unfold finM
  rw [fin2_o _ _ _ h0 h1, frzM_o _ h0, ranM_o _ h0 h3, eatM_o _ h0 h1]
  unfold cpsM
  rw [setF_n h1, e1 o hm]
theorem EndR.f {L : List Line9} {m : Nat} {S S' : SS} {v : Int32} (h : EndR L m S v S') {k : Nat} (h4 : k ≠ 4) (h1 : k ≠ 16) (h3 : k ≠ 17) : S' 0 k = S 0 k := by
  obtain ⟨S1, e1, e2, e3, rfl⟩ := h
  unfold finM
  rw [fin2_0 _ _ _ h1 h3, frzM_0 _ h4, ranM_0 _ h4, eatM_0 _ h4]
  unfold cpsM
  rw [setF_n (by decide), e1 0 rfl]
theorem EndR.c {L : List Line9} {m : Nat} {S S' : SS} {v : Int32} (h : EndR L m S v S') (hm : m ≤ 6) {c : Nat} (hc : c < 64) : S' 1 c = S 1 c ∨ S' 1 c = 0 := by
  obtain ⟨S1, e1, e2, e3, rfl⟩ := h
  unfold finM
  rw [fin2_1]
  unfold skF
  rw [if_neg (by omega), fin1_1, pk_un (by omega), frzM_o _ (by decide), ranM_o _ (by decide) (by decide), ← e1 1 rfl, ← cps_lo (S := S1) hc]
  exact eatM_1 _ c
theorem EndR.good {L : List Line9} {m : Nat} {S S' : SS} {v : Int32} (h : EndR L m S v S') (g : GoodM L m S) : GoodM L m S' := by
  obtain ⟨g1, g2, g3, g4⟩ := g
  refine ⟨g1.chg (h.f (by decide) (by decide) (by decide)) (h.o (by decide) (by decide) (by decide) rfl) (h.o (by decide) (by decide) (by decide) rfl) (h.o (by decide) (by decide) (by decide) rfl) (h.o (by decide) (by decide) (by decide) rfl) (h.o (by decide) (by decide) (by decide) rfl), (h.f (by decide) (by decide) (by decide)).trans g2, g3, fun c hc => ?_⟩
  rcases h.c g3 hc with e | e
  · rw [e]; exact g4 c hc
  · rw [e]; exact Int32.le_refl _
def EndsR (L : List Line9) (m : Nat) : Nat → SS → Int32 → SS → Prop
  | 0, S, v, S' => v = 0 ∧ S' = S
  | n + 1, S, v, S' => ∃ v1 S1 v2, EndsR L m n S v1 S1 ∧ EndR L m S1 v2 S' ∧ v = v1 + v2
theorem k_days : CtS mX3_days 7 (mW1 (fun (a : List Line9 × Nat) w S => GoodM a.1 a.2 S) (fun (a : List Line9 × Nat) w S v S' => ((isInB w 1 100 = true ∧ S 0 17 + w ≤ 9999) ∧ ∃ S1, EndsR a.1 a.2 (gN w) (tl S) v S1 ∧ S' = up2 S1 0 3 0) ∨ (¬ (isInB w 1 100 = true ∧ S 0 17 + w ≤ 9999) ∧ v = -1 ∧ S' = tl S))) := by
  intro l G d hd as h z Q hs
  match as, hs with
  | [.ref b, .int w], hs =>
    obtain ⟨S, a, hm, hp, hs⟩ := hs
    replace hp : GoodM a.1 a.2 S := hp
    replace hs : ∀ v S' h', (((isInB w 1 100 = true ∧ S 0 17 + w ≤ 9999) ∧ ∃ S1, EndsR a.1 a.2 (gN w) (tl S) v S1 ∧ S' = up2 S1 0 3 0) ∨ (¬ (isInB w 1 100 = true ∧ S 0 17 + w ≤ 9999) ∧ v = -1 ∧ S' = tl S)) → IsMod G b S' h' → FrM b h h' → Q (some (.int v)) h' := hs
    have hf : FrM b h h := FrM.rf
    refine Ct.of rfl (Nat.le_of_ble_eq_true rfl) rfl ?_
    obtain ⟨L, m⟩ := a
    dsimp only at hp hs
    refine X.w wkX3_days (fcons (ceV k_ends mmW0 ckX3_284 rfl mrW0 (by omega) rfl) (fcons (ceV k_isIn mmR3 ckX3_107 rfl mrR3 (by omega) rfl) fnil)) [5] 5 rfl ?_
    refine pF0 (okV_W rfl) (by first | assumption | exact hm.obj | exact hm.arr _ rfl) (Nat.le_of_ble_eq_true rfl) (by first | exact hm.N | exact hm.No _) ?_
    intro h2 e2
    have hm := hm.u0 e2 rfl; have hf := hf.u0 e2
    replace hm : IsMod G b (tl S) h2 := hm
    replace hp : GoodM L m (tl S) := ⟨hp.1.chg rfl rfl rfl rfl rfl rfl, hp.2⟩
    have loop : isInB w 1 100 = true → S 0 17 + w ≤ 9999 → ∀ (N : Nat), w = nI N → N ≤ 100 → ∀ (n c : Nat) (i v : Int32) (S1 : SS) (h1 : AH), c + n = N → i = nI c → EndsR L m c (tl S) v S1 → GoodM L m S1 → IsMod G b S1 h1 → FrM b h h1 → X l G mX3_days (rmK d 0 0) (TGm G (fun v h' z' => Q v h' ∧ z' = z) 0 0) 0 0 34 [(0, .ref b), (1, .int w), (2, .int v), (3, .int i)] [] h1 z := by
      intro hi1 hi2 N hw hN n
      induction n using Nat.strongRecOn with
      | _ n ih =>
      intro c i v S1 h1 hc hi hE hg hm hf
      subst hi
      refine X.w wkX3_days (fcons (ceV k_ends mmW0 ckX3_284 rfl mrW0 (by omega) rfl) (fcons (ceV k_isIn mmR3 ckX3_107 rfl mrR3 (by omega) rfl) fnil)) [34] 14 rfl ?_
      refine And.intro (fun b36 => ?_) (fun b36 => ?_)
      · simp only [cP, cN, bI_0, Bool.not_eq_false, lt_nle, Decidable.not_not] at b36
        have hc2 : N ≤ c := (le64 (by omega) (by omega)).mp (hw ▸ b36)
        obtain rfl : c = N := by omega
        refine pF0 (okV_W rfl) (by first | assumption | exact hm.obj | exact hm.arr _ rfl) (Nat.le_of_ble_eq_true rfl) (by first | exact hm.N | exact hm.No _) ?_
        intro h58 e58
        have hm := hm.u0 e58 rfl; have hf := hf.u0 e58
        exact And.intro (hs _ _ _ (Or.inl ⟨⟨hi1, hi2⟩, S1, by rw [hw, gN_nI (by omega)]; exact hE, rfl⟩) hm hf) rfl
      · simp only [cP, cN, bI_0, Bool.not_eq_false, lt_nle, Decidable.not_not] at b36
        have hc2 : c < N := nle64 (k := N) (hw ▸ b36) (by omega) (by omega)
        refine Exists.intro _ (Exists.intro (L, m) (And.intro hm (And.intro hg ?_)))
        intro v40 S40 h40 p40 hm hf40
        have hf := hf.tr hf40
        (try dsimp only at p40)
        refine And.intro (fun b43 => ?_) (fun b43 => ?_)
        · simp only [cP, cN, bI_0, Bool.not_eq_false, lt_nle, Decidable.not_not] at b43
          refine ih (n - 1) (by omega) (c + 1) _ _ _ _ (by omega) (nI_1 c) ⟨v, S1, v40, hE, p40, ?_⟩ (EndR.good p40 hg) hm hf
          rw [b43]; simp
        · simp only [cP, cN, bI_0, Bool.not_eq_false, lt_nle, Decidable.not_not] at b43
          have h01 : v40 = 1 := by
            obtain ⟨S9, _, _, e9, _⟩ := p40
            rcases eatEM_01 (cpsM S9) with e | e
            · exact absurd (e9.trans e) b43
            · exact e9.trans e
          refine ih (n - 1) (by omega) (c + 1) _ _ _ _ (by omega) (nI_1 c) ⟨v, S1, v40, hE, p40, ?_⟩ (EndR.good p40 hg) hm hf
          rw [h01]
    refine X.w wkX3_days (fcons (ceV k_ends mmW0 ckX3_284 rfl mrW0 (by omega) rfl) (fcons (ceV k_isIn mmR3 ckX3_107 rfl mrR3 (by omega) rfl) fnil)) [34] 18 rfl ?_
    refine Exists.intro _ (Exists.intro () (And.intro hm (And.intro trivial ?_)))
    intro v10 e10
    subst e10
    refine And.intro (fun b13 => ?_) (fun b13 => ?_)
    · simp only [cP, cN, bI_0, Bool.not_eq_false, lt_nle, Decidable.not_not] at b13
      exact And.intro (hs _ _ _ (Or.inr ⟨fun q => absurd (b13.symm.trans q.1) (by decide), rfl, rfl⟩) hm hf) rfl
    · simp only [cP, cN, bI_0, Bool.not_eq_false, lt_nle, Decidable.not_not] at b13
      refine gF (by first | assumption | exact hm.obj | exact hm.arr _ rfl) ?_
      refine And.intro (fun b25 => ?_) (fun b25 => ?_)
      · simp only [cP, cN, bI_0, Bool.not_eq_false, lt_nle, Decidable.not_not] at b25
        have h9 := isInB_t.mp b13
        have hb : Bd 100 w := Bd.of (by decide) (Int32.le_trans (by decide) h9.1) h9.2
        exact loop b13 b25 (gN w) hb.1 hb.2 (gN w) 0 _ _ _ _ (by omega) rfl ⟨rfl, rfl⟩ hp hm hf
      · simp only [cP, cN, bI_0, Bool.not_eq_false, lt_nle, Decidable.not_not] at b25
        exact And.intro (hs _ _ _ (Or.inr ⟨fun q => b25 q.2, rfl, rfl⟩) hm hf) rfl
