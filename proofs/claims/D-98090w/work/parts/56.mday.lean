set_option maxRecDepth 100000
/-! the end of a day in the model -/
def drwM (S : SS) : SS := up2 S 0 4 (drawS (S 0 4))
def capAtP (p : Nat → Bool) : Nat → Nat → Int32 → Nat
  | 0, c, _ => c
  | n + 1, c, k => if p c = true ∧ k ≤ 0 then c else capAtP p n (c + 1) (k - bI (p c))
def cntP (p : Nat → Bool) : Nat → Nat → Nat
  | 0, _ => 0
  | n + 1, c => (bif p c then 1 else 0) + cntP p n (c + 1)
theorem cntP_le (p : Nat → Bool) : ∀ n c, cntP p n c ≤ n
  | 0, _ => Nat.le_refl _
  | n + 1, c => by
    have := cntP_le p n (c + 1)
    unfold cntP
    cases p c <;> simp <;> omega
theorem fold_cnt (p : Nat → Bool) : ∀ n c, foldN p (fun _ x => x + 1) 0 (c + n) = foldN p (fun _ x => x + 1) 0 c + nI (cntP p n c)
  | 0, c => by
    show foldN p (fun _ x => x + 1) 0 c = foldN p (fun _ x => x + 1) 0 c + 0
    simp
  | n + 1, c => by
    rw [show c + (n + 1) = (c + 1) + n from by omega, fold_cnt p n (c + 1), cntP, ← nI_add]
    cases e : p c with
    | true => rw [foldN_t e, ← Int32.add_assoc]; rfl
    | false =>
      rw [foldN_f e, ← Int32.add_assoc]
      show _ = _ + 0 + _
      simp
theorem caps_cnt (S : SS) : capsM S = nI (cntP (capM S) 64 0) := by
  have h := fold_cnt (capM S) 64 0
  rw [show (0 : Nat) + 64 = 64 from rfl] at h
  unfold capsM
  rw [h]
  show 0 + _ = _
  simp
theorem capAtP_lt (p : Nat → Bool) : ∀ (n c t : Nat), t < cntP p n c → t < 2 ^ 31 → capAtP p n c (nI t) < c + n
  | 0, _, _, h, _ => absurd h (Nat.not_lt_zero _)
  | n + 1, c, t, h, ht => by
    unfold cntP at h
    unfold capAtP
    split
    · omega
    · rename_i hn
      cases hc : p c with
      | false =>
        rw [hc] at h
        have e : nI t - bI false = nI t := by
          show nI t - 0 = nI t
          simp
        rw [e]
        have := capAtP_lt p n (c + 1) t (by simpa using h) ht
        omega
      | true =>
        rw [hc] at h
        have h1 : ¬ nI t ≤ 0 := fun q => hn ⟨hc, q⟩
        have h2 : 0 < t := by
          rcases Nat.eq_zero_or_pos t with e | e
          · subst e; exact absurd (Int32.le_refl 0) h1
          · exact e
        obtain ⟨t', rfl⟩ : ∃ t', t = t' + 1 := ⟨t - 1, by omega⟩
        have e : nI (t' + 1) - bI true = nI t' := nI_pred t'
        rw [e]
        have := capAtP_lt p n (c + 1) t' (by simp at h; omega) (by omega)
        omega
theorem nI_bv2 (x : Int32) : nI x.toBitVec.toNat = x := by
  apply Int32.toBitVec_inj.mp
  show BitVec.ofNat 32 x.toBitVec.toNat = x.toBitVec
  simp
def drawN2 (s : Int32) : Nat := (drawS s).toBitVec.toNat / 256
theorem drawN2_lt (s : Int32) : drawN2 s < 2 ^ 24 := by
  unfold drawN2
  have := (drawS s).toBitVec.isLt
  omega
theorem drawR_nI2 {s : Int32} {m : Nat} (h0 : 0 < m) (hm : m < 2 ^ 31) : drawR s (nI m) = nI (drawN2 s % m) := by
  have e : ((drawS s).toUInt32 >>> ((8 : Int32).toUInt32 &&& Int32.toUInt32 31)).toInt32 = nI (drawN2 s) := by
    rw [← nI_bv2 ((drawS s).toUInt32 >>> ((8 : Int32).toUInt32 &&& Int32.toUInt32 31)).toInt32, pk_ushr (drawS s) 8 8 (by decide)]
    rfl
  unfold drawR
  rw [e, pk_rem (by have := drawN2_lt s; omega) h0 hm]
/-- where the deer eat -/
def eatCM (S : SS) : Nat := capAtP (capM S) 64 0 (drawR (drawS (S 0 4)) (capsM S))
theorem eatCM_lt {S : SS} (h : ¬ capsM S = 0) : eatCM S < 64 := by
  have h0 : 0 < cntP (capM S) 64 0 := by
    rcases Nat.eq_zero_or_pos (cntP (capM S) 64 0) with e | e
    · exact absurd (by rw [caps_cnt, e]; rfl) h
    · exact e
  have hle := cntP_le (capM S) 64 0
  unfold eatCM
  rw [caps_cnt, drawR_nI2 h0 (by omega)]
  have := capAtP_lt (capM S) 64 0 (drawN2 (drawS (S 0 4)) % cntP (capM S) 64 0) (Nat.mod_lt _ h0) (by have := Nat.mod_lt (drawN2 (drawS (S 0 4))) h0; omega)
  omega
def eatM (S : SS) : SS := if S 0 15 = 0 then S else if capsM S = 0 then S else if S 0 15 ≤ drawR (S 0 4) 1000 then drwM S else up2 (drwM (drwM S)) 1 (eatCM S) 0
def eatEM (S : SS) : Int32 := if S 0 15 = 0 then 0 else if capsM S = 0 then 0 else if S 0 15 ≤ drawR (S 0 4) 1000 then 0 else 1
theorem k_isEaten : CtS mX3_isEaten 2 (mW0 (fun (a : Unit) S => ∀ c, c < 64 → 0 ≤ S 1 c) (fun (a : Unit) S v S' => v = eatEM S ∧ S' = eatM S)) := by
  intro l G d hd as h z Q hs
  match as, hs with
  | [.ref b], hs =>
    obtain ⟨S, a, hm, hp, hs⟩ := hs
    replace hp : ∀ c, c < 64 → 0 ≤ S 1 c := hp
    replace hs : ∀ v S' h', (v = eatEM S ∧ S' = eatM S) → IsMod G b S' h' → FrM b h h' → Q (some (.int v)) h' := hs
    have hf : FrM b h h := FrM.rf
    refine Ct.of rfl (Nat.le_of_ble_eq_true rfl) rfl ?_
    have loop : ¬ capsM S = 0 → (∀ v h', v = (1 : Int32) → IsMod G b (up2 (drwM (drwM S)) 1 (eatCM S) 0) h' → FrM b h h' → Q (some (.int v)) h') → ∀ (u w : Int32) (h1 : AH) (n c : Nat) (k i : Int32), c + n = 64 → i = nI c → capAtP (capM S) n c k = eatCM S → IsMod G b (drwM (drwM S)) h1 → FrM b h h1 → X l G mX3_isEaten (rmK d 0 0) (TGm G (fun v h' z' => Q v h' ∧ z' = z) 0 0) 0 0 40 [(0, .ref b), (1, .int u), (2, .int k), (3, .int i)] [] h1 z := by
      intro hz hs u w h1 n
      have hlt := eatCM_lt hz
      induction n with
      | zero =>
        intro c k i hc hi hk hm hf
        have h9 : capAtP (capM S) 0 c k = c := rfl
        omega
      | succ n ih =>
      intro c k i hc hi hk hm hf
      subst hi
      have hc2 : c < 64 := by omega
      refine X.w wkX3_isEaten (fcons (ceV k_draw mmW1 ckX3_268 rfl mrW1 (by omega) rfl) (fcons (ceV k_caps mmR0 ckX3_265 rfl mrR0 (by omega) rfl) fnil)) [40] 27 rfl ?_
      refine gF (by first | assumption | exact hm.obj | exact hm.arr _ rfl) ?_
      refine gA (by first | assumption | exact hm.obj | exact hm.arr _ rfl) (by first | exact ixN (by omega) (by decide) | exact ixz (by omega) (by decide) | exact ixa (a := 64) rfl (by omega) (by decide) | exact ixa (a := 128) rfl (by omega) (by decide) | exact ixa (a := 192) rfl (by omega) (by decide) | exact ixa (a := 256) rfl (by omega) (by decide) | exact ixa (a := 262) rfl (by omega) (by decide) | exact ixa (a := 268) rfl (by omega) (by decide) | exact ixa (a := 274) rfl (by omega) (by decide) | exact ixa (a := 348) rfl (by omega) (by decide) | exact ixa (a := 400) rfl (by omega) (by decide)) ?_
      refine And.intro (fun b48 => ?_) (fun b48 => ?_)
      · simp only [cP, cN, bI_0, Bool.not_eq_false, lt_nle, Decidable.not_not] at b48
        refine gF (by first | assumption | exact hm.obj | exact hm.arr _ rfl) ?_
        refine gA (by first | assumption | exact hm.obj | exact hm.arr _ rfl) (by first | exact ixN (by omega) (by decide) | exact ixz (by omega) (by decide) | exact ixa (a := 64) rfl (by omega) (by decide) | exact ixa (a := 128) rfl (by omega) (by decide) | exact ixa (a := 192) rfl (by omega) (by decide) | exact ixa (a := 256) rfl (by omega) (by decide) | exact ixa (a := 262) rfl (by omega) (by decide) | exact ixa (a := 268) rfl (by omega) (by decide) | exact ixa (a := 274) rfl (by omega) (by decide) | exact ixa (a := 348) rfl (by omega) (by decide) | exact ixa (a := 400) rfl (by omega) (by decide)) ?_
        refine And.intro (fun b63 => ?_) (fun b63 => ?_)
        · simp only [cP, cN, bI_0, Bool.not_eq_false, lt_nle, Decidable.not_not] at b63
          have hcap : capM S c = false := decide_eq_false (by rw [lt_nle, Decidable.not_not]; exact b63)
          refine ih (c + 1) _ _ (by omega) (nI_1 c) ?_ hm hf
          rw [← hk, capAtP]
          rw [if_neg (fun q => by rw [hcap] at q; exact nomatch q.1), hcap]; show _ = capAtP _ _ _ (k - 0); simp
        · simp only [cP, cN, bI_0, Bool.not_eq_false, lt_nle, Decidable.not_not] at b63
          exact absurd (by rw [show drwM (drwM S) 1 c = 0 from b48]; exact Int32.le_refl _) b63
      · simp only [cP, cN, bI_0, Bool.not_eq_false, lt_nle, Decidable.not_not] at b48
        refine And.intro (fun b52 => ?_) (fun b52 => ?_)
        · simp only [cP, cN, bI_0, Bool.not_eq_false, lt_nle, Decidable.not_not] at b52
          refine gF (by first | assumption | exact hm.obj | exact hm.arr _ rfl) ?_
          refine sA (by first | assumption | exact hm.obj | exact hm.arr _ rfl) (by first | exact ixN (by omega) (by decide) | exact ixz (by omega) (by decide) | exact ixa (a := 64) rfl (by omega) (by decide) | exact ixa (a := 128) rfl (by omega) (by decide) | exact ixa (a := 192) rfl (by omega) (by decide) | exact ixa (a := 256) rfl (by omega) (by decide) | exact ixa (a := 262) rfl (by omega) (by decide) | exact ixa (a := 268) rfl (by omega) (by decide) | exact ixa (a := 274) rfl (by omega) (by decide) | exact ixa (a := 348) rfl (by omega) (by decide) | exact ixa (a := 400) rfl (by omega) (by decide)) (by first | exact hm.N | exact hm.No _) ?_
          intro h85 e85
          have hm := hm.uA e85 rfl; have hf := hf.uA e85 (by decide)
          refine And.intro (by first | exact Or.inl rfl | exact Or.inr rfl | exact bI_01 _) ?_
          have hcap : capM S c = true := decide_eq_true (lt_nle.mpr (fun q => b48 (Int32.le_antisymm q (hp c hc2))))
          rw [capAtP, if_pos ⟨hcap, b52⟩] at hk
          rw [hk] at hm
          exact And.intro (hs _ _ rfl hm hf) rfl
        · simp only [cP, cN, bI_0, Bool.not_eq_false, lt_nle, Decidable.not_not] at b52
          refine gF (by first | assumption | exact hm.obj | exact hm.arr _ rfl) ?_
          refine gA (by first | assumption | exact hm.obj | exact hm.arr _ rfl) (by first | exact ixN (by omega) (by decide) | exact ixz (by omega) (by decide) | exact ixa (a := 64) rfl (by omega) (by decide) | exact ixa (a := 128) rfl (by omega) (by decide) | exact ixa (a := 192) rfl (by omega) (by decide) | exact ixa (a := 256) rfl (by omega) (by decide) | exact ixa (a := 262) rfl (by omega) (by decide) | exact ixa (a := 268) rfl (by omega) (by decide) | exact ixa (a := 274) rfl (by omega) (by decide) | exact ixa (a := 348) rfl (by omega) (by decide) | exact ixa (a := 400) rfl (by omega) (by decide)) ?_
          refine And.intro (fun b63 => ?_) (fun b63 => ?_)
          · simp only [cP, cN, bI_0, Bool.not_eq_false, lt_nle, Decidable.not_not] at b63
            exact absurd (Int32.le_antisymm b63 (hp c hc2)) b48
          · simp only [cP, cN, bI_0, Bool.not_eq_false, lt_nle, Decidable.not_not] at b63
            have hcap : capM S c = true := decide_eq_true (lt_nle.mpr b63)
            refine ih (c + 1) _ _ (by omega) (nI_1 c) ?_ hm hf
            rw [← hk, capAtP]
            rw [if_neg (fun q => b52 q.2), hcap]; rfl
    refine X.w wkX3_isEaten (fcons (ceV k_draw mmW1 ckX3_268 rfl mrW1 (by omega) rfl) (fcons (ceV k_caps mmR0 ckX3_265 rfl mrR0 (by omega) rfl) fnil)) [40] 22 rfl ?_
    refine Exists.intro _ (Exists.intro () (And.intro hm (And.intro trivial ?_)))
    intro v1 e1
    (try dsimp only at e1)
    refine gF (by first | assumption | exact hm.obj | exact hm.arr _ rfl) ?_
    refine And.intro (fun b9 => ?_) (fun b9 => ?_)
    · simp only [cP, cN, bI_0, Bool.not_eq_false, lt_nle, Decidable.not_not] at b9
      refine And.intro (by first | exact Or.inl rfl | exact Or.inr rfl | exact bI_01 _) ?_
      exact And.intro (hs _ _ _ ⟨by unfold eatEM; rw [if_pos b9], by unfold eatM; rw [if_pos b9]⟩ hm hf) rfl
    · simp only [cP, cN, bI_0, Bool.not_eq_false, lt_nle, Decidable.not_not] at b9
      refine And.intro (fun b13 => ?_) (fun b13 => ?_)
      · simp only [cP, cN, bI_0, Bool.not_eq_false, lt_nle, Decidable.not_not] at b13
        refine And.intro (by first | exact Or.inl rfl | exact Or.inr rfl | exact bI_01 _) ?_
        exact And.intro (hs _ _ _ ⟨by unfold eatEM; rw [if_neg b9, if_pos (by rw [← e1]; exact b13)], by unfold eatM; rw [if_neg b9, if_pos (by rw [← e1]; exact b13)]⟩ hm hf) rfl
      · simp only [cP, cN, bI_0, Bool.not_eq_false, lt_nle, Decidable.not_not] at b13
        have b13' : ¬ capsM S = 0 := by rw [← e1]; exact b13
        refine Exists.intro _ (Exists.intro () (And.intro hm (And.intro (show ¬ (1000 : Int32) = 0 by decide) ?_)))
        intro v20 S20 h20 p20 hm hf20
        have hf := hf.tr hf20
        (try dsimp only at p20)
        obtain ⟨rfl, rfl⟩ := p20
        replace hm : IsMod G b (drwM S) h20 := hm
        refine gF (by first | assumption | exact hm.obj | exact hm.arr _ rfl) ?_
        refine And.intro (fun b27 => ?_) (fun b27 => ?_)
        · simp only [cP, cN, bI_0, Bool.not_eq_false, lt_nle, Decidable.not_not] at b27
          have b27' : ¬ S 0 15 ≤ drawR (S 0 4) 1000 := b27
          refine Exists.intro _ (Exists.intro () (And.intro hm (And.intro (by rw [e1]; exact b13') ?_)))
          intro v34 S34 h34 p34 hm hf34
          have hf := hf.tr hf34
          (try dsimp only at p34)
          obtain ⟨rfl, rfl⟩ := p34
          replace hm : IsMod G b (drwM (drwM S)) h34 := hm
          refine loop b13' (fun v h' ev hm hf => hs _ _ _ ⟨by rw [ev]; unfold eatEM; rw [if_neg b9, if_neg b13', if_neg b27'], by unfold eatM; rw [if_neg b9, if_neg b13', if_neg b27']⟩ hm hf) v1 0 _ 64 0 _ _ rfl rfl ?_ hm hf
          unfold eatCM
          rw [e1]
          rfl
        · simp only [cP, cN, bI_0, Bool.not_eq_false, lt_nle, Decidable.not_not] at b27
          have b27' : S 0 15 ≤ drawR (S 0 4) 1000 := b27
          refine And.intro (by first | exact Or.inl rfl | exact Or.inr rfl | exact bI_01 _) ?_
          exact And.intro (hs _ _ _ ⟨by unfold eatEM; rw [if_neg b9, if_neg b13', if_pos b27'], by unfold eatM; rw [if_neg b9, if_neg b13', if_pos b27']⟩ hm hf) rfl
def wetM (S : SS) : Bool := if S 0 13 ≤ 0 ∧ S 1 346 ≤ 0 then false else decide (¬ S 0 13 + 50 * S 1 346 ≤ drawR (S 0 4) 1000)
def wetMS (S : SS) : SS := if S 0 13 ≤ 0 ∧ S 1 346 ≤ 0 then S else drwM S
def dclM (x : Int32) : Int32 := if 89 < x then 89 else if x < -10 then -10 else x
def ranF (S : SS) (w : Bool) (k : Nat) : Nat → Int32 := fun j => if j < k then dclM (S 3 j + (bif w then 5 else -1)) else S 3 j
theorem ranF_0 (S : SS) (w : Bool) : ranF S w 0 = S 3 := by funext j; simp [ranF]
theorem ranF_s {S : SS} {w : Bool} {c : Nat} {x : Int32} (h : x = dclM (S 3 c + (bif w then 5 else -1))) : upd (ranF S w c) c x = ranF S w (c + 1) := by
  funext j
  by_cases e : j = c
  · subst e; rw [pk_us]; simp [ranF, h]
  · rw [pk_un e]; unfold ranF; simp only [show (j < c + 1) ↔ (j < c) from by omega]
theorem ranF_c {S : SS} {w : Bool} {c : Nat} : ranF S w c c = S 3 c := by simp [ranF]
def ranM (S : SS) : SS := setF (wetMS S) 3 (ranF S (wetM S) 64)
theorem k_rains : CtS mX3_rains 2 (mV0 (fun (a : Unit) S => True) (fun (a : Unit) S S' => S' = ranM S)) := by
  intro l G d hd as h z Q hs
  match as, hs with
  | [.ref b], hs =>
    obtain ⟨S, a, hm, hp, hs⟩ := hs
    replace hp : True := hp
    replace hs : ∀ S' h', (S' = ranM S) → IsMod G b S' h' → FrM b h h' → Q none h' := hs
    have hf : FrM b h h := FrM.rf
    refine Ct.of rfl (Nat.le_of_ble_eq_true rfl) rfl ?_
    have loop : ∀ (w : Bool) (S2 : SS), S2 3 = S 3 → (∀ h', IsMod G b (setF S2 3 (ranF S w 64)) h' → FrM b h h' → Q none h') → ∀ (n c : Nat) (i : Int32) (h1 : AH), c + n = 64 → i = nI c → IsMod G b (setF S2 3 (ranF S w c)) h1 → FrM b h h1 → X l G mX3_rains (rmK d 0 0) (TGm G (fun v h' z' => Q v h' ∧ z' = z) 0 0) 0 0 52 [(0, .ref b), (1, .int (bI w)), (2, .int i)] [] h1 z := by
      intro w S2 e2 hs n
      induction n using Nat.strongRecOn with
      | _ n ih =>
      intro c i h1 hc hi hm hf
      subst hi
      have nx : ∀ (x y : Int32), x = dclM (S 3 c + (bif w then 5 else -1)) → c < 64 → X l G mX3_rains (rmK d 0 0) (TGm G (fun v h' z' => Q v h' ∧ z' = z) 0 0) 0 0 103 [(0, .ref b), (1, .int (bI w)), (2, .int (nI c)), (3, .int y)] [.int x, .int (nI c), .ref (b + 3)] h1 z := by
        intro x y hx hc2
        refine X.w wkX3_rains (fcons (ceV k_draw mmW1 ckX3_268 rfl mrW1 (by omega) rfl) fnil) [52] 5 rfl ?_
        refine sA (by first | assumption | exact hm.obj | exact hm.arr _ rfl) (by first | exact ixN (by omega) (by decide) | exact ixz (by omega) (by decide) | exact ixa (a := 64) rfl (by omega) (by decide) | exact ixa (a := 128) rfl (by omega) (by decide) | exact ixa (a := 192) rfl (by omega) (by decide) | exact ixa (a := 256) rfl (by omega) (by decide) | exact ixa (a := 262) rfl (by omega) (by decide) | exact ixa (a := 268) rfl (by omega) (by decide) | exact ixa (a := 274) rfl (by omega) (by decide) | exact ixa (a := 348) rfl (by omega) (by decide) | exact ixa (a := 400) rfl (by omega) (by decide)) (by first | exact hm.N | exact hm.No _) ?_
        intro h103 e103
        have hm := hm.uA e103 rfl; have hf := hf.uA e103 (by decide)
        refine X.cut [(0, .ref b), (1, .int (bI w)), (2, .int (nI c + 1))] [(3, .int y)] rfl ?_
        refine ih (n - 1) (by omega) (c + 1) _ _ (by omega) (nI_1 c) ?_ hf
        rw [up2_set] at hm
        rw [← ranF_s hx]
        exact hm
      have n2 : ∀ (y : Int32), y = S 3 c + (bif w then 5 else -1) → c < 64 → X l G mX3_rains (rmK d 0 0) (TGm G (fun v h' z' => Q v h' ∧ z' = z) 0 0) 0 0 75 [(0, .ref b), (1, .int (bI w)), (2, .int (nI c)), (3, .int y)] [] h1 z := by
        intro y hy hc2
        refine X.w wkX3_rains (fcons (ceV k_draw mmW1 ckX3_268 rfl mrW1 (by omega) rfl) fnil) [103] 13 rfl ?_
        refine gF (by first | assumption | exact hm.obj | exact hm.arr _ rfl) ?_
        refine And.intro (fun b83 => ?_) (fun b83 => ?_)
        · simp only [cP, cN, bI_0, Bool.not_eq_false, lt_nle, Decidable.not_not] at b83
          refine And.intro (fun b94 => ?_) (fun b94 => ?_)
          · simp only [cP, cN, bI_0, Bool.not_eq_false, lt_nle, Decidable.not_not] at b94
            exact nx _ _ (by rw [← hy]; unfold dclM; rw [if_neg (by rw [Int32.not_lt]; exact b83), if_neg (by rw [Int32.not_lt]; exact b94)]) hc2
          · simp only [cP, cN, bI_0, Bool.not_eq_false, lt_nle, Decidable.not_not] at b94
            exact nx _ _ (by rw [← hy]; unfold dclM; rw [if_neg (by rw [Int32.not_lt]; exact b83), if_pos (lt_nle.mpr b94)]) hc2
        · simp only [cP, cN, bI_0, Bool.not_eq_false, lt_nle, Decidable.not_not] at b83
          exact nx _ _ (by rw [← hy]; unfold dclM; rw [if_pos (lt_nle.mpr b83)]) hc2
      refine X.w wkX3_rains (fcons (ceV k_draw mmW1 ckX3_268 rfl mrW1 (by omega) rfl) fnil) [52, 75] 15 rfl ?_
      refine And.intro (fun b55 => ?_) (fun b55 => ?_)
      · simp only [cP, cN, bI_0, Bool.not_eq_false, lt_nle, Decidable.not_not] at b55
        have hc2 : 64 ≤ c := (le64 (by omega) (by omega)).mp b55
        obtain rfl : c = 64 := by omega
        exact And.intro (hs _ hm hf) rfl
      · simp only [cP, cN, bI_0, Bool.not_eq_false, lt_nle, Decidable.not_not] at b55
        have hc2 : c < 64 := nle64 b55 (by omega) (by omega)
        refine gF (by first | assumption | exact hm.obj | exact hm.arr _ rfl) ?_
        refine gA (by first | assumption | exact hm.obj | exact hm.arr _ rfl) (by first | exact ixN (by omega) (by decide) | exact ixz (by omega) (by decide) | exact ixa (a := 64) rfl (by omega) (by decide) | exact ixa (a := 128) rfl (by omega) (by decide) | exact ixa (a := 192) rfl (by omega) (by decide) | exact ixa (a := 256) rfl (by omega) (by decide) | exact ixa (a := 262) rfl (by omega) (by decide) | exact ixa (a := 268) rfl (by omega) (by decide) | exact ixa (a := 274) rfl (by omega) (by decide) | exact ixa (a := 348) rfl (by omega) (by decide) | exact ixa (a := 400) rfl (by omega) (by decide)) ?_
        refine And.intro (fun b65 => ?_) (fun b65 => ?_)
        · simp only [cP, cN, bI_0, Bool.not_eq_false, lt_nle, Decidable.not_not] at b65
          exact n2 _ (by rw [show setF S2 3 (ranF S w c) 3 c = S 3 c from ranF_c, b65]; rfl) hc2
        · simp only [cP, cN, bI_0, Bool.not_eq_false, lt_nle, Decidable.not_not] at b65
          exact n2 _ (by rw [show setF S2 3 (ranF S w c) 3 c = S 3 c from ranF_c, b65]; rfl) hc2
    refine X.w wkX3_rains (fcons (ceV k_draw mmW1 ckX3_268 rfl mrW1 (by omega) rfl) fnil) [52] 28 rfl ?_
    refine gF (by first | assumption | exact hm.obj | exact hm.arr _ rfl) ?_
    refine And.intro (fun b4 => ?_) (fun b4 => ?_)
    · simp only [cP, cN, bI_0, Bool.not_eq_false, lt_nle, Decidable.not_not] at b4
      refine Exists.intro _ (Exists.intro () (And.intro hm (And.intro (show ¬ (1000 : Int32) = 0 by decide) ?_)))
      intro v22 S22 h22 p22 hm hf22
      have hf := hf.tr hf22
      (try dsimp only at p22)
      obtain ⟨rfl, rfl⟩ := p22
      replace hm : IsMod G b (drwM S) h22 := hm
      refine gF (by first | assumption | exact hm.obj | exact hm.arr _ rfl) ?_
      refine gF (by first | assumption | exact hm.obj | exact hm.arr _ rfl) ?_
      refine gA (by first | assumption | exact hm.obj | exact hm.arr _ rfl) (ixE (j := 346) rfl (by decide) (by decide)) ?_
      refine And.intro (fun b41 => ?_) (fun b41 => ?_)
      · simp only [cP, cN, bI_0, Bool.not_eq_false, lt_nle, Decidable.not_not] at b41
        have b41' : S 0 13 + 50 * S 1 346 ≤ drawR (S 0 4) 1000 := b41
        have ew : wetM S = false := by unfold wetM; rw [if_neg (fun q => b4 q.1)]; simp only [b41', decide_true, decide_false, Bool.and_true, Bool.true_and, Bool.and_false, Bool.false_and, Bool.or_true, Bool.true_or, Bool.or_false, Bool.false_or, not_true_eq_false, not_false_eq_true, Bool.not_true, Bool.not_false, decide_not, if_true, if_false, and_true, true_and, and_false, false_and, or_true, true_or, or_false, false_or, Bool.false_eq_true]
        have es : wetMS S = drwM S := by unfold wetMS; rw [if_neg (fun q => b4 q.1)]
        refine loop false (drwM S) rfl (fun h' hm hf => hs _ _ (by unfold ranM; rw [ew, es]) hm hf) 64 0 _ _ rfl rfl ?_ hf
        rw [ranF_0]
        exact (by rw [show setF (drwM S) 3 (S 3) = drwM S from setF_self (drwM S) 3]; exact hm)
      · simp only [cP, cN, bI_0, Bool.not_eq_false, lt_nle, Decidable.not_not] at b41
        have b41' : ¬ S 0 13 + 50 * S 1 346 ≤ drawR (S 0 4) 1000 := b41
        have ew : wetM S = true := by unfold wetM; rw [if_neg (fun q => b4 q.1)]; simp only [b41', decide_true, decide_false, Bool.and_true, Bool.true_and, Bool.and_false, Bool.false_and, Bool.or_true, Bool.true_or, Bool.or_false, Bool.false_or, not_true_eq_false, not_false_eq_true, Bool.not_true, Bool.not_false, decide_not, if_true, if_false, and_true, true_and, and_false, false_and, or_true, true_or, or_false, false_or, Bool.false_eq_true]
        have es : wetMS S = drwM S := by unfold wetMS; rw [if_neg (fun q => b4 q.1)]
        refine loop true (drwM S) rfl (fun h' hm hf => hs _ _ (by unfold ranM; rw [ew, es]) hm hf) 64 0 _ _ rfl rfl ?_ hf
        rw [ranF_0]
        exact (by rw [show setF (drwM S) 3 (S 3) = drwM S from setF_self (drwM S) 3]; exact hm)
    · simp only [cP, cN, bI_0, Bool.not_eq_false, lt_nle, Decidable.not_not] at b4
      refine gF (by first | assumption | exact hm.obj | exact hm.arr _ rfl) ?_
      refine gA (by first | assumption | exact hm.obj | exact hm.arr _ rfl) (ixE (j := 346) rfl (by decide) (by decide)) ?_
      refine And.intro (fun b15 => ?_) (fun b15 => ?_)
      · simp only [cP, cN, bI_0, Bool.not_eq_false, lt_nle, Decidable.not_not] at b15
        have ew : wetM S = false := by unfold wetM; rw [if_pos ⟨b4, b15⟩]
        have es : wetMS S = S := by unfold wetMS; rw [if_pos ⟨b4, b15⟩]
        refine loop false (S) rfl (fun h' hm hf => hs _ _ (by unfold ranM; rw [ew, es]) hm hf) 64 0 _ _ rfl rfl ?_ hf
        rw [ranF_0]
        exact (by rw [show setF (S) 3 (S 3) = S from setF_self (S) 3]; exact hm)
      · simp only [cP, cN, bI_0, Bool.not_eq_false, lt_nle, Decidable.not_not] at b15
        refine Exists.intro _ (Exists.intro () (And.intro hm (And.intro (show ¬ (1000 : Int32) = 0 by decide) ?_)))
        intro v22 S22 h22 p22 hm hf22
        have hf := hf.tr hf22
        (try dsimp only at p22)
        obtain ⟨rfl, rfl⟩ := p22
        replace hm : IsMod G b (drwM S) h22 := hm
        refine gF (by first | assumption | exact hm.obj | exact hm.arr _ rfl) ?_
        refine gF (by first | assumption | exact hm.obj | exact hm.arr _ rfl) ?_
        refine gA (by first | assumption | exact hm.obj | exact hm.arr _ rfl) (ixE (j := 346) rfl (by decide) (by decide)) ?_
        refine And.intro (fun b41 => ?_) (fun b41 => ?_)
        · simp only [cP, cN, bI_0, Bool.not_eq_false, lt_nle, Decidable.not_not] at b41
          have b41' : S 0 13 + 50 * S 1 346 ≤ drawR (S 0 4) 1000 := b41
          have ew : wetM S = false := by unfold wetM; rw [if_neg (fun q => b15 q.2)]; simp only [b41', decide_true, decide_false, Bool.and_true, Bool.true_and, Bool.and_false, Bool.false_and, Bool.or_true, Bool.true_or, Bool.or_false, Bool.false_or, not_true_eq_false, not_false_eq_true, Bool.not_true, Bool.not_false, decide_not, if_true, if_false, and_true, true_and, and_false, false_and, or_true, true_or, or_false, false_or, Bool.false_eq_true]
          have es : wetMS S = drwM S := by unfold wetMS; rw [if_neg (fun q => b15 q.2)]
          refine loop false (drwM S) rfl (fun h' hm hf => hs _ _ (by unfold ranM; rw [ew, es]) hm hf) 64 0 _ _ rfl rfl ?_ hf
          rw [ranF_0]
          exact (by rw [show setF (drwM S) 3 (S 3) = drwM S from setF_self (drwM S) 3]; exact hm)
        · simp only [cP, cN, bI_0, Bool.not_eq_false, lt_nle, Decidable.not_not] at b41
          have b41' : ¬ S 0 13 + 50 * S 1 346 ≤ drawR (S 0 4) 1000 := b41
          have ew : wetM S = true := by unfold wetM; rw [if_neg (fun q => b15 q.2)]; simp only [b41', decide_true, decide_false, Bool.and_true, Bool.true_and, Bool.and_false, Bool.false_and, Bool.or_true, Bool.true_or, Bool.or_false, Bool.false_or, not_true_eq_false, not_false_eq_true, Bool.not_true, Bool.not_false, decide_not, if_true, if_false, and_true, true_and, and_false, false_and, or_true, true_or, or_false, false_or, Bool.false_eq_true]
          have es : wetMS S = drwM S := by unfold wetMS; rw [if_neg (fun q => b15 q.2)]
          refine loop true (drwM S) rfl (fun h' hm hf => hs _ _ (by unfold ranM; rw [ew, es]) hm hf) 64 0 _ _ rfl rfl ?_ hf
          rw [ranF_0]
          exact (by rw [show setF (drwM S) 3 (S 3) = drwM S from setF_self (drwM S) 3]; exact hm)
