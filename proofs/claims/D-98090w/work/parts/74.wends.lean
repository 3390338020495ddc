set_option maxRecDepth 100000
/-! the end of a day -/
theorem nI_bv (x : Int32) : nI x.toBitVec.toNat = x := by
  apply Int32.toBitVec_inj.mp
  show BitVec.ofNat 32 x.toBitVec.toNat = x.toBitVec
  simp
def drawN (s : Int32) : Nat := (drawS s).toBitVec.toNat / 256
theorem drawN_lt (s : Int32) : drawN s < 2 ^ 24 := by
  unfold drawN
  have := (drawS s).toBitVec.isLt
  omega
theorem drawR_nI {s : Int32} {m : Nat} (h0 : 0 < m) (hm : m < 2 ^ 31) : drawR s (nI m) = nI (drawN s % m) := by
  have e : ((drawS s).toUInt32 >>> ((8 : Int32).toUInt32 &&& Int32.toUInt32 31)).toInt32 = nI (drawN s) := by
    rw [← nI_bv ((drawS s).toUInt32 >>> ((8 : Int32).toUInt32 &&& Int32.toUInt32 31)).toInt32, pk_ushr (drawS s) 8 8 (by decide)]
    rfl
  unfold drawR
  rw [e, pk_rem (by have := drawN_lt s; omega) h0 hm]
/-- how many caps are among n cells from c on -/
def cntC (S : Nat → Nat → Int32) : Nat → Nat → Nat
  | 0, _ => 0
  | n + 1, c => (bif capB S (nI c) then 1 else 0) + cntC S n (c + 1)
theorem cntC_le (S : Nat → Nat → Int32) : ∀ n c, cntC S n c ≤ n
  | 0, _ => Nat.le_refl _
  | n + 1, c => by
    have := cntC_le S n (c + 1)
    unfold cntC
    cases capB S (nI c) <;> simp <;> omega
theorem capsN_cnt (S : Nat → Nat → Int32) : ∀ n c, capsN S (c + n) = capsN S c + nI (cntC S n c)
  | 0, c => by
    show capsN S c = capsN S c + 0
    simp
  | n + 1, c => by
    rw [show c + (n + 1) = (c + 1) + n from by omega, capsN_cnt S n (c + 1), capsN, cntC, ← nI_add]
    have e : bI (capB S (nI c)) = nI (bif capB S (nI c) then 1 else 0) := by cases capB S (nI c) <;> rfl
    rw [e, Int32.add_assoc]
theorem caps_nI (S : Nat → Nat → Int32) : capsN S 64 = nI (cntC S 64 0) := by
  have h := capsN_cnt S 64 0
  rw [show (0 : Nat) + 64 = 64 from rfl] at h
  rw [h]
  show 0 + _ = _
  simp
theorem capAt_lt (S : Nat → Nat → Int32) : ∀ (n c t : Nat), t < cntC S n c → t < 2 ^ 31 → capAtF S n c (nI t) < c + n
  | 0, _, _, h, _ => absurd h (Nat.not_lt_zero _)
  | n + 1, c, t, h, ht => by
    unfold cntC at h
    unfold capAtF
    split
    · omega
    · rename_i hn
      cases hc : capB S (nI c) with
      | false =>
        rw [hc] at h
        have e : nI t - bI false = nI t := by
          show nI t - 0 = nI t
          simp
        rw [e]
        have := capAt_lt S n (c + 1) t (by simpa using h) ht
        omega
      | true =>
        rw [hc] at h
        have h1 : ¬ nI t ≤ 0 := fun q => hn ⟨hc, q⟩
        have h2 : 0 < t := by
          rcases Nat.eq_zero_or_pos t with e | e
          · subst e; exact absurd (Int32.le_refl 0) h1
          · exact e
        obtain ⟨t', rfl⟩ : ∃ t', t = t' + 1 := ⟨t - 1, by omega⟩
        have e : nI (t' + 1) - bI true = nI t' := nI_pred t'
        rw [e]
        have := capAt_lt S n (c + 1) t' (by simp at h; omega) (by omega)
        omega
theorem capsN_congr {S S' : Nat → Nat → Int32} (h1 : S' 0 12 = S 0 12) (h2 : S' 0 13 = S 0 13) (h3 : S' 2 = S 2) : ∀ n, capsN S' n = capsN S n
  | 0 => rfl
  | n + 1 => by
    have e : capB S' (nI n) = capB S (nI n) := by simp only [capB, isCellB, h1, h2, h3]
    rw [capsN, capsN, capsN_congr h1 h2 h3 n, e]
theorem capAtF_congr {S S' : Nat → Nat → Int32} (h1 : S' 0 12 = S 0 12) (h2 : S' 0 13 = S 0 13) (h3 : S' 2 = S 2) : ∀ (n c : Nat) (k : Int32), capAtF S' n c k = capAtF S n c k
  | 0, _, _ => rfl
  | n + 1, c, k => by
    have e : capB S' (nI c) = capB S (nI c) := by simp only [capB, isCellB, h1, h2, h3]
    unfold capAtF
    rw [e, capAtF_congr h1 h2 h3 n]
def drw (S : Nat → Nat → Int32) : Nat → Nat → Int32 := up2 S 0 18 (drawS (S 0 18))
def eatC (S : Nat → Nat → Int32) : Nat := capAtF (drw (drw S)) 64 0 (drawR (drw S 0 18) (capsN (drw S) 64))
def eatS (S : Nat → Nat → Int32) : Nat → Nat → Int32 := if S 0 23 ≤ 0 then S else if capsN S 64 ≤ 0 then S else if S 0 23 ≤ drawR (S 0 18) 1000 then drw S else setF (drw (drw S)) 2 (upd (drw (drw S) 2) (eatC S) (-1))
def eatE (S : Nat → Nat → Int32) : Int32 := if S 0 23 ≤ 0 then 0 else if capsN S 64 ≤ 0 then 0 else if S 0 23 ≤ drawR (S 0 18) 1000 then 0 else 1
def wetS (S : Nat → Nat → Int32) : Nat → Nat → Int32 := if S 0 21 ≤ 0 ∧ S 0 20 ≤ 0 then S else drw S
def wetB (S : Nat → Nat → Int32) : Bool := if S 0 21 ≤ 0 ∧ S 0 20 ≤ 0 then false else decide (¬ S 0 21 + 50 * S 0 20 ≤ drawR (S 0 18) 1000)
def frzS (S : Nat → Nat → Int32) : Nat → Nat → Int32 := if S 0 22 ≤ 0 then S else drw S
def frzE (S : Nat → Nat → Int32) : Int32 := if S 0 22 ≤ 0 then 0 else if S 0 22 ≤ drawR (S 0 18) 1000 then 0 else 1
def sickF (S : Nat → Nat → Int32) : Nat → Nat → Nat → Int32
  | 0 => S
  | p + 1 => up2 (sickF S p) (113 + 2 * p) 2 (maxI 0 (sickF S p (113 + 2 * p) 2 - 1))
def t146 (S : Nat → Nat → Int32) (m : Nat) : Nat → Nat → Int32 := up2 (sickF S m) 0 14 (sickF S m 0 14 + 1)
def t136 (S : Nat → Nat → Int32) (f : Int32) (m : Nat) : Nat → Nat → Int32 := t146 (up2 (up2 S 0 19 f) 0 20 0) m
def t109 (S : Nat → Nat → Int32) (m : Nat) : Nat → Nat → Int32 := t136 (frzS S) (frzE S) m
def t95 (S : Nat → Nat → Int32) (w : Bool) (m : Nat) : Nat → Nat → Int32 := t109 (allDampF S (bif w then 5 else -1)) m
def t54 (S : Nat → Nat → Int32) (m : Nat) : Nat → Nat → Int32 := t95 (wetS S) (wetB S) m
def endS (S : Nat → Nat → Int32) (m : Nat) : Nat → Nat → Int32 := t54 (eatS S) m
theorem eatS_1 {S : Nat → Nat → Int32} (h : S 0 23 ≤ 0) : eatS S = S ∧ eatE S = 0 := ⟨if_pos h, if_pos h⟩
theorem eatS_2 {S : Nat → Nat → Int32} {v : Int32} (h : ¬ S 0 23 ≤ 0) (hv : v = capsN S 64) (h2 : v ≤ 0) : eatS S = S ∧ eatE S = 0 := by
  subst hv
  exact ⟨(if_neg h).trans (if_pos h2), (if_neg h).trans (if_pos h2)⟩
theorem eatS_3 {S : Nat → Nat → Int32} {v x : Int32} (h : ¬ S 0 23 ≤ 0) (hv : v = capsN S 64) (h2 : ¬ v ≤ 0) (hx : x = S 0 23) (h3 : x ≤ drawR (S 0 18) 1000) : eatS S = drw S ∧ eatE S = 0 := by
  subst hv
  subst hx
  exact ⟨((if_neg h).trans (if_neg h2)).trans (if_pos h3), ((if_neg h).trans (if_neg h2)).trans (if_pos h3)⟩
theorem eatS_4 {S : Nat → Nat → Int32} {v x : Int32} {q : Nat} (h : ¬ S 0 23 ≤ 0) (hv : v = capsN S 64) (h2 : ¬ v ≤ 0) (hx : x = S 0 23) (hq : q = eatC S) (h3 : ¬ x ≤ drawR (S 0 18) 1000) : eatS S = setF (drw (drw S)) 2 (upd (drw (drw S) 2) q (-1)) ∧ eatE S = 1 := by
  subst hv
  subst hx
  subst hq
  exact ⟨((if_neg h).trans (if_neg h2)).trans (if_neg h3), ((if_neg h).trans (if_neg h2)).trans (if_neg h3)⟩
theorem sickF_lo (S : Nat → Nat → Int32) : ∀ (m o : Nat), o < 113 → sickF S m o = S o
  | 0, _, _ => rfl
  | m + 1, o, h => by
    unfold sickF
    show setF _ _ _ o = _
    rw [setF_n (by omega)]
    exact sickF_lo S m o h
theorem IsWood.upf {G : GG} {b law : Nat} {S : Nat → Nat → Int32} {h h2 : AH} (w : IsWood G b S law h) {o k : Nat} {x : Int32} (ho : wK o = 6) (hk : k = 1 ∨ k = 2 ∨ k = 3) (e : h2 = ahU h (b + o) (.inr (2, (pF b S o).set k (.int x)))) : IsWood G b (up2 S o k x) law h2 := by
  rw [e]
  refine w.wr ?_ (fun o' h => setF_n h)
  unfold wC
  rw [ho]
  have e1 : up2 S o k x o = upd (S o) k x := setF_s
  show some _ = some _
  unfold pF
  rw [e1]
  rcases hk with rfl | rfl | rfl <;> rfl
theorem wC_pers {G : GG} {b law p : Nat} {S : Nat → Nat → Int32} (h : p < 6) : wC G b S law (113 + 2 * p) = some (.inr (2, pF b S (113 + 2 * p))) := by
  unfold wC
  rw [(wK_p h).1]
  rfl
def spEnds : GG → CSpec := fun G as h Q => match as with
  | [.ref b] => ∃ (S : Nat → Nat → Int32) (law : Nat) (ls : List Line9) (m : Nat), IsWood G b S law h ∧ (∀ h', Fr b h h' → IsLaw G h' law ls) ∧ S 0 16 = nI m ∧ m ≤ 6 ∧ ∀ x h', IsWood G b (endS (up2 (allGrowF S ls) 0 24 x) m) law h' → Fr b h h' → Q (some (.int (eatE (up2 (allGrowF S ls) 0 24 x)))) h'
  | _ => False
theorem moEnds {G : GG} : Mono (spEnds G) := by
  intro as h Q Q' hQ hs
  unfold spEnds at hs ⊢
  split at hs
  · obtain ⟨S, law, ls, m, h1, h2, h3, h4, h5⟩ := hs
    exact ⟨S, law, ls, m, h1, h2, h3, h4, fun x h' a b => hQ _ _ (h5 x h' a b)⟩
  · exact hs.elim
theorem rcEnds {G : GG} : ∀ as h Q, as.length = 0 + 1 → spEnds G as h Q → ∃ b as', as = .ref b :: as' ∧ ∃ fs, h b = some (.inr (1, fs)) := by
  intro as h Q _ hs
  unfold spEnds at hs
  split at hs
  · obtain ⟨S, law, ls, m, h1, h2, h3, h4, h5⟩ := hs
    exact ⟨_, _, rfl, wood_recv h1⟩
  · exact hs.elim

section ED
variable {l : Launch} {G : GG} {d z b law m : Nat} {h : AH} {Q : Option Value → AH → Prop}
theorem e_54 (hd : DEP + 10 ≤ d) (hm6 : m ≤ 6) : ∀ (S S' : Nat → Nat → Int32) (e e' : Int32) (h1 : AH), S' = S → e' = e → S 0 16 = nI m → (∀ h', IsWood G b (t54 S' m) law h' → Fr b h h' → Q (some (.int e')) h') → IsWood G b S law h1 → Fr b h h1 → X l G mX1_endsDay (rmK d 0 0) (TGm G (fun v h' z' => Q v h' ∧ z' = z) 0 0) 0 0 54 [(0, .ref b), (1, .int e)] [] h1 z := by
    have j146 : ∀ (S : Nat → Nat → Int32) (e w : Int32) (n c : Nat) (i : Int32) (h1 : AH), c + n = m → i = nI c → (S 0 16 = nI m) → (∀ h', IsWood G b (t146 S m) law h' → Fr b h h' → Q (some (.int e)) h') → (IsWood G b (sickF S c) law h1) → (Fr b h h1) → X l G mX1_endsDay (rmK d 0 0) (TGm G (fun v h' z' => Q v h' ∧ z' = z) 0 0) 0 0 146 [(0, .ref b), (1, .int e), (2, .int w), (3, .int i)] [] h1 z := by
      intro S e w n
      induction n using Nat.strongRecOn with
      | _ n ih =>
      intro c i h1 hc hi hmm hs hw hf
      subst hi
      have em : sickF S c 0 16 = nI m := by rw [sickF_lo _ _ _ (by decide)]; exact hmm
      refine X.w wkX1_endsDay (fcons (ceV c_allGrow moAllGrow ckX1_164 rfl rcAllGrow (by omega) rfl) (fcons (ceV c_caps moW0 ckX1_167 rfl rcW0 (by unfold DEP at hd; omega) rfl) (fcons (ceV c_draw moDraw ckX1_170 rfl rcDraw (by unfold DEP at hd; omega) rfl) (fcons (ceV c_capAt moCapAt ckX1_173 rfl rcCapAt (by unfold DEP at hd; omega) rfl) (fcons (ceV c_allDamp moV1 ckX1_176 rfl rcV1 (by unfold DEP at hd; omega) rfl) (fcons (ceMax ckX1_158 q862 (by unfold DEP at hd; omega)) fnil)))))) [146] 22 rfl ?_
      refine gF (by first | assumption | exact hw.obj | exact hw.arr 111 rfl | exact hw.arr _ (wC_pers (by have := nle64 (k := m) (em ▸ b151) (by omega) (by omega); omega))) ?_
      refine And.intro (fun b151 => ?_) (fun b151 => ?_)
      · simp only [cP, cN, bI_0, Bool.not_eq_false, lt_nle, Decidable.not_not] at b151
        refine gF (by first | assumption | exact hw.obj | exact hw.arr 111 rfl | exact hw.arr _ (wC_pers (by have := nle64 (k := m) (em ▸ b151) (by omega) (by omega); omega))) ?_
        refine pF0 (okV_W rfl) (by first | assumption | exact hw.obj | exact hw.arr 111 rfl | exact hw.arr _ (wC_pers (by have := nle64 (k := m) (em ▸ b151) (by omega) (by omega); omega))) (Nat.le_of_ble_eq_true rfl) (by first | assumption | exact hw.N | exact hw.No _) ?_
        intro h191 e191
        have hw := hw.u0 e191 rfl; have hf := hf.u0 e191
        have hc2 : m ≤ c := (le64 (by omega) (by omega)).mp (em ▸ b151)
        have e9 : c = m := by omega
        subst e9
        exact And.intro (hs _ hw hf) rfl
      · simp only [cP, cN, bI_0, Bool.not_eq_false, lt_nle, Decidable.not_not] at b151
        refine gF (by first | assumption | exact hw.obj | exact hw.arr 111 rfl | exact hw.arr _ (wC_pers (by have := nle64 (k := m) (em ▸ b151) (by omega) (by omega); omega))) ?_
        refine gR (by first | assumption | exact hw.obj | exact hw.arr 111 rfl | exact hw.arr _ (wC_pers (by have := nle64 (k := m) (em ▸ b151) (by omega) (by omega); omega))) (by decide) (by have := nle64 (k := m) (em ▸ b151) (by omega) (by omega); exact ixN (by omega) (by decide)) (by exact rfl) ?_
        refine gF (by first | assumption | exact hw.obj | exact hw.arr 111 rfl | exact hw.arr _ (wC_pers (by have := nle64 (k := m) (em ▸ b151) (by omega) (by omega); omega))) ?_
        refine gR (by first | assumption | exact hw.obj | exact hw.arr 111 rfl | exact hw.arr _ (wC_pers (by have := nle64 (k := m) (em ▸ b151) (by omega) (by omega); omega))) (by decide) (by have := nle64 (k := m) (em ▸ b151) (by omega) (by omega); exact ixN (by omega) (by decide)) (by exact rfl) ?_
        refine gF (by first | assumption | exact hw.obj | exact hw.arr 111 rfl | exact hw.arr _ (wC_pers (by have := nle64 (k := m) (em ▸ b151) (by omega) (by omega); omega))) ?_
        refine pF0 (okV_W rfl) (by first | assumption | exact hw.obj | exact hw.arr 111 rfl | exact hw.arr _ (wC_pers (by have := nle64 (k := m) (em ▸ b151) (by omega) (by omega); omega))) (Nat.le_of_ble_eq_true rfl) (by first | assumption | exact hw.N | exact hw.No _) ?_
        intro h175 e175
        have hc2 := nle64 (k := m) (em ▸ b151) (by omega) (by omega)
        exact ih (n - 1) (by omega) (c + 1) _ _ (by omega) (nI_1 c) hmm hs (hw.upf (wK_p (by omega)).1 (Or.inr (Or.inl rfl)) e175) (hf.uA e175 (by omega))
    have j136 : ∀ (S : Nat → Nat → Int32) (e w f : Int32) (h1 : AH), S 0 16 = nI m → (∀ h', IsWood G b (t136 S f m) law h' → Fr b h h' → Q (some (.int e)) h') → IsWood G b S law h1 → Fr b h h1 → X l G mX1_endsDay (rmK d 0 0) (TGm G (fun v h' z' => Q v h' ∧ z' = z) 0 0) 0 0 136 [(0, .ref b), (1, .int e), (2, .int w)] [.int f, .ref b] h1 z := by
      intro S e w f h1 hmm hs hw hf
      refine X.w wkX1_endsDay fnil [146] 8 rfl ?_
      refine pF0 (okV_W rfl) (by first | assumption | exact hw.obj) (Nat.le_of_ble_eq_true rfl) hw.N ?_
      intro h136 e136
      have hw := hw.u0 e136 rfl; have hf := hf.u0 e136
      refine pF0 (okV_W rfl) (by first | assumption | exact hw.obj) (Nat.le_of_ble_eq_true rfl) hw.N ?_
      intro h141 e141
      have hw := hw.u0 e141 rfl; have hf := hf.u0 e141
      exact j146 (up2 (up2 S 0 19 f) 0 20 0) e w m 0 _ _ (by omega) rfl hmm hs hw hf
    have j109 : ∀ (S : Nat → Nat → Int32) (e w : Int32) (h1 : AH), S 0 16 = nI m → (∀ h', IsWood G b (t109 S m) law h' → Fr b h h' → Q (some (.int e)) h') → IsWood G b S law h1 → Fr b h h1 → X l G mX1_endsDay (rmK d 0 0) (TGm G (fun v h' z' => Q v h' ∧ z' = z) 0 0) 0 0 109 [(0, .ref b), (1, .int e), (2, .int w)] [] h1 z := by
      intro S e w h1 hmm hs hw hf
      refine X.w wkX1_endsDay (fcons (ceV c_allGrow moAllGrow ckX1_164 rfl rcAllGrow (by omega) rfl) (fcons (ceV c_caps moW0 ckX1_167 rfl rcW0 (by unfold DEP at hd; omega) rfl) (fcons (ceV c_draw moDraw ckX1_170 rfl rcDraw (by unfold DEP at hd; omega) rfl) (fcons (ceV c_capAt moCapAt ckX1_173 rfl rcCapAt (by unfold DEP at hd; omega) rfl) (fcons (ceV c_allDamp moV1 ckX1_176 rfl rcV1 (by unfold DEP at hd; omega) rfl) (fcons (ceMax ckX1_158 q862 (by unfold DEP at hd; omega)) fnil)))))) [136] 14 rfl ?_
      refine gF (by first | assumption | exact hw.obj) ?_
      refine And.intro (fun b114 => ?_) (fun b114 => ?_)
      · simp only [cP, cN, bI_0, Bool.not_eq_false, lt_nle, Decidable.not_not] at b114
        have ez : frzS S = S := by simp only [frzS, b114, if_true]
        have ez2 : frzE S = 0 := by simp only [frzE, b114, if_true]
        unfold t109 at hs
        rw [ez, ez2] at hs
        exact j136 S e w 0 _ hmm hs hw hf
      · simp only [cP, cN, bI_0, Bool.not_eq_false, lt_nle, Decidable.not_not] at b114
        refine Exists.intro _ (Exists.intro law (And.intro hw (And.intro (by decide) ?_)))
        intro vh121 h121 evh121 hw hf2
        have hf := hf.tr hf2
        refine gF (by first | assumption | exact hw.obj) ?_
        refine And.intro (fun b128 => ?_) (fun b128 => ?_)
        · simp only [cP, cN, bI_0, Bool.not_eq_false, lt_nle, Decidable.not_not] at b128
          have ez : frzS S = drw S := by simp only [frzS, b114, if_false]
          have b128' : S 0 22 ≤ drawR (S 0 18) 1000 := evh121 ▸ b128
          have ez2 : frzE S = 0 := by simp only [frzE, b114, b128', if_true, if_false]
          unfold t109 at hs
          rw [ez, ez2] at hs
          exact j136 (drw S) e w 0 _ hmm hs hw hf
        · simp only [cP, cN, bI_0, Bool.not_eq_false, lt_nle, Decidable.not_not] at b128
          have ez : frzS S = drw S := by simp only [frzS, b114, if_false]
          have b128' : ¬ S 0 22 ≤ drawR (S 0 18) 1000 := evh121 ▸ b128
          have ez2 : frzE S = 1 := by simp only [frzE, b114, b128', if_true, if_false]
          unfold t109 at hs
          rw [ez, ez2] at hs
          exact j136 (drw S) e w 1 _ hmm hs hw hf
    have j95 : ∀ (S : Nat → Nat → Int32) (e : Int32) (w : Bool) (h1 : AH), S 0 16 = nI m → (∀ h', IsWood G b (t95 S w m) law h' → Fr b h h' → Q (some (.int e)) h') → IsWood G b S law h1 → Fr b h h1 → X l G mX1_endsDay (rmK d 0 0) (TGm G (fun v h' z' => Q v h' ∧ z' = z) 0 0) 0 0 95 [(0, .ref b), (1, .int e)] [.int (bI w)] h1 z := by
      intro S e w h1 hmm hs hw hf
      unfold t95 at hs
      refine X.w wkX1_endsDay (fcons (ceV c_allGrow moAllGrow ckX1_164 rfl rcAllGrow (by omega) rfl) (fcons (ceV c_caps moW0 ckX1_167 rfl rcW0 (by unfold DEP at hd; omega) rfl) (fcons (ceV c_draw moDraw ckX1_170 rfl rcDraw (by unfold DEP at hd; omega) rfl) (fcons (ceV c_capAt moCapAt ckX1_173 rfl rcCapAt (by unfold DEP at hd; omega) rfl) (fcons (ceV c_allDamp moV1 ckX1_176 rfl rcV1 (by unfold DEP at hd; omega) rfl) (fcons (ceMax ckX1_158 q862 (by unfold DEP at hd; omega)) fnil)))))) [109] 9 rfl ?_
      refine And.intro (fun b98 => ?_) (fun b98 => ?_)
      · simp only [cP, cN, bI_0, Bool.not_eq_false, lt_nle, Decidable.not_not] at b98
        refine Exists.intro _ (Exists.intro law (And.intro hw ?_))
        intro h106 hw hf2
        have hf := hf.tr hf2
        rw [b98] at hs; exact j109 (allDampF S (-1)) e (bI w) _ hmm hs hw hf
      · simp only [cP, cN, bI_0, Bool.not_eq_false, lt_nle, Decidable.not_not] at b98
        refine Exists.intro _ (Exists.intro law (And.intro hw ?_))
        intro h106 hw hf2
        have hf := hf.tr hf2
        rw [b98] at hs; exact j109 (allDampF S 5) e (bI w) _ hmm hs hw hf
    skip
    · intro S1 S e1 e h1 eS ee hmm hs hw hf
      subst eS
      subst ee
      unfold t54 at hs
      refine X.w wkX1_endsDay (fcons (ceV c_allGrow moAllGrow ckX1_164 rfl rcAllGrow (by omega) rfl) (fcons (ceV c_caps moW0 ckX1_167 rfl rcW0 (by unfold DEP at hd; omega) rfl) (fcons (ceV c_draw moDraw ckX1_170 rfl rcDraw (by unfold DEP at hd; omega) rfl) (fcons (ceV c_capAt moCapAt ckX1_173 rfl rcCapAt (by unfold DEP at hd; omega) rfl) (fcons (ceV c_allDamp moV1 ckX1_176 rfl rcV1 (by unfold DEP at hd; omega) rfl) (fcons (ceMax ckX1_158 q862 (by unfold DEP at hd; omega)) fnil)))))) [95] 21 rfl ?_
      refine gF (by first | assumption | exact hw.obj) ?_
      refine And.intro (fun b58 => ?_) (fun b58 => ?_)
      · simp only [cP, cN, bI_0, Bool.not_eq_false, lt_nle, Decidable.not_not] at b58
        refine Exists.intro _ (Exists.intro law (And.intro hw (And.intro (by decide) ?_)))
        intro vh72 h72 evh72 hw hf2
        have hf := hf.tr hf2
        refine gF (by first | assumption | exact hw.obj) ?_
        refine gF (by first | assumption | exact hw.obj) ?_
        refine And.intro (fun b87 => ?_) (fun b87 => ?_)
        · simp only [cP, cN, bI_0, Bool.not_eq_false, lt_nle, Decidable.not_not] at b87
          have b87' :  S 0 21 + 50 * S 0 20 ≤ drawR (S 0 18) 1000 := evh72 ▸ b87
          have ez : wetS S = drw S := by unfold wetS; rw [if_neg (fun q => b58 q.1)]
          have ez2 : wetB S = false := by
            unfold wetB
            rw [if_neg (fun q => b58 q.1)]
            simp only [b87', decide_true, decide_false, Bool.and_true, Bool.true_and, Bool.and_false, Bool.false_and, Bool.or_true, Bool.true_or, Bool.or_false, Bool.false_or, not_true_eq_false, not_false_eq_true, Bool.not_true, Bool.not_false, decide_not, if_true, if_false, and_true, true_and, and_false, false_and, or_true, true_or, or_false, false_or, Bool.false_eq_true]
          rw [ez, ez2] at hs
          exact j95 (drw S) e false _ hmm hs hw hf
        · simp only [cP, cN, bI_0, Bool.not_eq_false, lt_nle, Decidable.not_not] at b87
          have b87' : ¬ S 0 21 + 50 * S 0 20 ≤ drawR (S 0 18) 1000 := evh72 ▸ b87
          have ez : wetS S = drw S := by unfold wetS; rw [if_neg (fun q => b58 q.1)]
          have ez2 : wetB S = true := by
            unfold wetB
            rw [if_neg (fun q => b58 q.1)]
            simp only [b87', decide_true, decide_false, Bool.and_true, Bool.true_and, Bool.and_false, Bool.false_and, Bool.or_true, Bool.true_or, Bool.or_false, Bool.false_or, not_true_eq_false, not_false_eq_true, Bool.not_true, Bool.not_false, decide_not, if_true, if_false, and_true, true_and, and_false, false_and, or_true, true_or, or_false, false_or, Bool.false_eq_true]
          rw [ez, ez2] at hs
          exact j95 (drw S) e true _ hmm hs hw hf
      · simp only [cP, cN, bI_0, Bool.not_eq_false, lt_nle, Decidable.not_not] at b58
        refine gF (by first | assumption | exact hw.obj) ?_
        refine And.intro (fun b65 => ?_) (fun b65 => ?_)
        · simp only [cP, cN, bI_0, Bool.not_eq_false, lt_nle, Decidable.not_not] at b65
          have ez : wetS S = S := by unfold wetS; rw [if_pos ⟨b58, b65⟩]
          have ez2 : wetB S = false := by unfold wetB; rw [if_pos ⟨b58, b65⟩]
          rw [ez, ez2] at hs
          exact j95 S e false _ hmm hs hw hf
        · simp only [cP, cN, bI_0, Bool.not_eq_false, lt_nle, Decidable.not_not] at b65
          refine Exists.intro _ (Exists.intro law (And.intro hw (And.intro (by decide) ?_)))
          intro vh72 h72 evh72 hw hf2
          have hf := hf.tr hf2
          refine gF (by first | assumption | exact hw.obj) ?_
          refine gF (by first | assumption | exact hw.obj) ?_
          refine And.intro (fun b87 => ?_) (fun b87 => ?_)
          · simp only [cP, cN, bI_0, Bool.not_eq_false, lt_nle, Decidable.not_not] at b87
            have b87' :  S 0 21 + 50 * S 0 20 ≤ drawR (S 0 18) 1000 := evh72 ▸ b87
            have ez : wetS S = drw S := by unfold wetS; rw [if_neg (fun q => b65 q.2)]
            have ez2 : wetB S = false := by
              unfold wetB
              rw [if_neg (fun q => b65 q.2)]
              simp only [b87', decide_true, decide_false, Bool.and_true, Bool.true_and, Bool.and_false, Bool.false_and, Bool.or_true, Bool.true_or, Bool.or_false, Bool.false_or, not_true_eq_false, not_false_eq_true, Bool.not_true, Bool.not_false, decide_not, if_true, if_false, and_true, true_and, and_false, false_and, or_true, true_or, or_false, false_or, Bool.false_eq_true]
            rw [ez, ez2] at hs
            exact j95 (drw S) e false _ hmm hs hw hf
          · simp only [cP, cN, bI_0, Bool.not_eq_false, lt_nle, Decidable.not_not] at b87
            have b87' : ¬ S 0 21 + 50 * S 0 20 ≤ drawR (S 0 18) 1000 := evh72 ▸ b87
            have ez : wetS S = drw S := by unfold wetS; rw [if_neg (fun q => b65 q.2)]
            have ez2 : wetB S = true := by
              unfold wetB
              rw [if_neg (fun q => b65 q.2)]
              simp only [b87', decide_true, decide_false, Bool.and_true, Bool.true_and, Bool.and_false, Bool.false_and, Bool.or_true, Bool.true_or, Bool.or_false, Bool.false_or, not_true_eq_false, not_false_eq_true, Bool.not_true, Bool.not_false, decide_not, if_true, if_false, and_true, true_and, and_false, false_and, or_true, true_or, or_false, false_or, Bool.false_eq_true]
            rw [ez, ez2] at hs
            exact j95 (drw S) e true _ hmm hs hw hf
theorem e_34 (hd : DEP + 10 ≤ d) (hm6 : m ≤ 6) (S : Nat → Nat → Int32) (h1 : AH) (v14 vh24 : Int32) (b10 : ¬ S 0 23 ≤ 0) (hv14 : v14 = capsN S 64) (b17 : ¬ v14 ≤ 0) (evh24 : vh24 = drawR (S 0 18) 1000) (b31 : ¬ S 0 23 ≤ vh24) (hmm : S 0 16 = nI m) (hs : (∀ h', IsWood G b (t54 (eatS S) m) law h' → Fr b h h' → Q (some (.int (eatE S))) h')) (hw : IsWood G b (drw S) law h1) (hf : Fr b h h1) : X l G mX1_endsDay (rmK d 0 0) (TGm G (fun v h' z' => Q v h' ∧ z' = z) 0 0) 0 0 34 [(0, .ref b), (1, .int 0)] [] h1 z := by
  refine X.w wkX1_endsDay (fcons (ceV c_allGrow moAllGrow ckX1_164 rfl rcAllGrow (by omega) rfl) (fcons (ceV c_caps moW0 ckX1_167 rfl rcW0 (by unfold DEP at hd; omega) rfl) (fcons (ceV c_draw moDraw ckX1_170 rfl rcDraw (by unfold DEP at hd; omega) rfl) (fcons (ceV c_capAt moCapAt ckX1_173 rfl rcCapAt (by unfold DEP at hd; omega) rfl) (fcons (ceV c_allDamp moV1 ckX1_176 rfl rcV1 (by unfold DEP at hd; omega) rfl) (fcons (ceMax ckX1_158 q862 (by unfold DEP at hd; omega)) fnil)))))) [50] 10 rfl ?_
  refine gF (by first | assumption | exact hw.obj | exact hw.arr _ rfl) ?_
  refine Exists.intro _ (Exists.intro law (And.intro hw ?_))
  intro v41 hv41
  replace hv41 : v41 = capsN (drw S) 64 := hv41
  have hcn : capsN (drw S) 64 = nI (cntC S 64 0) := (capsN_congr (S := S) rfl rfl rfl 64).trans (caps_nI S)
  have hc0 : 0 < cntC S 64 0 := by
    rcases Nat.eq_zero_or_pos (cntC S 64 0) with e | e
    · exact absurd (by rw [hv14, caps_nI, e]; exact Int32.le_refl _) b17
    · exact e
  have hcle := cntC_le S 64 0
  refine Exists.intro _ (Exists.intro law (And.intro hw (And.intro (by rw [hv41]; show ¬ capsN (drw S) 64 = 0; rw [hcn]; exact nI_ne0 hc0 (by omega)) ?_)))
  intro vh44 h44 evh44 hw hf2
  have hf := hf.tr hf2
  have hlt : eatC S < 64 := by
    unfold eatC
    rw [hcn, drawR_nI hc0 (by omega)]
    have h8 := capAt_lt S 64 0 (drawN (drw S 0 18) % cntC S 64 0) (Nat.mod_lt _ hc0) (by have := Nat.mod_lt (drawN (drw S 0 18)) hc0; omega)
    have h9 : capAtF (drw (drw S)) 64 0 (nI (drawN (drw S 0 18) % cntC S 64 0)) = capAtF S 64 0 (nI (drawN (drw S 0 18) % cntC S 64 0)) := capAtF_congr rfl rfl rfl _ _ _
    omega
  obtain ⟨q, hq⟩ : ∃ q, q = eatC S := ⟨_, rfl⟩
  rw [← hq] at hlt
  refine Exists.intro _ (Exists.intro law (Exists.intro q (And.intro hw (And.intro (by rw [evh44, hq, hv41]; unfold eatC; rfl) (And.intro hlt ?_)))))
  clear hcn hc0 hcle
  refine X.w wkX1_endsDay fnil [54] 6 rfl ?_
  refine sA (by first | assumption | exact hw.arr _ rfl) (ixN hlt (by decide)) (by first | assumption | exact hw.N | exact hw.No _) ?_
  intro h51 e51
  have hw := hw.uA e51 (Or.inl ⟨rfl, rfl⟩); have hf := hf.uA e51 (by decide)
  obtain ⟨ez, ez2⟩ := eatS_4 b10 hv14 b17 rfl hq (evh24 ▸ b31)
  exact e_54 hd hm6 (setF (drw (drw S)) 2 (upd (drw (drw S) 2) q (-1))) (eatS S) 1 (eatE S) _ ez ez2 hmm hs hw hf
theorem e_27 (hd : DEP + 10 ≤ d) (hm6 : m ≤ 6) (S : Nat → Nat → Int32) (h1 : AH) (v14 vh24 : Int32) (b10 : ¬ S 0 23 ≤ 0) (hv14 : v14 = capsN S 64) (b17 : ¬ v14 ≤ 0) (evh24 : vh24 = drawR (S 0 18) 1000) (hmm : S 0 16 = nI m) (hs : (∀ h', IsWood G b (t54 (eatS S) m) law h' → Fr b h h' → Q (some (.int (eatE S))) h')) (hw : IsWood G b (drw S) law h1) (hf : Fr b h h1) : X l G mX1_endsDay (rmK d 0 0) (TGm G (fun v h' z' => Q v h' ∧ z' = z) 0 0) 0 0 27 [(0, .ref b), (1, .int 0)] [.int vh24] h1 z := by
  refine X.w wkX1_endsDay fnil [54, 34] 4 rfl ?_
  refine gF (by first | assumption | exact hw.obj) ?_
  refine And.intro (fun b31 => ?_) (fun b31 => ?_)
  · skip
    replace b31 : S 0 23 ≤ vh24 := b31
    obtain ⟨ez, ez2⟩ := eatS_3 b10 hv14 b17 rfl (evh24 ▸ b31)
    exact e_54 hd hm6 (drw S) (eatS S) 0 (eatE S) _ ez ez2 hmm hs hw hf
  · skip
    replace b31 : ¬ S 0 23 ≤ vh24 := b31
    exact e_34 hd hm6 S h1 v14 vh24 b10 hv14 b17 evh24 b31 hmm hs hw hf
theorem e_20 (hd : DEP + 10 ≤ d) (hm6 : m ≤ 6) (S : Nat → Nat → Int32) (h1 : AH) (v14 : Int32) (b10 : ¬ S 0 23 ≤ 0) (hv14 : v14 = capsN S 64) (b17 : ¬ v14 ≤ 0) (hmm : S 0 16 = nI m) (hs : (∀ h', IsWood G b (t54 (eatS S) m) law h' → Fr b h h' → Q (some (.int (eatE S))) h')) (hw : IsWood G b S law h1) (hf : Fr b h h1) : X l G mX1_endsDay (rmK d 0 0) (TGm G (fun v h' z' => Q v h' ∧ z' = z) 0 0) 0 0 20 [(0, .ref b), (1, .int 0)] [] h1 z := by
  refine X.w wkX1_endsDay (fcons (ceV c_allGrow moAllGrow ckX1_164 rfl rcAllGrow (by omega) rfl) (fcons (ceV c_caps moW0 ckX1_167 rfl rcW0 (by unfold DEP at hd; omega) rfl) (fcons (ceV c_draw moDraw ckX1_170 rfl rcDraw (by unfold DEP at hd; omega) rfl) (fcons (ceV c_capAt moCapAt ckX1_173 rfl rcCapAt (by unfold DEP at hd; omega) rfl) (fcons (ceV c_allDamp moV1 ckX1_176 rfl rcV1 (by unfold DEP at hd; omega) rfl) (fcons (ceMax ckX1_158 q862 (by unfold DEP at hd; omega)) fnil)))))) [27] 5 rfl ?_
  refine Exists.intro _ (Exists.intro law (And.intro hw (And.intro (by decide) ?_)))
  intro vh24 h24 evh24 hw hf2
  have hf := hf.tr hf2
  exact e_27 hd hm6 S h24 v14 vh24 b10 hv14 b17 evh24 hmm hs hw hf
theorem e_6 (hd : DEP + 10 ≤ d) (hm6 : m ≤ 6) (S : Nat → Nat → Int32) (h1 : AH) (hmm : S 0 16 = nI m) (hs : (∀ h', IsWood G b (t54 (eatS S) m) law h' → Fr b h h' → Q (some (.int (eatE S))) h')) (hw : IsWood G b S law h1) (hf : Fr b h h1) : X l G mX1_endsDay (rmK d 0 0) (TGm G (fun v h' z' => Q v h' ∧ z' = z) 0 0) 0 0 6 [(0, .ref b), (1, .int 0)] [] h1 z := by
  refine X.w wkX1_endsDay (fcons (ceV c_allGrow moAllGrow ckX1_164 rfl rcAllGrow (by omega) rfl) (fcons (ceV c_caps moW0 ckX1_167 rfl rcW0 (by unfold DEP at hd; omega) rfl) (fcons (ceV c_draw moDraw ckX1_170 rfl rcDraw (by unfold DEP at hd; omega) rfl) (fcons (ceV c_capAt moCapAt ckX1_173 rfl rcCapAt (by unfold DEP at hd; omega) rfl) (fcons (ceV c_allDamp moV1 ckX1_176 rfl rcV1 (by unfold DEP at hd; omega) rfl) (fcons (ceMax ckX1_158 q862 (by unfold DEP at hd; omega)) fnil)))))) [54, 20] 7 rfl ?_
  refine gF (by first | assumption | exact hw.obj | exact hw.arr _ rfl) ?_
  refine And.intro (fun b10 => ?_) (fun b10 => ?_)
  · simp only [cP, cN, bI_0, Bool.not_eq_false, lt_nle, Decidable.not_not] at b10
    obtain ⟨ez, ez2⟩ := eatS_1 b10
    exact e_54 hd hm6 S (eatS S) 0 (eatE S) _ ez ez2 hmm hs hw hf
  · simp only [cP, cN, bI_0, Bool.not_eq_false, lt_nle, Decidable.not_not] at b10
    refine Exists.intro _ (Exists.intro law (And.intro hw ?_))
    intro v14 hv14
    replace hv14 : v14 = capsN S 64 := hv14
    refine And.intro (fun b17 => ?_) (fun b17 => ?_)
    · simp only [cP, cN, bI_0, Bool.not_eq_false, lt_nle, Decidable.not_not] at b17
      obtain ⟨ez, ez2⟩ := eatS_2 b10 hv14 b17
      exact e_54 hd hm6 S (eatS S) 0 (eatE S) _ ez ez2 hmm hs hw hf
    · simp only [cP, cN, bI_0, Bool.not_eq_false, lt_nle, Decidable.not_not] at b17
      exact e_20 hd hm6 S h1 v14 b10 hv14 b17 hmm hs hw hf
end ED
theorem c_endsDay : CtS mX1_endsDay (DEP + 10) spEnds := by
  intro l G d hd as h z Q hs
  match as, hs with
  | [.ref b], hs =>
    obtain ⟨S0, law, ls, m, hw, hL, hm, hm6, hs⟩ := hs
    refine Ct.of rfl (Nat.le_of_ble_eq_true rfl) rfl ?_
    refine X.w wkX1_endsDay (fcons (ceV c_allGrow moAllGrow ckX1_164 rfl rcAllGrow (by omega) rfl) (fcons (ceV c_caps moW0 ckX1_167 rfl rcW0 (by unfold DEP at hd; omega) rfl) (fcons (ceV c_draw moDraw ckX1_170 rfl rcDraw (by unfold DEP at hd; omega) rfl) (fcons (ceV c_capAt moCapAt ckX1_173 rfl rcCapAt (by unfold DEP at hd; omega) rfl) (fcons (ceV c_allDamp moV1 ckX1_176 rfl rcV1 (by unfold DEP at hd; omega) rfl) (fcons (ceMax ckX1_158 q862 (by unfold DEP at hd; omega)) fnil)))))) [6] 6 rfl ?_
    refine Exists.intro S0 (Exists.intro law (Exists.intro ls (And.intro hw (And.intro hL ?_))))
    intro x h3 hw hf
    replace hs := hs x
    have hmm : up2 (allGrowF S0 ls) 0 24 x 0 16 = nI m := hm
    unfold endS at hs
    exact e_6 hd hm6 _ h3 hmm hs hw hf
