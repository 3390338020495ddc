set_option maxRecDepth 100000
/-! a wood takes all of another -/
def fldF (S So : Nat → Nat → Int32) : Nat → Nat → Int32 := up2 (up2 (up2 (up2 (up2 (up2 (up2 (up2 (up2 (up2 S 0 12 (So 0 12)) 0 13 (So 0 13)) 0 14 (So 0 14)) 0 15 (So 0 15)) 0 16 (So 0 16)) 0 18 (So 0 18)) 0 19 (So 0 19)) 0 21 (So 0 21)) 0 22 (So 0 22)) 0 23 (So 0 23)
def wrdF (S So : Nat → Nat → Int32) (k : Nat) : Nat → Nat → Int32 := setF (setF (setF S 7 (cpy k (S 7) (So 7))) 8 (cpy k (S 8) (So 8))) 9 (cpy k (S 9) (So 9))
theorem wrdF_0 (S So : Nat → Nat → Int32) : wrdF S So 0 = S := by
  unfold wrdF
  rw [cpy_0, cpy_0, cpy_0]
  funext o
  unfold setF
  by_cases e4 : o = 9
  · subst e4; simp
  · by_cases e3 : o = 8
    · subst e3; simp
    · by_cases e2 : o = 7
      · subst e2; simp
      · simp [e2, e3, e4]
theorem wrdF_s (S So : Nat → Nat → Int32) (c : Nat) : setF (setF (setF (wrdF S So c) 7 (upd (cpy c (S 7) (So 7)) c (So 7 c))) 8 (upd (cpy c (S 8) (So 8)) c (So 8 c))) 9 (upd (cpy c (S 9) (So 9)) c (So 9 c)) = wrdF S So (c + 1) := by
  rw [cpy_s, cpy_s, cpy_s]
  unfold wrdF
  funext o
  unfold setF
  by_cases e4 : o = 9
  · subst e4; simp
  · by_cases e3 : o = 8
    · subst e3; simp
    · by_cases e2 : o = 7
      · subst e2; simp
      · simp [e2, e3, e4]
def bokF (S So : Nat → Nat → Int32) : Nat → Nat → Nat → Int32
  | 0 => S
  | i + 1 => setF (bokF S So i) (11 + i) (cpy 4 (bokF S So i (11 + i)) (So (11 + i)))
theorem bokF_lo (S So : Nat → Nat → Int32) : ∀ (n o : Nat), o < 11 → bokF S So n o = S o
  | 0, _, _ => rfl
  | n + 1, o, h => by
    unfold bokF
    rw [setF_n (by omega)]
    exact bokF_lo S So n o h
def takF (S So : Nat → Nat → Int32) (m nw nl : Nat) : Nat → Nat → Int32 := bokF (wrdF (setF (movF (fldF S So) So m) 1 (cpy 64 (movF (fldF S So) So m 1) (So 1))) So nw) So nl
theorem wK_row {i : Nat} (h : i < 100) : wK (11 + i) = 3 := by
  unfold wK
  rw [if_neg (by omega), if_neg (by omega), if_neg (by omega), if_neg (by omega), if_pos (by omega)]
theorem wC_row {G : GG} {b law i : Nat} {S : Nat → Nat → Int32} (h : i < 100) : wC G b S law (11 + i) = some (.inl (G.2.1 0, 4, .inl (S (11 + i)))) := by
  unfold wC
  rw [wK_row h]
  rfl
theorem movF_0 (S So : Nat → Nat → Int32) (m k : Nat) : movF S So m 0 k = up2 (up2 S 0 20 (So 0 20)) 0 17 (So 0 17) 0 k := by
  show cellF (persF _ So m) So 64 0 k = _
  have e : cellF (persF (up2 (up2 S 0 20 (So 0 20)) 0 17 (So 0 17)) So m) So 64 0 = persF (up2 (up2 S 0 20 (So 0 20)) 0 17 (So 0 17)) So m 0 := rfl
  rw [e, persF_lo _ _ _ _ (by decide)]
theorem movF_lines (S So : Nat → Nat → Int32) (m : Nat) : movF S So m 0 17 = So 0 17 := by rw [movF_0]; rfl
theorem movF_words (S So : Nat → Nat → Int32) (m : Nat) : movF (fldF S So) So m 0 15 = So 0 15 := by rw [movF_0]; rfl
def spTakes : GG → CSpec := fun G as h Q => match as with
  | [.ref b, .ref b2] => ∃ (S : Nat → Nat → Int32) (law : Nat) (So : Nat → Nat → Int32) (lo m nw nl : Nat), IsWood G b S law h ∧ IsWood G b2 So lo h ∧ Apart 125 b b2 ∧ So 0 16 = nI m ∧ m ≤ 6 ∧ So 0 15 = nI nw ∧ nw ≤ 12 ∧ So 0 17 = nI nl ∧ nl ≤ 100 ∧ ∀ h', IsWood G b (takF S So m nw nl) lo h' → Fr b h h' → Q none h'
  | _ => False
theorem moTakes {G : GG} : Mono (spTakes G) := by
  intro as h Q Q' hQ hs
  unfold spTakes at hs ⊢
  split at hs
  · obtain ⟨S, law, So, lo, m, nw, nl, h1, h2, h3, h4, h5, h6, h7, h8, h9, h10⟩ := hs
    exact ⟨S, law, So, lo, m, nw, nl, h1, h2, h3, h4, h5, h6, h7, h8, h9, fun h' a b => hQ _ _ (h10 h' a b)⟩
  · exact hs.elim
theorem rcTakes {G : GG} : ∀ as h Q, as.length = 1 + 1 → spTakes G as h Q → ∃ b as', as = .ref b :: as' ∧ ∃ fs, h b = some (.inr (1, fs)) := by
  intro as h Q _ hs
  unfold spTakes at hs
  split at hs
  · obtain ⟨S, law, So, lo, m, nw, nl, h1, h2⟩ := hs
    exact ⟨_, _, rfl, wood_recv h1⟩
  · exact hs.elim
theorem c_takes : CtS mX1_takes 3 spTakes := by
  intro l G d hd as h z Q hs
  match as, hs with
  | [.ref b, .ref b2], hs =>
    obtain ⟨S, law, So, lo, m, nw, nl, hw, ho, hap, hm, hm6, hnw, hnw12, hnl, hnl100, hs⟩ := hs
    unfold Apart at hap
    refine Ct.of rfl (Nat.le_of_ble_eq_true rfl) rfl ?_
    have inner : ∀ (S1 : Nat → Nat → Int32) (r : Nat) (hr : r < 100) (n c : Nat) (i : Int32) (h1 : AH), c + n = 4 → i = nI c → (∀ h', IsWood G b (bokF S1 So (r + 1)) lo h' → IsWood G b2 So lo h' → Fr b h h' → X l G mX1_takes (rmK d 0 0) (TGm G (fun v h' z' => Q v h' ∧ z' = z) 0 0) 0 0 173 [(0, .ref b), (1, .ref b2), (2, .int (nI (r + 1)))] [] h' z) → (IsWood G b (setF (bokF S1 So r) (11 + r) (cpy c (bokF S1 So r (11 + r)) (So (11 + r)))) lo h1) → (IsWood G b2 So lo h1) → (Fr b h h1) → X l G mX1_takes (rmK d 0 0) (TGm G (fun v h' z' => Q v h' ∧ z' = z) 0 0) 0 0 183 [(0, .ref b), (1, .ref b2), (2, .int (nI r)), (3, .int i)] [] h1 z := by
      intro S1 r hr n
      induction n using Nat.strongRecOn with
      | _ n ih =>
      intro c i h1 hc hi hk hw ho hf
      subst hi
      refine X.w wkX1_takes fnil [183, 173] 19 rfl ?_
      refine And.intro (fun b185 => ?_) (fun b185 => ?_)
      · simp only [cP, cN, bI_0, Bool.not_eq_false, lt_nle, Decidable.not_not] at b185
        have hc2 : 4 ≤ c := (le64 (by omega) (by decide)).mp b185
        have e : c = 4 := by omega
        subst e
        refine X.cut [(0, .ref b), (1, .ref b2), (2, .int (nI r + 1))] [(3, .int (nI 4))] rfl ?_
        rw [nI_1]
        exact hk _ hw ho hf
      · simp only [cP, cN, bI_0, Bool.not_eq_false, lt_nle, Decidable.not_not] at b185
        refine gF (by first | assumption | exact hw.obj | exact ho.obj | exact hw.arr 10 rfl | exact ho.arr 10 rfl | exact hw.arr (11 + r) (wC_row hr) | exact ho.arr (11 + r) (wC_row hr)) ?_
        refine gR (by first | assumption | exact hw.obj | exact ho.obj | exact hw.arr 10 rfl | exact ho.arr 10 rfl | exact hw.arr (11 + r) (wC_row hr) | exact ho.arr (11 + r) (wC_row hr)) (by decide) (ixN (by omega) (by decide)) (by exact rfl) ?_
        refine gF (by first | assumption | exact hw.obj | exact ho.obj | exact hw.arr 10 rfl | exact ho.arr 10 rfl | exact hw.arr (11 + r) (wC_row hr) | exact ho.arr (11 + r) (wC_row hr)) ?_
        refine gR (by first | assumption | exact hw.obj | exact ho.obj | exact hw.arr 10 rfl | exact ho.arr 10 rfl | exact hw.arr (11 + r) (wC_row hr) | exact ho.arr (11 + r) (wC_row hr)) (by decide) (ixN (by omega) (by decide)) (by exact rfl) ?_
        refine gA (by first | assumption | exact hw.obj | exact ho.obj | exact hw.arr 10 rfl | exact ho.arr 10 rfl | exact hw.arr (11 + r) (wC_row hr) | exact ho.arr (11 + r) (wC_row hr)) (ixN (nle64 (k := 4) b185 (by omega) (by decide)) (by decide)) ?_
        refine sA (by first | assumption | exact hw.obj | exact ho.obj | exact hw.arr 10 rfl | exact ho.arr 10 rfl | exact hw.arr (11 + r) (wC_row hr) | exact ho.arr (11 + r) (wC_row hr)) (ixN (nle64 (k := 4) b185 (by omega) (by decide)) (by decide)) (by first | assumption | exact hw.N | exact hw.No _) ?_
        intro h203 e203
        have hc2 := nle64 (k := 4) b185 (by omega) (by decide)
        refine ih (n - 1) (by omega) (c + 1) _ _ (by omega) (nI_1 c) hk ?_ (ho.off e203 (by omega)) (hf.uA e203 (by omega))
        have h9 := hw.uA e203 (Or.inr (Or.inr ⟨wK_row hr, rfl⟩))
        rw [setF_s, setF_setF] at h9
        rw [← cpy_s]
        exact h9
    have rows : ∀ (S1 : Nat → Nat → Int32) (n c : Nat) (i : Int32) (h1 : AH), c + n = nl → i = nI c → (∀ h', IsWood G b (bokF S1 So nl) lo h' → Fr b h h' → Q none h') → (S1 0 17 = nI nl) → (IsWood G b (bokF S1 So c) lo h1) → (IsWood G b2 So lo h1) → (Fr b h h1) → X l G mX1_takes (rmK d 0 0) (TGm G (fun v h' z' => Q v h' ∧ z' = z) 0 0) 0 0 173 [(0, .ref b), (1, .ref b2), (2, .int i)] [] h1 z := by
      intro S1 n
      induction n using Nat.strongRecOn with
      | _ n ih =>
      intro c i h1 hc hi hs hl hw ho hf
      subst hi
      have em : bokF S1 So c 0 17 = nI nl := by rw [bokF_lo _ _ _ _ (by decide)]; exact hl
      refine X.w wkX1_takes fnil [173, 183] 8 rfl ?_
      refine gF (by first | assumption | exact hw.obj) ?_
      refine And.intro (fun b178 => ?_) (fun b178 => ?_)
      · simp only [cP, cN, bI_0, Bool.not_eq_false, lt_nle, Decidable.not_not] at b178
        have hc2 : nl ≤ c := (le64 (by omega) (by omega)).mp (em ▸ b178)
        have e : c = nl := by omega
        subst e
        exact And.intro (hs _ hw hf) rfl
      · simp only [cP, cN, bI_0, Bool.not_eq_false, lt_nle, Decidable.not_not] at b178
        have hc2 := nle64 (k := nl) (em ▸ b178) (by omega) (by omega)
        refine inner S1 c (by omega) 4 0 _ _ rfl rfl (fun h' a1 a2 a3 => ih (n - 1) (by omega) (c + 1) _ _ (by omega) rfl hs hl a1 a2 a3) ?_ ho hf
        rw [cpy_0, setF_self]
        exact hw
    have wrds : ∀ (S1 : Nat → Nat → Int32) (n c : Nat) (i : Int32) (h1 : AH), c + n = nw → i = nI c → (∀ h', IsWood G b (bokF (wrdF S1 So nw) So nl) lo h' → Fr b h h' → Q none h') → (S1 0 17 = nI nl) → (S1 0 15 = nI nw) → (IsWood G b (wrdF S1 So c) lo h1) → (IsWood G b2 So lo h1) → (Fr b h h1) → X l G mX1_takes (rmK d 0 0) (TGm G (fun v h' z' => Q v h' ∧ z' = z) 0 0) 0 0 121 [(0, .ref b), (1, .ref b2), (2, .int i)] [] h1 z := by
      intro S1 n
      induction n using Nat.strongRecOn with
      | _ n ih =>
      intro c i h1 hc hi hs hl hl2 hw ho hf
      subst hi
      have em : wrdF S1 So c 0 15 = nI nw := hl2
      refine X.w wkX1_takes fnil [121, 173] 32 rfl ?_
      refine gF (by first | assumption | exact hw.obj | exact hw.arr _ rfl | exact ho.obj | exact ho.arr _ rfl) ?_
      refine And.intro (fun b126 => ?_) (fun b126 => ?_)
      · simp only [cP, cN, bI_0, Bool.not_eq_false, lt_nle, Decidable.not_not] at b126
        have hc2 : nw ≤ c := (le64 (by omega) (by omega)).mp (em ▸ b126)
        have e : c = nw := by omega
        subst e
        exact rows (wrdF S1 So c) nl 0 _ _ (by omega) rfl hs hl hw ho hf
      · simp only [cP, cN, bI_0, Bool.not_eq_false, lt_nle, Decidable.not_not] at b126
        refine gF (by first | assumption | exact hw.obj | exact hw.arr _ rfl | exact ho.obj | exact ho.arr _ rfl) ?_
        refine gF (by first | assumption | exact hw.obj | exact hw.arr _ rfl | exact ho.obj | exact ho.arr _ rfl) ?_
        refine gA (by first | assumption | exact hw.obj | exact hw.arr _ rfl | exact ho.obj | exact ho.arr _ rfl) (by have := nle64 (k := nw) (em ▸ b126) (by omega) (by omega); exact ixN (by omega) (by decide)) ?_
        refine sA (by first | assumption | exact hw.obj | exact hw.arr _ rfl | exact ho.obj | exact ho.arr _ rfl) (by have := nle64 (k := nw) (em ▸ b126) (by omega) (by omega); exact ixN (by omega) (by decide)) (by first | assumption | exact hw.N | exact hw.No _) ?_
        intro h140 e140
        have hw := hw.uA e140 (Or.inr (Or.inl ⟨rfl, rfl⟩)); have ho := ho.off e140 (by omega); have hf := hf.uA e140 (by decide)
        refine gF (by first | assumption | exact hw.obj | exact hw.arr _ rfl | exact ho.obj | exact ho.arr _ rfl) ?_
        refine gF (by first | assumption | exact hw.obj | exact hw.arr _ rfl | exact ho.obj | exact ho.arr _ rfl) ?_
        refine gA (by first | assumption | exact hw.obj | exact hw.arr _ rfl | exact ho.obj | exact ho.arr _ rfl) (by have := nle64 (k := nw) (em ▸ b126) (by omega) (by omega); exact ixN (by omega) (by decide)) ?_
        refine sA (by first | assumption | exact hw.obj | exact hw.arr _ rfl | exact ho.obj | exact ho.arr _ rfl) (by have := nle64 (k := nw) (em ▸ b126) (by omega) (by omega); exact ixN (by omega) (by decide)) (by first | assumption | exact hw.N | exact hw.No _) ?_
        intro h152 e152
        have hw := hw.uA e152 (Or.inr (Or.inl ⟨rfl, rfl⟩)); have ho := ho.off e152 (by omega); have hf := hf.uA e152 (by decide)
        refine gF (by first | assumption | exact hw.obj | exact hw.arr _ rfl | exact ho.obj | exact ho.arr _ rfl) ?_
        refine gF (by first | assumption | exact hw.obj | exact hw.arr _ rfl | exact ho.obj | exact ho.arr _ rfl) ?_
        refine gA (by first | assumption | exact hw.obj | exact hw.arr _ rfl | exact ho.obj | exact ho.arr _ rfl) (by have := nle64 (k := nw) (em ▸ b126) (by omega) (by omega); exact ixN (by omega) (by decide)) ?_
        refine sA (by first | assumption | exact hw.obj | exact hw.arr _ rfl | exact ho.obj | exact ho.arr _ rfl) (by have := nle64 (k := nw) (em ▸ b126) (by omega) (by omega); exact ixN (by omega) (by decide)) (by first | assumption | exact hw.N | exact hw.No _) ?_
        intro h164 e164
        have hw := hw.uA e164 (Or.inr (Or.inl ⟨rfl, rfl⟩)); have ho := ho.off e164 (by omega); have hf := hf.uA e164 (by decide)
        have hc2 := nle64 (k := nw) (em ▸ b126) (by omega) (by omega)
        refine ih (n - 1) (by omega) (c + 1) _ _ (by omega) (nI_1 c) hs hl hl2 ?_ ho hf
        rw [← wrdF_s]
        exact hw
    have damp : ∀ (S1 : Nat → Nat → Int32) (n c : Nat) (i : Int32) (h1 : AH), c + n = 64 → i = nI c → (∀ h', IsWood G b (bokF (wrdF (setF S1 1 (cpy 64 (S1 1) (So 1))) So nw) So nl) lo h' → Fr b h h' → Q none h') → (S1 0 17 = nI nl) → (S1 0 15 = nI nw) → (IsWood G b (setF S1 1 (cpy c (S1 1) (So 1))) lo h1) → (IsWood G b2 So lo h1) → (Fr b h h1) → X l G mX1_takes (rmK d 0 0) (TGm G (fun v h' z' => Q v h' ∧ z' = z) 0 0) 0 0 95 [(0, .ref b), (1, .ref b2), (2, .int i)] [] h1 z := by
      intro S1 n
      induction n using Nat.strongRecOn with
      | _ n ih =>
      intro c i h1 hc hi hs hl hl2 hw ho hf
      subst hi
      refine X.w wkX1_takes fnil [95, 121] 15 rfl ?_
      refine And.intro (fun b98 => ?_) (fun b98 => ?_)
      · simp only [cP, cN, bI_0, Bool.not_eq_false, lt_nle, Decidable.not_not] at b98
        have hc2 : 64 ≤ c := (le64 (by omega) (by decide)).mp b98
        have e : c = 64 := by omega
        subst e
        exact wrds _ nw 0 _ _ (by omega) rfl hs hl hl2 (by rw [wrdF_0]; exact hw) ho hf
      · simp only [cP, cN, bI_0, Bool.not_eq_false, lt_nle, Decidable.not_not] at b98
        refine gF (by first | assumption | exact hw.obj | exact hw.arr _ rfl | exact ho.obj | exact ho.arr _ rfl) ?_
        refine gF (by first | assumption | exact hw.obj | exact hw.arr _ rfl | exact ho.obj | exact ho.arr _ rfl) ?_
        refine gA (by first | assumption | exact hw.obj | exact hw.arr _ rfl | exact ho.obj | exact ho.arr _ rfl) (ixN (nle64 (k := 64) b98 (by omega) (by decide)) (by decide)) ?_
        refine sA (by first | assumption | exact hw.obj | exact hw.arr _ rfl | exact ho.obj | exact ho.arr _ rfl) (ixN (nle64 (k := 64) b98 (by omega) (by decide)) (by decide)) (by first | assumption | exact hw.N | exact hw.No _) ?_
        intro h112 e112
        have hc2 := nle64 (k := 64) b98 (by omega) (by decide)
        refine ih (n - 1) (by omega) (c + 1) _ _ (by omega) (nI_1 c) hs hl hl2 ?_ (ho.off e112 (by omega)) (hf.uA e112 (by decide))
        have h9 := hw.uA e112 (Or.inl ⟨rfl, rfl⟩)
        rw [setF_s, setF_setF] at h9
        rw [← cpy_s]
        exact h9
    refine X.w wkX1_takes (fcons (ceV c_moves moMoves ckX1_103 rfl rcMoves (by omega) rfl) fnil) [95] 51 rfl ?_
    refine gF (by first | assumption | exact hw.obj | exact ho.obj) ?_
    refine pF0 (okV_W rfl) (by first | assumption | exact hw.obj | exact ho.obj) (Nat.le_of_ble_eq_true rfl) hw.N ?_
    intro h5 e5
    have hw := hw.u0 e5 rfl; have ho := ho.off e5 (by omega); have hf := (Fr.rf (b := b) (h := h)).u0 e5
    refine gF (by first | assumption | exact hw.obj | exact ho.obj) ?_
    refine pF0 (okV_W rfl) (by first | assumption | exact hw.obj | exact ho.obj) (Nat.le_of_ble_eq_true rfl) hw.N ?_
    intro h13 e13
    have hw := hw.u0 e13 rfl; have ho := ho.off e13 (by omega); have hf := hf.u0 e13
    refine gF (by first | assumption | exact hw.obj | exact ho.obj) ?_
    refine pF0 (okV_W rfl) (by first | assumption | exact hw.obj | exact ho.obj) (Nat.le_of_ble_eq_true rfl) hw.N ?_
    intro h21 e21
    have hw := hw.u0 e21 rfl; have ho := ho.off e21 (by omega); have hf := hf.u0 e21
    refine gF (by first | assumption | exact hw.obj | exact ho.obj) ?_
    refine pF0 (okV_W rfl) (by first | assumption | exact hw.obj | exact ho.obj) (Nat.le_of_ble_eq_true rfl) hw.N ?_
    intro h29 e29
    have hw := hw.u0 e29 rfl; have ho := ho.off e29 (by omega); have hf := hf.u0 e29
    refine gF (by first | assumption | exact hw.obj | exact ho.obj) ?_
    refine pF0 (okV_W rfl) (by first | assumption | exact hw.obj | exact ho.obj) (Nat.le_of_ble_eq_true rfl) hw.N ?_
    intro h37 e37
    have hw := hw.u0 e37 rfl; have ho := ho.off e37 (by omega); have hf := hf.u0 e37
    refine gF (by first | assumption | exact hw.obj | exact ho.obj) ?_
    refine pF0 (okV_W rfl) (by first | assumption | exact hw.obj | exact ho.obj) (Nat.le_of_ble_eq_true rfl) hw.N ?_
    intro h45 e45
    have hw := hw.u0 e45 rfl; have ho := ho.off e45 (by omega); have hf := hf.u0 e45
    refine gF (by first | assumption | exact hw.obj | exact ho.obj) ?_
    refine pF0 (okV_W rfl) (by first | assumption | exact hw.obj | exact ho.obj) (Nat.le_of_ble_eq_true rfl) hw.N ?_
    intro h53 e53
    have hw := hw.u0 e53 rfl; have ho := ho.off e53 (by omega); have hf := hf.u0 e53
    refine gF (by first | assumption | exact hw.obj | exact ho.obj) ?_
    refine pF0 (okV_W rfl) (by first | assumption | exact hw.obj | exact ho.obj) (Nat.le_of_ble_eq_true rfl) hw.N ?_
    intro h61 e61
    have hw := hw.u0 e61 rfl; have ho := ho.off e61 (by omega); have hf := hf.u0 e61
    refine gF (by first | assumption | exact hw.obj | exact ho.obj) ?_
    refine pF0 (okV_W rfl) (by first | assumption | exact hw.obj | exact ho.obj) (Nat.le_of_ble_eq_true rfl) hw.N ?_
    intro h69 e69
    have hw := hw.u0 e69 rfl; have ho := ho.off e69 (by omega); have hf := hf.u0 e69
    refine gF (by first | assumption | exact hw.obj | exact ho.obj) ?_
    refine pF0 (okV_W rfl) (by first | assumption | exact hw.obj | exact ho.obj) (Nat.le_of_ble_eq_true rfl) hw.N ?_
    intro h77 e77
    have hw := hw.u0 e77 rfl; have ho := ho.off e77 (by omega); have hf := hf.u0 e77
    refine gF (by first | assumption | exact hw.obj | exact ho.obj) ?_
    refine pF0 (okV_W rfl) (by first | assumption | exact hw.obj | exact ho.obj) (Nat.le_of_ble_eq_true rfl) hw.N ?_
    intro h85 e85
    have hw := hw.uL e85; have ho := ho.off e85 (by omega); have hf := hf.u0 e85
    refine Exists.intro _ (Exists.intro _ (Exists.intro _ (Exists.intro _ (Exists.intro _ (And.intro hw (And.intro ho (And.intro (by unfold Apart; omega) (And.intro hm (And.intro hm6 ?_)))))))))
    intro h90 hw hf2
    have ho := ho.out hf2 (by omega)
    have hf := hf.tr hf2
    exact damp (movF (fldF S So) So m) 64 0 _ _ rfl rfl hs (by rw [movF_lines]; exact hnl) (by rw [movF_words]; exact hnw) (by rw [cpy_0, setF_self]; exact hw) ho hf
