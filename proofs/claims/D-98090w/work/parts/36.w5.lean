set_option maxRecDepth 100000
/-! a wood takes from another what acts move, or all -/
def setP (S : Nat → Nat → Int32) (o : Nat) (c s z : Int32) (f : Nat → Int32) : Nat → Nat → Int32 := setF (setF S o (upd (upd (upd (S o) 1 c) 2 s) 3 z)) (o + 1) f
theorem wK_p {p : Nat} (h : p < 6) : wK (113 + 2 * p) = 6 ∧ wK (113 + 2 * p + 1) = 2 := by
  match p, h with
  | 0, _ => decide
  | 1, _ => decide
  | 2, _ => decide
  | 3, _ => decide
  | 4, _ => decide
  | 5, _ => decide
section MV
variable {G : GG} {b law : Nat} {S : Nat → Nat → Int32} {h h2 : AH}
theorem IsWood.pers (w : IsWood G b S law h) {p : Nat} (hp : p < 6) : PersAt G (b + (113 + 2 * p)) (S (113 + 2 * p) 1) (S (113 + 2 * p) 2) (S (113 + 2 * p) 3) (S (113 + 2 * p + 1)) h := by
  obtain ⟨h1, h2⟩ := wK_p hp
  refine ⟨w.No _, w.2 _ _ ?_, w.2 (113 + 2 * p + 1) _ ?_⟩
  · unfold wC; rw [h1]; rfl
  · unfold wC; rw [h2]; rfl
theorem IsWood.uP (w : IsWood G b S law h) {p : Nat} (hp : p < 6) {c s z : Int32} {f : Nat → Int32} (hP : PersAt G (b + (113 + 2 * p)) c s z f h2) (hf : Fr2 (b + (113 + 2 * p)) h h2) : IsWood G b (setP S (113 + 2 * p) c s z f) law h2 := by
  obtain ⟨k1, k2⟩ := wK_p hp
  refine ⟨w.1, fun o e he => ?_⟩
  by_cases e1 : o = 113 + 2 * p
  · subst e1
    unfold wC at he
    rw [k1] at he
    cases he
    have e2 : setP S (113 + 2 * p) c s z f (113 + 2 * p) = upd (upd (upd (S (113 + 2 * p)) 1 c) 2 s) 3 z := by
      unfold setP
      rw [setF_n (by omega), setF_s]
    rw [hP.2.1]
    unfold pF
    rw [e2]
    rfl
  · by_cases e2 : o = 113 + 2 * p + 1
    · subst e2
      unfold wC at he
      rw [k2] at he
      cases he
      have e3 : setP S (113 + 2 * p) c s z f (113 + 2 * p + 1) = f := by
        unfold setP
        rw [setF_s]
      rw [e3]
      exact hP.2.2
    · have e3 : setP S (113 + 2 * p) c s z f o = S o := by
        unfold setP
        rw [setF_n e2, setF_n e1]
      rw [wC_eq e3] at he
      rw [hf _ (by omega) (by omega)]
      exact w.2 o e he
theorem Fr.pers (hf : Fr b h h2) {h3 : AH} {p : Nat} (hp : p < 6) (hf2 : Fr2 (b + (113 + 2 * p)) h2 h3) : Fr b h h3 := by
  intro q hq
  rw [hf2 q (by unfold Out at hq; omega) (by unfold Out at hq; omega)]
  exact hf q hq
end MV
def persF (S So : Nat → Nat → Int32) : Nat → Nat → Nat → Int32
  | 0 => S
  | p + 1 => setP (persF S So p) (113 + 2 * p) (So (113 + 2 * p) 1) (So (113 + 2 * p) 2) (So (113 + 2 * p) 3) (cpy 12 (persF S So p (113 + 2 * p + 1)) (So (113 + 2 * p + 1)))
def cellF (S So : Nat → Nat → Int32) (c : Nat) : Nat → Nat → Int32 := setF (setF (setF (setF S 2 (cpy c (S 2) (So 2))) 3 (cpy c (S 3) (So 3))) 4 (cpy c (S 4) (So 4))) 5 (cpy c (S 5) (So 5))
theorem cellF_0 (S So : Nat → Nat → Int32) : cellF S So 0 = S := by
  unfold cellF
  rw [cpy_0, cpy_0, cpy_0, cpy_0]
  funext o
  unfold setF
  by_cases e5 : o = 5
  · subst e5; simp
  · by_cases e4 : o = 4
    · subst e4; simp
    · by_cases e3 : o = 3
      · subst e3; simp
      · by_cases e2 : o = 2
        · subst e2; simp
        · simp [e2, e3, e4, e5]
theorem cellF_s (S So : Nat → Nat → Int32) (c : Nat) : setF (setF (setF (setF (cellF S So c) 2 (upd (cpy c (S 2) (So 2)) c (So 2 c))) 3 (upd (cpy c (S 3) (So 3)) c (So 3 c))) 4 (upd (cpy c (S 4) (So 4)) c (So 4 c))) 5 (upd (cpy c (S 5) (So 5)) c (So 5 c)) = cellF S So (c + 1) := by
  rw [cpy_s, cpy_s, cpy_s, cpy_s]
  unfold cellF
  funext o
  unfold setF
  by_cases e5 : o = 5
  · subst e5; simp
  · by_cases e4 : o = 4
    · subst e4; simp
    · by_cases e3 : o = 3
      · subst e3; simp
      · by_cases e2 : o = 2
        · subst e2; simp
        · simp [e2, e3, e4, e5]
def movF (S So : Nat → Nat → Int32) (m : Nat) : Nat → Nat → Int32 := cellF (persF (up2 (up2 S 0 20 (So 0 20)) 0 17 (So 0 17)) So m) So 64
def spMoves : GG → CSpec := fun G as h Q => match as with
  | [.ref b, .ref b2] => ∃ (S : Nat → Nat → Int32) (law : Nat) (So : Nat → Nat → Int32) (lo m : Nat), IsWood G b S law h ∧ IsWood G b2 So lo h ∧ Apart 125 b b2 ∧ S 0 16 = nI m ∧ m ≤ 6 ∧ ∀ h', IsWood G b (movF S So m) law h' → Fr b h h' → Q none h'
  | _ => False
theorem moMoves {G : GG} : Mono (spMoves G) := by
  intro as h Q Q' hQ hs
  unfold spMoves at hs ⊢
  split at hs
  · obtain ⟨S, law, So, lo, m, h1, h2, h3, h4, h5, h6⟩ := hs
    exact ⟨S, law, So, lo, m, h1, h2, h3, h4, h5, fun h' a b => hQ _ _ (h6 h' a b)⟩
  · exact hs.elim
theorem rcMoves {G : GG} : ∀ as h Q, as.length = 1 + 1 → spMoves G as h Q → ∃ b as', as = .ref b :: as' ∧ ∃ fs, h b = some (.inr (1, fs)) := by
  intro as h Q _ hs
  unfold spMoves at hs
  split at hs
  · obtain ⟨S, law, So, lo, m, h1, h2⟩ := hs
    exact ⟨_, _, rfl, wood_recv h1⟩
  · exact hs.elim
theorem persF_lo (S So : Nat → Nat → Int32) : ∀ (m o : Nat), o < 113 → persF S So m o = S o
  | 0, _, _ => rfl
  | m + 1, o, h => by
    unfold persF
    unfold setP
    rw [setF_n (by omega), setF_n (by omega)]
    exact persF_lo S So m o h
theorem c_moves : CtS mX1_moves 2 spMoves := by
  intro l G d hd as h z Q hs
  match as, hs with
  | [.ref b, .ref b2], hs =>
    obtain ⟨S, law, So, lo, m, hw, ho, hap, hm, hm6, hs⟩ := hs
    unfold Apart at hap
    refine Ct.of rfl (Nat.le_of_ble_eq_true rfl) rfl ?_
    have loop2 : ∀ (S1 : Nat → Nat → Int32) (n c : Nat) (i : Int32) (h1 : AH), c + n = 64 → i = nI c → (∀ h', IsWood G b (cellF S1 So 64) law h' → Fr b h h' → Q none h') → IsWood G b (cellF S1 So c) law h1 → IsWood G b2 So lo h1 → Fr b h h1 → X l G mX1_moves (rmK d 0 0) (TGm G (fun v h' z' => Q v h' ∧ z' = z) 0 0) 0 0 49 [(0, .ref b), (1, .ref b2), (2, .int i)] [] h1 z := by
      intro S1 n
      induction n using Nat.strongRecOn with
      | _ n ih =>
      intro c i h1 hc hi hs hw ho hf
      subst hi
      refine X.w wkX1_moves fnil [49] 39 rfl ?_
      refine And.intro (fun b52 => ?_) (fun b52 => ?_)
      · simp only [cP, cN, bI_0, Bool.not_eq_false, lt_nle, Decidable.not_not] at b52
        have hc2 : 64 ≤ c := (le64 (by omega) (by decide)).mp b52
        have e : c = 64 := by omega
        subst e
        exact And.intro (hs _ hw hf) rfl
      · simp only [cP, cN, bI_0, Bool.not_eq_false, lt_nle, Decidable.not_not] at b52
        refine gF (by first | assumption | exact hw.obj | exact hw.arr _ rfl | exact ho.obj | exact ho.arr _ rfl) ?_
        refine gF (by first | assumption | exact hw.obj | exact hw.arr _ rfl | exact ho.obj | exact ho.arr _ rfl) ?_
        refine gA (by first | assumption | exact hw.obj | exact hw.arr _ rfl | exact ho.obj | exact ho.arr _ rfl) (ixN (nle64 (k := 64) b52 (by omega) (by decide)) (by decide)) ?_
        refine sA (by first | assumption | exact hw.obj | exact hw.arr _ rfl | exact ho.obj | exact ho.arr _ rfl) (ixN (nle64 (k := 64) b52 (by omega) (by decide)) (by decide)) (by first | assumption | exact hw.N | exact hw.No _) ?_
        intro h66 e66
        have hw := hw.uA e66 (Or.inl ⟨rfl, rfl⟩); have ho := ho.off e66 (by omega); have hf := hf.uA e66 (by decide)
        refine gF (by first | assumption | exact hw.obj | exact hw.arr _ rfl | exact ho.obj | exact ho.arr _ rfl) ?_
        refine gF (by first | assumption | exact hw.obj | exact hw.arr _ rfl | exact ho.obj | exact ho.arr _ rfl) ?_
        refine gA (by first | assumption | exact hw.obj | exact hw.arr _ rfl | exact ho.obj | exact ho.arr _ rfl) (ixN (nle64 (k := 64) b52 (by omega) (by decide)) (by decide)) ?_
        refine sA (by first | assumption | exact hw.obj | exact hw.arr _ rfl | exact ho.obj | exact ho.arr _ rfl) (ixN (nle64 (k := 64) b52 (by omega) (by decide)) (by decide)) (by first | assumption | exact hw.N | exact hw.No _) ?_
        intro h78 e78
        have hw := hw.uA e78 (Or.inl ⟨rfl, rfl⟩); have ho := ho.off e78 (by omega); have hf := hf.uA e78 (by decide)
        refine gF (by first | assumption | exact hw.obj | exact hw.arr _ rfl | exact ho.obj | exact ho.arr _ rfl) ?_
        refine gF (by first | assumption | exact hw.obj | exact hw.arr _ rfl | exact ho.obj | exact ho.arr _ rfl) ?_
        refine gA (by first | assumption | exact hw.obj | exact hw.arr _ rfl | exact ho.obj | exact ho.arr _ rfl) (ixN (nle64 (k := 64) b52 (by omega) (by decide)) (by decide)) ?_
        refine sA (by first | assumption | exact hw.obj | exact hw.arr _ rfl | exact ho.obj | exact ho.arr _ rfl) (ixN (nle64 (k := 64) b52 (by omega) (by decide)) (by decide)) (by first | assumption | exact hw.N | exact hw.No _) ?_
        intro h90 e90
        have hw := hw.uA e90 (Or.inl ⟨rfl, rfl⟩); have ho := ho.off e90 (by omega); have hf := hf.uA e90 (by decide)
        refine gF (by first | assumption | exact hw.obj | exact hw.arr _ rfl | exact ho.obj | exact ho.arr _ rfl) ?_
        refine gF (by first | assumption | exact hw.obj | exact hw.arr _ rfl | exact ho.obj | exact ho.arr _ rfl) ?_
        refine gA (by first | assumption | exact hw.obj | exact hw.arr _ rfl | exact ho.obj | exact ho.arr _ rfl) (ixN (nle64 (k := 64) b52 (by omega) (by decide)) (by decide)) ?_
        refine sA (by first | assumption | exact hw.obj | exact hw.arr _ rfl | exact ho.obj | exact ho.arr _ rfl) (ixN (nle64 (k := 64) b52 (by omega) (by decide)) (by decide)) (by first | assumption | exact hw.N | exact hw.No _) ?_
        intro h102 e102
        have hw := hw.uA e102 (Or.inl ⟨rfl, rfl⟩); have ho := ho.off e102 (by omega); have hf := hf.uA e102 (by decide)
        have hc2 := nle64 (k := 64) b52 (by omega) (by decide)
        refine ih (n - 1) (by omega) (c + 1) _ _ (by omega) (nI_1 c) hs ?_ ho hf
        rw [← cellF_s]
        exact hw
    have loop1 : ∀ (n p : Nat) (i : Int32) (h1 : AH), p + n = m → i = nI p → IsWood G b (persF (up2 (up2 S 0 20 (So 0 20)) 0 17 (So 0 17)) So p) law h1 → IsWood G b2 So lo h1 → Fr b h h1 → X l G mX1_moves (rmK d 0 0) (TGm G (fun v h' z' => Q v h' ∧ z' = z) 0 0) 0 0 18 [(0, .ref b), (1, .ref b2), (2, .int i)] [] h1 z := by
      intro n
      induction n using Nat.strongRecOn with
      | _ n ih =>
      intro p i h1 hc hi hw ho hf
      subst hi
      have em : persF (up2 (up2 S 0 20 (So 0 20)) 0 17 (So 0 17)) So p 0 16 = nI m := by
        rw [persF_lo _ _ _ _ (by decide)]; exact hm
      refine X.w wkX1_moves (fcons (ceV c_pTakes moPT ckX1_96 rfl rcPT (by omega) rfl) fnil) [18, 49] 17 rfl ?_
      refine gF (by first | assumption | exact hw.obj | exact hw.arr _ rfl | exact ho.obj | exact ho.arr _ rfl) ?_
      refine And.intro (fun b23 => ?_) (fun b23 => ?_)
      · simp only [cP, cN, bI_0, Bool.not_eq_false, lt_nle, Decidable.not_not] at b23
        have hc2 : m ≤ p := (le64 (by omega) (by omega)).mp (em ▸ b23)
        have e : p = m := by omega
        subst e
        exact loop2 _ 64 0 _ _ rfl rfl hs (by rw [cellF_0]; exact hw) ho hf
      · simp only [cP, cN, bI_0, Bool.not_eq_false, lt_nle, Decidable.not_not] at b23
        refine gF (by first | assumption | exact hw.obj | exact hw.arr _ rfl | exact ho.obj | exact ho.arr _ rfl) ?_
        refine gR (by first | assumption | exact hw.obj | exact hw.arr _ rfl | exact ho.obj | exact ho.arr _ rfl) (by decide) (by have := nle64 (k := m) (em ▸ b23) (by omega) (by omega); exact ixN (by omega) (by decide)) (by exact rfl) ?_
        refine gF (by first | assumption | exact hw.obj | exact hw.arr _ rfl | exact ho.obj | exact ho.arr _ rfl) ?_
        refine gR (by first | assumption | exact hw.obj | exact hw.arr _ rfl | exact ho.obj | exact ho.arr _ rfl) (by decide) (by have := nle64 (k := m) (em ▸ b23) (by omega) (by omega); exact ixN (by omega) (by decide)) (by exact rfl) ?_
        refine Exists.intro _ (Exists.intro _ (Exists.intro _ (Exists.intro _ (Exists.intro _ (Exists.intro _ (Exists.intro _ (Exists.intro _ (And.intro (hw.pers (p := p) (by have := nle64 (k := m) (em ▸ b23) (by omega) (by omega); omega)) (And.intro (ho.pers (p := p) (by have := nle64 (k := m) (em ▸ b23) (by omega) (by omega); omega)) (And.intro (by unfold Apart; omega) ?_))))))))))
        intro h38 hP hF
        have hc2 := nle64 (k := m) (em ▸ b23) (by omega) (by omega)
        exact ih (n - 1) (by omega) (p + 1) _ _ (by omega) (nI_1 p) (hw.uP (by omega) hP hF) (ho.fr (fun o h3 h4 => hF _ (by omega) (by omega))) (hf.pers (by omega) hF)
    refine X.w wkX1_moves fnil [18] 12 rfl ?_
    refine gF (by first | assumption | exact hw.obj | exact ho.obj) ?_
    refine pF0 (okV_W rfl) (by first | assumption | exact hw.obj | exact ho.obj) (Nat.le_of_ble_eq_true rfl) hw.N ?_
    intro h5 e5
    have hw := hw.u0 e5 rfl; have ho := ho.off e5 (by omega); have hf := (Fr.rf (b := b) (h := h)).u0 e5
    refine gF (by first | assumption | exact hw.obj | exact ho.obj) ?_
    refine pF0 (okV_W rfl) (by first | assumption | exact hw.obj | exact ho.obj) (Nat.le_of_ble_eq_true rfl) hw.N ?_
    intro h13 e13
    have hw := hw.u0 e13 rfl; have ho := ho.off e13 (by omega); have hf := hf.u0 e13
    exact loop1 m 0 _ _ (by omega) rfl hw ho hf
