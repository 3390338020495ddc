set_option maxRecDepth 100000
/-! THE READER: a token -/
def tokX (t : Nat → Int32) (n s : Nat) : Int32 := if chr t n s = -1 then 0 else if letB (chr t n s) = true then kwX t s (runE letB t n (s + 1)) else if digB (chr t n s) = true then (if runE digB t n (s + 1) - s < 5 then 2 else 1) else if markB (chr t n s) = true then chr t n s else 1
/-- what stands in the reader behind next() from the place k -/
def TkX (F' F : Nat → Int32) (t : Nat → Int32) (n k : Nat) : Prop := F' 0 = nI (tkN t n (stP t n k)) ∧ F' 1 = nI (stP t n k) ∧ F' 2 = tokX t n (stP t n k) ∧ (digB (chr t n (stP t n k)) = true → tkN t n (stP t n k) - stP t n k < 5 → F' 3 = numF t (stP t n k) (tkN t n (stP t n k) - stP t n k)) ∧ F' 4 = F 4
theorem chr_ne {t : Nat → Int32} {n k : Nat} (h : ∀ k, k < n → ∃ y, y < 256 ∧ t k = nI y) (hk : k < n) : ¬ chr t n k = -1 := by
  intro e
  rw [chr_at hk] at e
  obtain ⟨y, h1, h2⟩ := h k hk
  rw [h2] at e
  have : ∀ y, y < 256 → ¬ nI y = -1 := by decide +kernel
  exact this y h1 e
theorem let_dig {c : Int32} (h : letB c = true) : digB c = false := by
  cases e : digB c with
  | false => rfl
  | true =>
    exfalso
    obtain ⟨q, h1, rfl⟩ := dig_nI e
    have : ∀ q, q ≤ 9 → letB (nI (48 + q)) = false := by decide
    rw [this q h1] at h
    cases h
theorem r_next : CtS mX4_next (8) (rV0 (fun (a : Nat) c F => F 0 = nI a ∧ a ≤ c.2.1) (fun (a : Nat) c F F' => TkX F' F c.2.2.1 c.2.1 a)) := by
  intro l G d hd as h z Q hs
  match as, hs with
  | [.ref r], hs =>
    obtain ⟨c, F, a, hr, hp, hs⟩ := hs
    replace hp : F 0 = nI a ∧ a ≤ c.2.1 := hp
    replace hs : ∀ F' h', (TkX F' F c.2.2.1 c.2.1 a) → IsRd G r c F' h' → FrR r h h' → Q none h' := hs
    have hf : FrR r h h := FrR.rf
    obtain ⟨x, n, t, T, Xf⟩ := c
    (try dsimp only at hp hs)
    refine Ct.of rfl (Nat.le_of_ble_eq_true rfl) rfl ?_
    obtain ⟨h00, ha⟩ := hp
    have hl := hr.ln
    dsimp only at hl
    have hnn : ∀ k, k < n → ¬ chr t n k = -1 := fun k hk => chr_ne (fun k hk => by obtain ⟨-, y, h1, h2, -⟩ := hr.by_ k hk; exact ⟨y, h1, h2⟩) hk
    obtain ⟨s0, hs0⟩ : ∃ s0, s0 = stP t n a := ⟨_, rfl⟩
    have hs0n : a ≤ s0 ∧ s0 ≤ n := by rw [hs0]; exact run_le rfl ha
    have fin : ∀ (F1 : Nat → Int32) (h' : AH), F1 0 = nI (tkN t n s0) → F1 1 = nI s0 → F1 2 = tokX t n s0 → (digB (chr t n s0) = true → tkN t n s0 - s0 < 5 → F1 3 = numF t s0 (tkN t n s0 - s0)) → F1 4 = F 4 → IsRd G r (x, n, t, T, Xf) F1 h' → FrR r h h' → Q none h' := by
      intro F1 h' q1 q2 q3 q4 q5 hr hf
      refine hs F1 h' ?_ hr hf
      unfold TkX
      rw [← hs0]
      exact ⟨q1, q2, q3, q4, q5⟩
    have go62 : letB (chr t n s0) = true → ∀ (d1 k : Nat) (F1 : Nat → Int32) (h1 : AH), n - k = d1 → s0 ≤ k → k ≤ n → runE letB t n k = runE letB t n (s0 + 1) → (∀ x, s0 ≤ x → x < k → letB (t x) = true) → F1 0 = nI k → F1 1 = nI s0 → F1 4 = F 4 → IsRd G r (x, n, t, T, Xf) F1 h1 → FrR r h h1 → X l G mX4_next (rmK d 0 0) (TGm G (fun v h' z' => Q v h' ∧ z' = z) 0 0) 0 0 62 [(0, .ref r)] [] h1 z := by
      intro hl0 d1
      have hs0l := chr_lt (p := letB) (by decide) hl0
      have hl1 := hnn s0 hs0l
      induction d1 using Nat.strongRecOn with
      | _ d1 ih =>
      intro k F1 h1 hd1 hsk hkn hrun hlet g0 g1 g4 hr hf
      refine X.w wkX4_next (fcons (ceV r_isMark rmR1 ckX4_97 rfl rrR1 (by omega) rfl) (fcons (ceV r_isDigit rmR0 ckX4_91 rfl rrR0 (by omega) rfl) (fcons (ceV r_keyword rmR0 ckX4_88 rfl rrR0 (by omega) rfl) (fcons (ceV r_isLetter rmR0 ckX4_84 rfl rrR0 (by omega) rfl) (fcons (ceV r_see rmR0 ckX4_26 rfl rrR0 (by omega) rfl) fnil))))) [62] 12 rfl ?_
      refine Exists.intro _ (Exists.intro _ (Exists.intro k (And.intro hr (And.intro ⟨g0, by show _ ≤ n; omega⟩ ?_))))
      intro v63 e63
      (try dsimp only at e63)
      subst e63
      refine And.intro (fun b66 => ?_) (fun b66 => ?_)
      · simp only [cP, cN, bI_0, Bool.not_eq_false, lt_nle, Decidable.not_not] at b66
        replace b66 : letB (chr t n k) = false := b66
        have hkE : k = runE letB t n (s0 + 1) := by rw [← hrun, run_f b66]
        refine Exists.intro _ (Exists.intro _ (Exists.intro (s0, k) (And.intro hr (And.intro ⟨g0, g1, by show s0 ≤ k; omega, by show k ≤ n; omega, hlet⟩ ?_))))
        intro v84 e84
        (try dsimp only at e84)
        refine pF0 (okV_W rfl) (by first | assumption | exact hr.obj | exact hr.xo | exact hr.tp) (Nat.le_of_ble_eq_true rfl) hr.N ?_
        intro h87 e87
        have hf := hf.u e87; have hr := hr.u e87 rfl
        refine And.intro (fin _ _ (by show F1 0 = _; rw [g0, hkE]; unfold tkN; rw [if_neg hl1, if_pos hl0]) (by exact g1) (by show v84 = _; rw [e84, hkE]; unfold tokX; rw [if_neg hl1, if_pos hl0]) (fun q => ?_) (by exact g4) hr hf) rfl
        exact absurd (let_dig hl0) (by rw [q]; decide)
      · simp only [cP, cN, bI_0, Bool.not_eq_false, lt_nle, Decidable.not_not] at b66
        replace b66 : letB (chr t n k) = true := b66
        have hkl := chr_lt (p := letB) (by decide) b66
        refine gF (by first | assumption | exact hr.obj | exact hr.xo | exact hr.tp) ?_
        refine pF0 (okV_W rfl) (by first | assumption | exact hr.obj | exact hr.xo | exact hr.tp) (Nat.le_of_ble_eq_true rfl) hr.N ?_
        intro h76 e76
        have hf := hf.u e76; have hr := hr.u e76 rfl
        refine ih (n - (k + 1)) (by omega) (k + 1) _ _ rfl (by omega) (by omega) (by rw [← hrun]; exact (run_t hkl b66).symm) ?_ (by show F1 0 + 1 = _; rw [g0, nI_1]) (by exact g1) (by exact g4) hr hf
        intro y hx1 hx2
        by_cases e : y = k
        · subst e; rw [← chr_at (t := t) hkl]; exact b66
        · exact hlet y hx1 (by omega)
    have go105 : letB (chr t n s0) = false → digB (chr t n s0) = true → ∀ (d1 k : Nat) (F1 : Nat → Int32) (h1 : AH), n - k = d1 → s0 ≤ k → k ≤ n → runE digB t n k = runE digB t n (s0 + 1) → F1 0 = nI k → F1 1 = nI s0 → F1 4 = F 4 → (k - s0 ≤ 4 → F1 3 = numF t s0 (k - s0)) → IsRd G r (x, n, t, T, Xf) F1 h1 → FrR r h h1 → X l G mX4_next (rmK d 0 0) (TGm G (fun v h' z' => Q v h' ∧ z' = z) 0 0) 0 0 105 [(0, .ref r)] [] h1 z := by
      intro hl0 hdg d1
      have hs0l := chr_lt (p := digB) (by decide) hdg
      have hl1 := hnn s0 hs0l
      induction d1 using Nat.strongRecOn with
      | _ d1 ih =>
      intro k F1 h1 hd1 hsk hkn hrun g0 g1 g4 g3 hr hf
      refine X.w wkX4_next (fcons (ceV r_isMark rmR1 ckX4_97 rfl rrR1 (by omega) rfl) (fcons (ceV r_isDigit rmR0 ckX4_91 rfl rrR0 (by omega) rfl) (fcons (ceV r_keyword rmR0 ckX4_88 rfl rrR0 (by omega) rfl) (fcons (ceV r_isLetter rmR0 ckX4_84 rfl rrR0 (by omega) rfl) (fcons (ceV r_see rmR0 ckX4_26 rfl rrR0 (by omega) rfl) fnil))))) [105] 30 rfl ?_
      refine Exists.intro _ (Exists.intro _ (Exists.intro k (And.intro hr (And.intro ⟨g0, by show _ ≤ n; omega⟩ ?_))))
      intro v106 e106
      (try dsimp only at e106)
      subst e106
      refine And.intro (fun b109 => ?_) (fun b109 => ?_)
      · simp only [cP, cN, bI_0, Bool.not_eq_false, lt_nle, Decidable.not_not] at b109
        replace b109 : digB (chr t n k) = false := b109
        have hkE : k = runE digB t n (s0 + 1) := by rw [← hrun, run_f b109]
        refine gF (by first | assumption | exact hr.obj | exact hr.xo | exact hr.tp) ?_
        refine gF (by first | assumption | exact hr.obj | exact hr.xo | exact hr.tp) ?_
        refine And.intro (fun b168 => ?_) (fun b168 => ?_)
        · simp only [cP, cN, bI_0, Bool.not_eq_false, lt_nle, Decidable.not_not] at b168
          refine pF0 (okV_W rfl) (by first | assumption | exact hr.obj | exact hr.xo | exact hr.tp) (Nat.le_of_ble_eq_true rfl) hr.N ?_
          intro h176 e176
          have hf := hf.u e176; have hr := hr.u e176 rfl
          have hb : 5 ≤ F1 0 - F1 1 := b168
          rw [g0, g1, pk_sub (by omega), show (5 : Int32) = nI 5 from rfl, nI_leI (by decide) (by omega), hkE] at hb
          have hN : tkN t n s0 = runE digB t n (s0 + 1) := by unfold tkN; rw [if_neg hl1, if_neg (by rw [hl0]; decide), if_pos hdg]
          refine And.intro (fin _ _ (by show F1 0 = _; rw [g0, hkE, hN]) (by exact g1) (by unfold tokX; rw [if_neg hl1, if_neg (by rw [hl0]; decide), if_pos hdg, if_neg (by omega)]; rfl) (fun _ q => ?_) (by exact g4) hr hf) rfl
          show F1 3 = _
          rw [hN, ← hkE] at q ⊢
          exact g3 (by omega)
        · simp only [cP, cN, bI_0, Bool.not_eq_false, lt_nle, Decidable.not_not] at b168
          refine pF0 (okV_W rfl) (by first | assumption | exact hr.obj | exact hr.xo | exact hr.tp) (Nat.le_of_ble_eq_true rfl) hr.N ?_
          intro h176 e176
          have hf := hf.u e176; have hr := hr.u e176 rfl
          have hb : ¬ 5 ≤ F1 0 - F1 1 := b168
          rw [g0, g1, pk_sub (by omega), show (5 : Int32) = nI 5 from rfl, nI_leI (by decide) (by omega), hkE] at hb
          have hN : tkN t n s0 = runE digB t n (s0 + 1) := by unfold tkN; rw [if_neg hl1, if_neg (by rw [hl0]; decide), if_pos hdg]
          refine And.intro (fin _ _ (by show F1 0 = _; rw [g0, hkE, hN]) (by exact g1) (by unfold tokX; rw [if_neg hl1, if_neg (by rw [hl0]; decide), if_pos hdg, if_pos (by omega)]; rfl) (fun _ q => ?_) (by exact g4) hr hf) rfl
          show F1 3 = _
          rw [hN, ← hkE] at q ⊢
          exact g3 (by omega)
      · simp only [cP, cN, bI_0, Bool.not_eq_false, lt_nle, Decidable.not_not] at b109
        replace b109 : digB (chr t n k) = true := b109
        have hkl := chr_lt (p := digB) (by decide) b109
        refine gF (by first | assumption | exact hr.obj | exact hr.xo | exact hr.tp) ?_
        refine gF (by first | assumption | exact hr.obj | exact hr.xo | exact hr.tp) ?_
        refine And.intro (fun b122 => ?_) (fun b122 => ?_)
        · simp only [cP, cN, bI_0, Bool.not_eq_false, lt_nle, Decidable.not_not] at b122
          have hb : F1 1 + 4 ≤ F1 0 := b122
          rw [g0, g1, show (4 : Int32) = nI 4 from rfl, nI_add, nI_leI (by omega) (by omega)] at hb
          refine gF (by first | assumption | exact hr.obj | exact hr.xo | exact hr.tp) ?_
          refine pF0 (okV_W rfl) (by first | assumption | exact hr.obj | exact hr.xo | exact hr.tp) (Nat.le_of_ble_eq_true rfl) hr.N ?_
          intro h151 e151
          have hf := hf.u e151; have hr := hr.u e151 rfl
          refine ih (n - (k + 1)) (by omega) (k + 1) _ _ rfl (by omega) (by omega) (by rw [← hrun]; exact (run_t hkl b109).symm) (by show F1 0 + 1 = _; rw [g0, nI_1]) (by exact g1) (by exact g4) ?_ hr hf
          intro hle
          exfalso
          omega
        · simp only [cP, cN, bI_0, Bool.not_eq_false, lt_nle, Decidable.not_not] at b122
          refine gF (by first | assumption | exact hr.obj | exact hr.xo | exact hr.tp) ?_
          refine Exists.intro _ (Exists.intro _ (Exists.intro k (And.intro hr (And.intro ⟨g0, by show _ ≤ n; omega⟩ ?_))))
          intro v134 e134
          (try dsimp only at e134)
          refine pF0 (okV_W rfl) (by first | assumption | exact hr.obj | exact hr.xo | exact hr.tp) (Nat.le_of_ble_eq_true rfl) hr.N ?_
          intro h141 e141
          have hf := hf.u e141; have hr := hr.u e141 rfl
          refine gF (by first | assumption | exact hr.obj | exact hr.xo | exact hr.tp) ?_
          refine pF0 (okV_W rfl) (by first | assumption | exact hr.obj | exact hr.xo | exact hr.tp) (Nat.le_of_ble_eq_true rfl) hr.N ?_
          intro h151 e151
          have hf := hf.u e151; have hr := hr.u e151 rfl
          refine ih (n - (k + 1)) (by omega) (k + 1) _ _ rfl (by omega) (by omega) (by rw [← hrun]; exact (run_t hkl b109).symm) (by show F1 0 + 1 = _; rw [g0, nI_1]) (by exact g1) (by exact g4) ?_ hr hf
          intro hle
          show 10 * F1 3 + v134 - 48 = _
          rw [g3 (by omega), e134, chr_at hkl, show k + 1 - s0 = (k - s0) + 1 from by omega, numF, show s0 + (k - s0) = k from by omega]
    have go31 : ∀ (F1 : Nat → Int32) (h1 : AH), F1 0 = nI s0 → F1 4 = F 4 → IsRd G r (x, n, t, T, Xf) F1 h1 → FrR r h h1 → X l G mX4_next (rmK d 0 0) (TGm G (fun v h' z' => Q v h' ∧ z' = z) 0 0) 0 0 31 [(0, .ref r)] [] h1 z := by
      intro F1 h1 g0 g4 hr hf
      refine X.w wkX4_next (fcons (ceV r_isMark rmR1 ckX4_97 rfl rrR1 (by omega) rfl) (fcons (ceV r_isDigit rmR0 ckX4_91 rfl rrR0 (by omega) rfl) (fcons (ceV r_keyword rmR0 ckX4_88 rfl rrR0 (by omega) rfl) (fcons (ceV r_isLetter rmR0 ckX4_84 rfl rrR0 (by omega) rfl) (fcons (ceV r_see rmR0 ckX4_26 rfl rrR0 (by omega) rfl) fnil))))) [62, 105] 32 rfl ?_
      refine gF (by first | assumption | exact hr.obj | exact hr.xo | exact hr.tp) ?_
      refine pF0 (okV_W rfl) (by first | assumption | exact hr.obj | exact hr.xo | exact hr.tp) (Nat.le_of_ble_eq_true rfl) hr.N ?_
      intro h36 e36
      have hf := hf.u e36; have hr := hr.u e36 rfl
      refine Exists.intro _ (Exists.intro _ (Exists.intro s0 (And.intro hr (And.intro ⟨g0, by show _ ≤ n; omega⟩ ?_))))
      intro v40 e40
      (try dsimp only at e40)
      refine And.intro (fun b44 => ?_) (fun b44 => ?_)
      · simp only [cP, cN, bI_0, Bool.not_eq_false, lt_nle, Decidable.not_not] at b44
        rw [e40] at b44
        replace b44 : ¬ chr t n s0 = -1 := b44
        refine Exists.intro _ (Exists.intro _ (Exists.intro s0 (And.intro hr (And.intro ⟨g0, by show _ ≤ n; omega⟩ ?_))))
        intro v56 e56
        (try dsimp only at e56)
        subst e56
        refine And.intro (fun b59 => ?_) (fun b59 => ?_)
        · simp only [cP, cN, bI_0, Bool.not_eq_false, lt_nle, Decidable.not_not] at b59
          replace b59 : letB (chr t n s0) = false := b59
          refine Exists.intro _ (Exists.intro _ (Exists.intro s0 (And.intro hr (And.intro ⟨g0, by show _ ≤ n; omega⟩ ?_))))
          intro v94 e94
          (try dsimp only at e94)
          subst e94
          refine And.intro (fun b97 => ?_) (fun b97 => ?_)
          · simp only [cP, cN, bI_0, Bool.not_eq_false, lt_nle, Decidable.not_not] at b97
            replace b97 : digB (chr t n s0) = false := b97
            refine Exists.intro _ (Exists.intro _ (Exists.intro s0 (And.intro hr (And.intro ⟨g0, by show _ ≤ n; omega⟩ ?_))))
            intro v185 e185
            (try dsimp only at e185)
            refine Exists.intro _ (Exists.intro _ (Exists.intro () (And.intro hr (And.intro trivial ?_))))
            intro v188 e188
            (try dsimp only at e188)
            subst e188
            refine And.intro (fun b191 => ?_) (fun b191 => ?_)
            · simp only [cP, cN, bI_0, Bool.not_eq_false, lt_nle, Decidable.not_not] at b191
              rw [e185] at b191
              replace b191 : markB (chr t n s0) = false := b191
              refine pF0 (okV_W rfl) (by first | assumption | exact hr.obj | exact hr.xo | exact hr.tp) (Nat.le_of_ble_eq_true rfl) hr.N ?_
              intro h202 e202
              have hf := hf.u e202; have hr := hr.u e202 rfl
              refine gF (by first | assumption | exact hr.obj | exact hr.xo | exact hr.tp) ?_
              refine pF0 (okV_W rfl) (by first | assumption | exact hr.obj | exact hr.xo | exact hr.tp) (Nat.le_of_ble_eq_true rfl) hr.N ?_
              intro h212 e212
              have hf := hf.u e212; have hr := hr.u e212 rfl
              have hd9 := b97
              refine And.intro (fin _ _ (by show F1 0 + 1 = _; rw [g0, nI_1]; unfold tkN; rw [if_neg b44, if_neg (by rw [b59]; decide), if_neg (by rw [hd9]; decide)]) (by exact g0) (by unfold tokX; rw [if_neg b44, if_neg (by rw [b59]; decide), if_neg (by rw [hd9]; decide), if_neg (by rw [b191]; decide)]; rfl) (fun q => absurd q (by rw [hd9]; decide)) (by exact g4) hr hf) rfl
            · simp only [cP, cN, bI_0, Bool.not_eq_false, lt_nle, Decidable.not_not] at b191
              rw [e185] at b191
              replace b191 : markB (chr t n s0) = true := b191
              refine Exists.intro _ (Exists.intro _ (Exists.intro s0 (And.intro hr (And.intro ⟨g0, by show _ ≤ n; omega⟩ ?_))))
              intro v195 e195
              (try dsimp only at e195)
              refine pF0 (okV_W rfl) (by first | assumption | exact hr.obj | exact hr.xo | exact hr.tp) (Nat.le_of_ble_eq_true rfl) hr.N ?_
              intro h202 e202
              have hf := hf.u e202; have hr := hr.u e202 rfl
              refine gF (by first | assumption | exact hr.obj | exact hr.xo | exact hr.tp) ?_
              refine pF0 (okV_W rfl) (by first | assumption | exact hr.obj | exact hr.xo | exact hr.tp) (Nat.le_of_ble_eq_true rfl) hr.N ?_
              intro h212 e212
              have hf := hf.u e212; have hr := hr.u e212 rfl
              have hd9 := b97
              refine And.intro (fin _ _ (by show F1 0 + 1 = _; rw [g0, nI_1]; unfold tkN; rw [if_neg b44, if_neg (by rw [b59]; decide), if_neg (by rw [hd9]; decide)]) (by exact g0) (by unfold tokX; rw [if_neg b44, if_neg (by rw [b59]; decide), if_neg (by rw [hd9]; decide), if_pos b191]; exact e195) (fun q => absurd q (by rw [hd9]; decide)) (by exact g4) hr hf) rfl
          · simp only [cP, cN, bI_0, Bool.not_eq_false, lt_nle, Decidable.not_not] at b97
            replace b97 : digB (chr t n s0) = true := b97
            have hsl := chr_lt (p := digB) (by decide) b97
            refine pF0 (okV_W rfl) (by first | assumption | exact hr.obj | exact hr.xo | exact hr.tp) (Nat.le_of_ble_eq_true rfl) hr.N ?_
            intro h102 e102
            have hf := hf.u e102; have hr := hr.u e102 rfl
            exact go105 b59 b97 (n - s0) s0 _ _ rfl (Nat.le_refl _) hs0n.2 (run_t hsl b97) (by exact g0) (by exact g0) (by exact g4) (fun _ => by rw [Nat.sub_self]; rfl) hr hf
        · simp only [cP, cN, bI_0, Bool.not_eq_false, lt_nle, Decidable.not_not] at b59
          replace b59 : letB (chr t n s0) = true := b59
          have hsl := chr_lt (p := letB) (by decide) b59
          exact go62 b59 (n - s0) s0 _ _ rfl (Nat.le_refl _) hs0n.2 (run_t hsl b59) (fun y h1 h2 => absurd h1 (by omega)) (by exact g0) (by exact g0) (by exact g4) hr hf
      · simp only [cP, cN, bI_0, Bool.not_eq_false, lt_nle, Decidable.not_not] at b44
        rw [e40] at b44
        replace b44 : chr t n s0 = -1 := b44
        refine pF0 (okV_W rfl) (by first | assumption | exact hr.obj | exact hr.xo | exact hr.tp) (Nat.le_of_ble_eq_true rfl) hr.N ?_
        intro h49 e49
        have hf := hf.u e49; have hr := hr.u e49 rfl
        refine And.intro (fin _ _ (by show F1 0 = _; rw [g0]; unfold tkN; rw [if_pos b44]) (by exact g0) (by unfold tokX; rw [if_pos b44]; rfl) (fun q => ?_) (by exact g4) hr hf) rfl
        rw [b44] at q
        exact absurd q (by decide)
    have go0 : ∀ (d1 k : Nat) (F1 : Nat → Int32) (h1 : AH), n - k = d1 → k ≤ n → stP t n k = s0 → F1 0 = nI k → F1 4 = F 4 → IsRd G r (x, n, t, T, Xf) F1 h1 → FrR r h h1 → X l G mX4_next (rmK d 0 0) (TGm G (fun v h' z' => Q v h' ∧ z' = z) 0 0) 0 0 0 [(0, .ref r)] [] h1 z := by
      intro d1
      induction d1 using Nat.strongRecOn with
      | _ d1 ih =>
      intro k F1 h1 hd1 hkn hst g0 g4 hr hf
      refine X.w wkX4_next (fcons (ceV r_isMark rmR1 ckX4_97 rfl rrR1 (by omega) rfl) (fcons (ceV r_isDigit rmR0 ckX4_91 rfl rrR0 (by omega) rfl) (fcons (ceV r_keyword rmR0 ckX4_88 rfl rrR0 (by omega) rfl) (fcons (ceV r_isLetter rmR0 ckX4_84 rfl rrR0 (by omega) rfl) (fcons (ceV r_see rmR0 ckX4_26 rfl rrR0 (by omega) rfl) fnil))))) [0, 31] 17 rfl ?_
      refine Exists.intro _ (Exists.intro _ (Exists.intro k (And.intro hr (And.intro ⟨g0, by show _ ≤ n; omega⟩ ?_))))
      intro v1 e1
      (try dsimp only at e1)
      refine And.intro (fun b6 => ?_) (fun b6 => ?_)
      · simp only [cP, cN, bI_0, Bool.not_eq_false, lt_nle, Decidable.not_not] at b6
        rw [e1] at b6
        replace b6 : chr t n k = 32 := b6
        refine gF (by first | assumption | exact hr.obj | exact hr.xo | exact hr.tp) ?_
        refine pF0 (okV_W rfl) (by first | assumption | exact hr.obj | exact hr.xo | exact hr.tp) (Nat.le_of_ble_eq_true rfl) hr.N ?_
        intro h25 e25
        have hf := hf.u e25; have hr := hr.u e25 rfl
        have hws : wsB (chr t n k) = true := by unfold wsB; rw [decide_eq_true b6]; rfl
        have hkl := chr_lt (p := wsB) (by decide) hws
        exact ih (n - (k + 1)) (by omega) (k + 1) _ _ rfl (by omega) (by rw [← hst]; exact (run_t hkl hws).symm) (by show F1 0 + 1 = _; rw [g0, nI_1]) (by exact g4) hr hf
      · simp only [cP, cN, bI_0, Bool.not_eq_false, lt_nle, Decidable.not_not] at b6
        rw [e1] at b6
        replace b6 : ¬ chr t n k = 32 := b6
        refine Exists.intro _ (Exists.intro _ (Exists.intro k (And.intro hr (And.intro ⟨g0, by show _ ≤ n; omega⟩ ?_))))
        intro v10 e10
        (try dsimp only at e10)
        refine And.intro (fun b15 => ?_) (fun b15 => ?_)
        · simp only [cP, cN, bI_0, Bool.not_eq_false, lt_nle, Decidable.not_not] at b15
          rw [e10] at b15
          replace b15 : ¬ chr t n k = 10 := b15
          have hws : wsB (chr t n k) = false := by unfold wsB; rw [decide_eq_false b6, decide_eq_false b15]; rfl
          have hks : k = s0 := by rw [← hst]; exact (run_f hws).symm
          exact go31 F1 h1 (by rw [g0, hks]) g4 hr hf
        · simp only [cP, cN, bI_0, Bool.not_eq_false, lt_nle, Decidable.not_not] at b15
          rw [e10] at b15
          replace b15 : chr t n k = 10 := b15
          refine gF (by first | assumption | exact hr.obj | exact hr.xo | exact hr.tp) ?_
          refine pF0 (okV_W rfl) (by first | assumption | exact hr.obj | exact hr.xo | exact hr.tp) (Nat.le_of_ble_eq_true rfl) hr.N ?_
          intro h25 e25
          have hf := hf.u e25; have hr := hr.u e25 rfl
          have hws : wsB (chr t n k) = true := by unfold wsB; rw [decide_eq_true b15, Bool.or_true]
          have hkl := chr_lt (p := wsB) (by decide) hws
          exact ih (n - (k + 1)) (by omega) (k + 1) _ _ rfl (by omega) (by rw [← hst]; exact (run_t hkl hws).symm) (by show F1 0 + 1 = _; rw [g0, nI_1]) (by exact g4) hr hf
    exact go0 (n - a) a F h rfl ha hs0.symm h00 rfl hr hf
