set_option maxRecDepth 100000
/-! the model reads a token -/
def stP (t : Nat → Int32) (n k : Nat) : Nat := runE wsB t n k
def numF (t : Nat → Int32) (s : Nat) : Nat → Int32
  | 0 => 0
  | j + 1 => 10 * numF t s j + t (s + j) - 48
/-- of the token that begins at s: where it ends, its kind (0 end, 1 none, 2 word, 3 number, 4 sign), its number -/
def tkN (t : Nat → Int32) (n s : Nat) : Nat := if chr t n s = -1 then s else if letB (chr t n s) = true then runE letB t n (s + 1) else if digB (chr t n s) = true then runE digB t n (s + 1) else s + 1
def tkK (t : Nat → Int32) (n s : Nat) : Int32 := if chr t n s = -1 then 0 else if letB (chr t n s) = true then (if wid t s (runE letB t n (s + 1)) = -1 then 1 else 2) else if digB (chr t n s) = true then (if runE digB t n (s + 1) - s < 5 then 3 else 1) else if markB (chr t n s) = true then 4 else 1
def tkV (t : Nat → Int32) (n s : Nat) : Int32 := if letB (chr t n s) = true then wid t s (runE letB t n (s + 1)) else if digB (chr t n s) = true then numF t s (runE digB t n (s + 1) - s) else chr t n s
def TkF (f t : Nat → Int32) (n k : Nat) : Prop := f 21 = nI (tkN t n (stP t n k)) ∧ f 22 = nI (stP t n k) ∧ f 23 = tkK t n (stP t n k) ∧ (¬ tkK t n (stP t n k) = 0 → ¬ tkK t n (stP t n k) = 1 → f 24 = tkV t n (stP t n k))
def RdO (S : SS) (n : Nat) : Prop := S 0 20 = nI n ∧ n ≤ 400 ∧ WtO S ∧ ∀ i, i < n → 0 ≤ S 8 i
def FO (S : SS) (f : Nat → Int32) : Prop := ∀ j, j < 21 ∨ 24 < j → f j = S 0 j
theorem FO.upd {S : SS} {f : Nat → Int32} (h : FO S f) {k : Nat} {x : Int32} (h1 : 21 ≤ k ∧ k ≤ 24) : FO S (upd f k x) := fun j hj => by
  rw [pk_un (by omega)]
  exact h j hj
theorem raw_chr {S : SS} {f : Nat → Int32} {n k : Nat} (h : f 20 = nI n) (hn : n ≤ 400) (hk : k ≤ 400) : rawM (setF S 0 f) k = chr (S 8) n k := by
  unfold rawM chr
  rw [show setF S 0 f 0 20 = f 20 from rfl, h, show setF S 0 f 8 k = S 8 k from rfl]
  rcases Nat.lt_or_ge k n with e | e
  · rw [if_pos (nI_lt e (by omega)), if_pos e]
  · rw [if_neg (nI_nlt e (by omega)), if_neg (by omega)]
theorem dig_nI {c : Int32} (h : digB c = true) : ∃ q, q ≤ 9 ∧ c = nI (48 + q) := by
  obtain ⟨k, h1, h2, rfl⟩ := isInB_nI (a := 48) (b := 57) (by decide) h (by decide)
  exact ⟨k - 48, by omega, by rw [show 48 + (k - 48) = k from by omega]⟩
theorem numF_bd {t : Nat → Int32} {s : Nat} : ∀ {j : Nat}, j ≤ 4 → (∀ x, s ≤ x → x < s + j → digB (t x) = true) → ∃ v, v < 10 ^ j ∧ numF t s j = nI v
  | 0, _, _ => ⟨0, by decide, rfl⟩
  | j + 1, hj, h => by
    obtain ⟨v, hv, e⟩ := numF_bd (t := t) (s := s) (j := j) (by omega) (fun x h1 h2 => h x h1 (by omega))
    obtain ⟨q, hq, eq⟩ := dig_nI (h (s + j) (by omega) (by omega))
    refine ⟨10 * v + q, ?_, ?_⟩
    · rw [Nat.pow_succ]; omega
    · rw [numF, e, eq, show (10 : Int32) = nI 10 from rfl, show (48 : Int32) = nI 48 from rfl, pk_mul, nI_add, pk_sub (by omega)]
      congr 1
      omega
theorem k_reads : CtS mX3_reads 3 (mV0 (fun (a : Nat × Nat) S => S 0 21 = nI a.1 ∧ a.1 ≤ a.2 ∧ RdO S a.2) (fun (a : Nat × Nat) S S' => ∃ f, S' = setF S 0 f ∧ FO S f ∧ TkF f (S 8) a.2 a.1)) := by
  intro l G d hd as h z Q hs
  match as, hs with
  | [.ref b], hs =>
    obtain ⟨S, a, hm, hp, hs⟩ := hs
    replace hp : S 0 21 = nI a.1 ∧ a.1 ≤ a.2 ∧ RdO S a.2 := hp
    replace hs : ∀ S' h', (∃ f, S' = setF S 0 f ∧ FO S f ∧ TkF f (S 8) a.2 a.1) → IsMod G b S' h' → FrM b h h' → Q none h' := hs
    have hf : FrM b h h := FrM.rf
    refine Ct.of rfl (Nat.le_of_ble_eq_true rfl) rfl ?_
    obtain ⟨k0, n⟩ := a
    dsimp only at hp hs
    obtain ⟨h210, hk0, hn20, hn, hW, hge⟩ := hp
    obtain ⟨s0, hs0⟩ : ∃ s0, s0 = stP (S 8) n k0 := ⟨_, rfl⟩
    have hs0n : k0 ≤ s0 ∧ s0 ≤ n := by rw [hs0]; exact run_le rfl hk0
    have fin : ∀ (f : Nat → Int32) (h' : AH), FO S f → f 21 = nI (tkN (S 8) n s0) → f 22 = nI s0 → f 23 = tkK (S 8) n s0 → (¬ tkK (S 8) n s0 = 0 → ¬ tkK (S 8) n s0 = 1 → f 24 = tkV (S 8) n s0) → IsMod G b (setF S 0 f) h' → FrM b h h' → Q none h' := by
      intro f h' h1 h2 h3 h4 h5 hm hf
      refine hs _ h' ⟨f, rfl, h1, ?_⟩ hm hf
      unfold TkF
      rw [← hs0]
      exact ⟨h2, h3, h4, h5⟩
    have hne : ∀ k, k < n → ¬ chr (S 8) n k = -1 := by
      intro k hk e
      rw [chr_at hk] at e
      have := hge k hk
      rw [e] at this
      exact absurd this (by decide)
    have go95 : letB (chr (S 8) n s0) = true → ∀ (d1 k : Nat) (f : Nat → Int32) (h1 : AH) (x1 : Int32), n - k = d1 → s0 < k → k ≤ n → runE letB (S 8) n k = runE letB (S 8) n (s0 + 1) → (∀ x, s0 ≤ x → x < k → letB (S 8 x) = true) → FO S f → f 21 = nI k → f 22 = nI s0 → f 23 = 1 → IsMod G b (setF S 0 f) h1 → FrM b h h1 → X l G mX3_reads (rmK d 0 0) (TGm G (fun v h' z' => Q v h' ∧ z' = z) 0 0) 0 0 95 [(0, .ref b), (1, .int x1)] [] h1 z := by
      intro hl d1
      have hl1 := hne s0 (chr_lt (by decide) hl)
      induction d1 using Nat.strongRecOn with
      | _ d1 ih =>
      intro k f h1 x1 hd1 hsk hkn hrun hlet hFO h21 h22 h23 hm hf
      have h20 : f 20 = nI n := (hFO 20 (Or.inl (by decide))).trans hn20
      refine X.w wkX3_reads (fcons (ceV k_isMarkSign mmR1 ckX3_185 rfl mrR1 (by omega) rfl) (fcons (ceV k_isDigit mmR1 ckX3_182 rfl mrR1 (by omega) rfl) (fcons (ceV k_wordAt mmR2 ckX3_178 rfl mrR2 (by omega) rfl) (fcons (ceV k_isLetter mmR1 ckX3_175 rfl mrR1 (by omega) rfl) (fcons (ceV k_raw mmR1 ckX3_163 rfl mrR1 (by omega) rfl) fnil))))) [95] 25 rfl ?_
      refine gF (by first | assumption | exact hm.obj | exact hm.arr _ rfl) ?_
      refine Exists.intro _ (Exists.intro k (And.intro hm (And.intro ⟨h21, ⟨n, h20, hn⟩, by omega⟩ ?_)))
      intro v101 e101
      (try dsimp only at e101)
      replace e101 : v101 = chr (S 8) n k := e101.trans (raw_chr h20 hn (by omega))
      refine Exists.intro _ (Exists.intro () (And.intro hm (And.intro trivial ?_)))
      intro v104 e104
      subst e104
      refine And.intro (fun b107 => ?_) (fun b107 => ?_)
      · simp only [cP, cN, bI_0, Bool.not_eq_false, lt_nle, Decidable.not_not] at b107
        rw [e101] at b107
        have hkE : k = runE letB (S 8) n (s0 + 1) := by rw [← hrun, run_f b107]
        refine gF (by first | assumption | exact hm.obj | exact hm.arr _ rfl) ?_
        refine gF (by first | assumption | exact hm.obj | exact hm.arr _ rfl) ?_
        refine Exists.intro _ (Exists.intro (s0, k) (And.intro hm (And.intro ⟨h22, h21, by show s0 ≤ k; omega, by show k ≤ 400; omega, hW, hlet⟩ ?_)))
        intro v133 e133
        (try dsimp only at e133)
        replace e133 : v133 = wid (S 8) s0 k := e133
        refine pF0 (okV_W rfl) (by first | assumption | exact hm.obj | exact hm.arr _ rfl) (Nat.le_of_ble_eq_true rfl) (by first | exact hm.N | exact hm.No _) ?_
        intro h136 e136
        have hm := hm.u0 e136 rfl; have hf := hf.u0 e136
        rw [up2_set] at hm
        refine gF (by first | assumption | exact hm.obj | exact hm.arr _ rfl) ?_
        refine And.intro (fun b144 => ?_) (fun b144 => ?_)
        · simp only [cP, cN, bI_0, Bool.not_eq_false, lt_nle, Decidable.not_not] at b144
          have hb :  v133 = -1 := b144
          rw [e133, hkE] at hb
          refine And.intro (fin _ _ (by exact hFO.upd (by decide)) (by show f 21 = _; rw [h21, hkE]; unfold tkN; rw [if_neg hl1, if_pos hl]) (by exact h22) (by unfold tkK; rw [if_neg hl1, if_pos hl, if_pos hb]; exact h23) (fun _ _ => by show v133 = _; rw [e133, hkE]; unfold tkV; rw [if_pos hl]) hm hf) rfl
        · simp only [cP, cN, bI_0, Bool.not_eq_false, lt_nle, Decidable.not_not] at b144
          refine pF0 (okV_W rfl) (by first | assumption | exact hm.obj | exact hm.arr _ rfl) (Nat.le_of_ble_eq_true rfl) (by first | exact hm.N | exact hm.No _) ?_
          intro h149 e149
          have hm := hm.u0 e149 rfl; have hf := hf.u0 e149
          rw [up2_set] at hm
          have hb : ¬ v133 = -1 := b144
          rw [e133, hkE] at hb
          refine And.intro (fin _ _ (by exact (hFO.upd (by decide)).upd (by decide)) (by show f 21 = _; rw [h21, hkE]; unfold tkN; rw [if_neg hl1, if_pos hl]) (by exact h22) (by unfold tkK; rw [if_neg hl1, if_pos hl, if_neg hb]; rfl) (fun _ _ => by show v133 = _; rw [e133, hkE]; unfold tkV; rw [if_pos hl]) hm hf) rfl
      · simp only [cP, cN, bI_0, Bool.not_eq_false, lt_nle, Decidable.not_not] at b107
        rw [e101] at b107
        have hkl := chr_lt (p := letB) (by decide) b107
        refine gF (by first | assumption | exact hm.obj | exact hm.arr _ rfl) ?_
        refine pF0 (okV_W rfl) (by first | assumption | exact hm.obj | exact hm.arr _ rfl) (Nat.le_of_ble_eq_true rfl) (by first | exact hm.N | exact hm.No _) ?_
        intro h117 e117
        have hm := hm.u0 e117 rfl; have hf := hf.u0 e117
        rw [up2_set] at hm
        refine ih (n - (k + 1)) (by omega) (k + 1) _ _ _ rfl (by omega) (by omega) (by rw [← hrun]; exact (run_t hkl b107).symm) ?_ (by exact hFO.upd (by decide)) (by show f 21 + 1 = _; rw [h21, nI_1]) (by exact h22) (by exact h23) hm hf
        intro x hx1 hx2
        by_cases e : x = k
        · subst e; rw [← chr_at (t := S 8) hkl]; exact b107
        · exact hlet x hx1 (by omega)
    have go171 : letB (chr (S 8) n s0) = false → digB (chr (S 8) n s0) = true → ∀ (d1 k : Nat) (f : Nat → Int32) (h1 : AH) (x1 : Int32), n - k = d1 → s0 < k → k ≤ n → runE digB (S 8) n k = runE digB (S 8) n (s0 + 1) → (∀ x, s0 ≤ x → x < k → digB (S 8 x) = true) → FO S f → f 21 = nI k → f 22 = nI s0 → f 23 = 1 → (k - s0 ≤ 4 → f 24 = numF (S 8) s0 (k - s0)) → IsMod G b (setF S 0 f) h1 → FrM b h h1 → X l G mX3_reads (rmK d 0 0) (TGm G (fun v h' z' => Q v h' ∧ z' = z) 0 0) 0 0 171 [(0, .ref b), (1, .int x1)] [] h1 z := by
      intro hl hdg d1
      have hl1 := hne s0 (chr_lt (by decide) hdg)
      induction d1 using Nat.strongRecOn with
      | _ d1 ih =>
      intro k f h1 x1 hd1 hsk hkn hrun hlet hFO h21 h22 h23 h24 hm hf
      have h20 : f 20 = nI n := (hFO 20 (Or.inl (by decide))).trans hn20
      refine X.w wkX3_reads (fcons (ceV k_isMarkSign mmR1 ckX3_185 rfl mrR1 (by omega) rfl) (fcons (ceV k_isDigit mmR1 ckX3_182 rfl mrR1 (by omega) rfl) (fcons (ceV k_wordAt mmR2 ckX3_178 rfl mrR2 (by omega) rfl) (fcons (ceV k_isLetter mmR1 ckX3_175 rfl mrR1 (by omega) rfl) (fcons (ceV k_raw mmR1 ckX3_163 rfl mrR1 (by omega) rfl) fnil))))) [171] 34 rfl ?_
      refine gF (by first | assumption | exact hm.obj | exact hm.arr _ rfl) ?_
      refine Exists.intro _ (Exists.intro k (And.intro hm (And.intro ⟨h21, ⟨n, h20, hn⟩, by omega⟩ ?_)))
      intro v177 e177
      (try dsimp only at e177)
      replace e177 : v177 = chr (S 8) n k := e177.trans (raw_chr h20 hn (by omega))
      refine Exists.intro _ (Exists.intro () (And.intro hm (And.intro trivial ?_)))
      intro v180 e180
      subst e180
      refine And.intro (fun b183 => ?_) (fun b183 => ?_)
      · simp only [cP, cN, bI_0, Bool.not_eq_false, lt_nle, Decidable.not_not] at b183
        rw [e177] at b183
        have hkE : k = runE digB (S 8) n (s0 + 1) := by rw [← hrun, run_f b183]
        have esub : nI k - nI s0 = nI (k - s0) := pk_sub (by omega)
        refine gF (by first | assumption | exact hm.obj | exact hm.arr _ rfl) ?_
        refine gF (by first | assumption | exact hm.obj | exact hm.arr _ rfl) ?_
        refine And.intro (fun b249 => ?_) (fun b249 => ?_)
        · simp only [cP, cN, bI_0, Bool.not_eq_false, lt_nle, Decidable.not_not] at b249
          have hb :  5 ≤ f 21 - f 22 := b249
          rw [h21, h22, esub, show (5 : Int32) = nI 5 from rfl, nI_leI (by decide) (by omega), hkE] at hb
          refine And.intro (fin _ _ hFO (by show f 21 = _; rw [h21, hkE]; unfold tkN; rw [if_neg hl1, if_neg (by rw [hl]; decide), if_pos hdg]) (by exact h22) (by unfold tkK; rw [if_neg hl1, if_neg (by rw [hl]; decide), if_pos hdg, if_neg (by omega)]; exact h23) (fun _ q => absurd (by unfold tkK; rw [if_neg hl1, if_neg (by rw [hl]; decide), if_pos hdg, if_neg (by omega)]) q) hm hf) rfl
        · simp only [cP, cN, bI_0, Bool.not_eq_false, lt_nle, Decidable.not_not] at b249
          refine pF0 (okV_W rfl) (by first | assumption | exact hm.obj | exact hm.arr _ rfl) (Nat.le_of_ble_eq_true rfl) (by first | exact hm.N | exact hm.No _) ?_
          intro h254 e254
          have hm := hm.u0 e254 rfl; have hf := hf.u0 e254
          rw [up2_set] at hm
          have hb : ¬ 5 ≤ f 21 - f 22 := b249
          rw [h21, h22, esub, show (5 : Int32) = nI 5 from rfl, nI_leI (by decide) (by omega), hkE] at hb
          refine And.intro (fin _ _ (by exact hFO.upd (by decide)) (by show f 21 = _; rw [h21, hkE]; unfold tkN; rw [if_neg hl1, if_neg (by rw [hl]; decide), if_pos hdg]) (by exact h22) (by unfold tkK; rw [if_neg hl1, if_neg (by rw [hl]; decide), if_pos hdg, if_pos (by omega)]; rfl) (fun _ _ => by show f 24 = _; rw [h24 (by omega), hkE]; unfold tkV; rw [if_neg (by rw [hl]; decide), if_pos hdg]) hm hf) rfl
      · simp only [cP, cN, bI_0, Bool.not_eq_false, lt_nle, Decidable.not_not] at b183
        rw [e177] at b183
        have hkl := chr_lt (p := digB) (by decide) b183
        refine gF (by first | assumption | exact hm.obj | exact hm.arr _ rfl) ?_
        refine And.intro (fun b194 => ?_) (fun b194 => ?_)
        · simp only [cP, cN, bI_0, Bool.not_eq_false, lt_nle, Decidable.not_not] at b194
          refine gF (by first | assumption | exact hm.obj | exact hm.arr _ rfl) ?_
          refine pF0 (okV_W rfl) (by first | assumption | exact hm.obj | exact hm.arr _ rfl) (Nat.le_of_ble_eq_true rfl) (by first | exact hm.N | exact hm.No _) ?_
          intro h223 e223
          have hm := hm.u0 e223 rfl; have hf := hf.u0 e223
          rw [up2_set] at hm
          refine gF (by first | assumption | exact hm.obj | exact hm.arr _ rfl) ?_
          refine pF0 (okV_W rfl) (by first | assumption | exact hm.obj | exact hm.arr _ rfl) (Nat.le_of_ble_eq_true rfl) (by first | exact hm.N | exact hm.No _) ?_
          intro h233 e233
          have hm := hm.u0 e233 rfl; have hf := hf.u0 e233
          rw [up2_set] at hm
          refine ih (n - (k + 1)) (by omega) (k + 1) _ _ _ rfl (by omega) (by omega) (by rw [← hrun]; exact (run_t hkl b183).symm) ?_ (by exact (hFO.upd (by decide)).upd (by decide)) (by show f 21 + 1 = _; rw [h21, nI_1]) (by exact h22) (by exact h23) ?_ hm hf
          · intro x hx1 hx2
            by_cases e : x = k
            · subst e; rw [← chr_at (t := S 8) hkl]; exact b183
            · exact hlet x hx1 (by omega)
          · intro hle
            exfalso
            obtain ⟨v, hv, ev⟩ := numF_bd (t := S 8) (s := s0) (j := k - s0) (by omega) (fun x h1 h2 => hlet x h1 (by omega))
            have hb : nI 10000 ≤ f 24 := b194
            rw [h24 (by omega), ev, nI_leI (by decide) (by have : 10 ^ (k - s0) ≤ 10 ^ 3 := Nat.pow_le_pow_right (by decide) (by omega); omega)] at hb
            have : 10 ^ (k - s0) ≤ 10 ^ 3 := Nat.pow_le_pow_right (by decide) (by omega)
            omega
        · simp only [cP, cN, bI_0, Bool.not_eq_false, lt_nle, Decidable.not_not] at b194
          refine gF (by first | assumption | exact hm.obj | exact hm.arr _ rfl) ?_
          refine gF (by first | assumption | exact hm.obj | exact hm.arr _ rfl) ?_
          refine Exists.intro _ (Exists.intro k (And.intro hm (And.intro ⟨h21, ⟨n, h20, hn⟩, by omega⟩ ?_)))
          intro v209 e209
          (try dsimp only at e209)
          replace e209 : v209 = chr (S 8) n k := e209.trans (raw_chr h20 hn (by omega))
          refine pF0 (okV_W rfl) (by first | assumption | exact hm.obj | exact hm.arr _ rfl) (Nat.le_of_ble_eq_true rfl) (by first | exact hm.N | exact hm.No _) ?_
          intro h223 e223
          have hm := hm.u0 e223 rfl; have hf := hf.u0 e223
          rw [up2_set] at hm
          refine gF (by first | assumption | exact hm.obj | exact hm.arr _ rfl) ?_
          refine pF0 (okV_W rfl) (by first | assumption | exact hm.obj | exact hm.arr _ rfl) (Nat.le_of_ble_eq_true rfl) (by first | exact hm.N | exact hm.No _) ?_
          intro h233 e233
          have hm := hm.u0 e233 rfl; have hf := hf.u0 e233
          rw [up2_set] at hm
          refine ih (n - (k + 1)) (by omega) (k + 1) _ _ _ rfl (by omega) (by omega) (by rw [← hrun]; exact (run_t hkl b183).symm) ?_ (by exact (hFO.upd (by decide)).upd (by decide)) (by show f 21 + 1 = _; rw [h21, nI_1]) (by exact h22) (by exact h23) ?_ hm hf
          · intro x hx1 hx2
            by_cases e : x = k
            · subst e; rw [← chr_at (t := S 8) hkl]; exact b183
            · exact hlet x hx1 (by omega)
          · intro hle
            show 10 * f 24 + v209 - 48 = _
            rw [h24 (by omega), e209, chr_at hkl, show k + 1 - s0 = (k - s0) + 1 from by omega, numF, show s0 + (k - s0) = k from by omega]
    have go39 : ∀ (f : Nat → Int32) (h1 : AH), FO S f → f 21 = nI s0 → IsMod G b (setF S 0 f) h1 → FrM b h h1 → X l G mX3_reads (rmK d 0 0) (TGm G (fun v h' z' => Q v h' ∧ z' = z) 0 0) 0 0 39 [(0, .ref b)] [] h1 z := by
      intro f h1 hFO h21 hm hf
      have h20 : f 20 = nI n := (hFO 20 (Or.inl (by decide))).trans hn20
      refine X.w wkX3_reads (fcons (ceV k_isMarkSign mmR1 ckX3_185 rfl mrR1 (by omega) rfl) (fcons (ceV k_isDigit mmR1 ckX3_182 rfl mrR1 (by omega) rfl) (fcons (ceV k_wordAt mmR2 ckX3_178 rfl mrR2 (by omega) rfl) (fcons (ceV k_isLetter mmR1 ckX3_175 rfl mrR1 (by omega) rfl) (fcons (ceV k_raw mmR1 ckX3_163 rfl mrR1 (by omega) rfl) fnil))))) [95, 171] 41 rfl ?_
      refine gF (by first | assumption | exact hm.obj | exact hm.arr _ rfl) ?_
      refine pF0 (okV_W rfl) (by first | assumption | exact hm.obj | exact hm.arr _ rfl) (Nat.le_of_ble_eq_true rfl) (by first | exact hm.N | exact hm.No _) ?_
      intro h44 e44
      have hm := hm.u0 e44 rfl; have hf := hf.u0 e44
      rw [up2_set] at hm
      refine pF0 (okV_W rfl) (by first | assumption | exact hm.obj | exact hm.arr _ rfl) (Nat.le_of_ble_eq_true rfl) (by first | exact hm.N | exact hm.No _) ?_
      intro h49 e49
      have hm := hm.u0 e49 rfl; have hf := hf.u0 e49
      rw [up2_set] at hm
      refine gF (by first | assumption | exact hm.obj | exact hm.arr _ rfl) ?_
      refine Exists.intro _ (Exists.intro s0 (And.intro hm (And.intro ⟨h21, ⟨n, h20, hn⟩, by omega⟩ ?_)))
      intro v57 e57
      (try dsimp only at e57)
      replace e57 : v57 = chr (S 8) n s0 := e57.trans (raw_chr h20 hn (by omega))
      refine And.intro (fun b63 => ?_) (fun b63 => ?_)
      · simp only [cP, cN, bI_0, Bool.not_eq_false, lt_nle, Decidable.not_not] at b63
        rw [e57] at b63
        refine gF (by first | assumption | exact hm.obj | exact hm.arr _ rfl) ?_
        refine pF0 (okV_W rfl) (by first | assumption | exact hm.obj | exact hm.arr _ rfl) (Nat.le_of_ble_eq_true rfl) (by first | exact hm.N | exact hm.No _) ?_
        intro h79 e79
        have hm := hm.u0 e79 rfl; have hf := hf.u0 e79
        rw [up2_set] at hm
        refine pF0 (okV_W rfl) (by first | assumption | exact hm.obj | exact hm.arr _ rfl) (Nat.le_of_ble_eq_true rfl) (by first | exact hm.N | exact hm.No _) ?_
        intro h84 e84
        have hm := hm.u0 e84 rfl; have hf := hf.u0 e84
        rw [up2_set] at hm
        refine Exists.intro _ (Exists.intro () (And.intro hm (And.intro trivial ?_)))
        intro v89 e89
        subst e89
        refine And.intro (fun b92 => ?_) (fun b92 => ?_)
        · simp only [cP, cN, bI_0, Bool.not_eq_false, lt_nle, Decidable.not_not] at b92
          rw [e57] at b92
          refine Exists.intro _ (Exists.intro () (And.intro hm (And.intro trivial ?_)))
          intro v157 e157
          subst e157
          refine And.intro (fun b160 => ?_) (fun b160 => ?_)
          · simp only [cP, cN, bI_0, Bool.not_eq_false, lt_nle, Decidable.not_not] at b160
            rw [e57] at b160
            refine Exists.intro _ (Exists.intro () (And.intro hm (And.intro trivial ?_)))
            intro v262 e262
            subst e262
            refine And.intro (fun b265 => ?_) (fun b265 => ?_)
            · simp only [cP, cN, bI_0, Bool.not_eq_false, lt_nle, Decidable.not_not] at b265
              rw [e57] at b265
              refine And.intro (fin _ _ (by exact (((hFO.upd (by decide)).upd (by decide)).upd (by decide)).upd (by decide)) (by show f 21 + 1 = _; rw [h21, nI_1]; unfold tkN; rw [if_neg b63, if_neg (by rw [b92]; decide), if_neg (by rw [b160]; decide)]) (by exact h21) (by unfold tkK; rw [if_neg b63, if_neg (by rw [b92]; decide), if_neg (by rw [b160]; decide), if_neg (by rw [b265]; decide)]; rfl) (fun _ _ => by show v57 = _; rw [e57]; unfold tkV; rw [if_neg (by rw [b92]; decide), if_neg (by rw [b160]; decide)]) hm hf) rfl
            · simp only [cP, cN, bI_0, Bool.not_eq_false, lt_nle, Decidable.not_not] at b265
              rw [e57] at b265
              refine pF0 (okV_W rfl) (by first | assumption | exact hm.obj | exact hm.arr _ rfl) (Nat.le_of_ble_eq_true rfl) (by first | exact hm.N | exact hm.No _) ?_
              intro h270 e270
              have hm := hm.u0 e270 rfl; have hf := hf.u0 e270
              rw [up2_set] at hm
              refine And.intro (fin _ _ (by exact ((((hFO.upd (by decide)).upd (by decide)).upd (by decide)).upd (by decide)).upd (by decide)) (by show f 21 + 1 = _; rw [h21, nI_1]; unfold tkN; rw [if_neg b63, if_neg (by rw [b92]; decide), if_neg (by rw [b160]; decide)]) (by exact h21) (by unfold tkK; rw [if_neg b63, if_neg (by rw [b92]; decide), if_neg (by rw [b160]; decide), if_pos b265]; rfl) (fun _ _ => by show v57 = _; rw [e57]; unfold tkV; rw [if_neg (by rw [b92]; decide), if_neg (by rw [b160]; decide)]) hm hf) rfl
          · simp only [cP, cN, bI_0, Bool.not_eq_false, lt_nle, Decidable.not_not] at b160
            rw [e57] at b160
            have hsl := chr_lt (p := digB) (by decide) b160
            refine pF0 (okV_W rfl) (by first | assumption | exact hm.obj | exact hm.arr _ rfl) (Nat.le_of_ble_eq_true rfl) (by first | exact hm.N | exact hm.No _) ?_
            intro h168 e168
            have hm := hm.u0 e168 rfl; have hf := hf.u0 e168
            rw [up2_set] at hm
            refine go171 b92 b160 (n - (s0 + 1)) (s0 + 1) _ _ _ rfl (by omega) (by omega) rfl ?_ (by exact ((((hFO.upd (by decide)).upd (by decide)).upd (by decide)).upd (by decide)).upd (by decide)) (by show f 21 + 1 = _; rw [h21, nI_1]) (by exact h21) (by exact rfl) ?_ hm hf
            · intro x hx1 hx2
              rw [show x = s0 from by omega, ← chr_at (t := S 8) hsl]
              exact b160
            · intro _
              show v57 - 48 = numF (S 8) s0 (s0 + 1 - s0)
              rw [e57, chr_at hsl, show s0 + 1 - s0 = 0 + 1 from by omega, numF, numF]
              simp
        · simp only [cP, cN, bI_0, Bool.not_eq_false, lt_nle, Decidable.not_not] at b92
          rw [e57] at b92
          have hsl := chr_lt (p := letB) (by decide) b92
          refine go95 b92 (n - (s0 + 1)) (s0 + 1) _ _ _ rfl (by omega) (by omega) rfl ?_ (by exact (((hFO.upd (by decide)).upd (by decide)).upd (by decide)).upd (by decide)) (by show f 21 + 1 = _; rw [h21, nI_1]) (by exact h21) (by exact rfl) hm hf
          intro x hx1 hx2
          rw [show x = s0 from by omega, ← chr_at (t := S 8) hsl]
          exact b92
      · simp only [cP, cN, bI_0, Bool.not_eq_false, lt_nle, Decidable.not_not] at b63
        rw [e57] at b63
        refine pF0 (okV_W rfl) (by first | assumption | exact hm.obj | exact hm.arr _ rfl) (Nat.le_of_ble_eq_true rfl) (by first | exact hm.N | exact hm.No _) ?_
        intro h68 e68
        have hm := hm.u0 e68 rfl; have hf := hf.u0 e68
        rw [up2_set] at hm
        have hK : tkK (S 8) n s0 = 0 := by unfold tkK; rw [if_pos b63]
        exact And.intro (fin _ _ (by exact ((hFO.upd (by decide)).upd (by decide)).upd (by decide)) (by show f 21 = _; rw [h21]; unfold tkN; rw [if_pos b63]) (by exact h21) (by rw [hK]; rfl) (fun q => absurd hK q) hm hf) rfl
    have go0 : ∀ (d1 k : Nat) (f : Nat → Int32) (h1 : AH), n - k = d1 → k ≤ n → stP (S 8) n k = s0 → FO S f → f 21 = nI k → IsMod G b (setF S 0 f) h1 → FrM b h h1 → X l G mX3_reads (rmK d 0 0) (TGm G (fun v h' z' => Q v h' ∧ z' = z) 0 0) 0 0 0 [(0, .ref b)] [] h1 z := by
      intro d1
      induction d1 using Nat.strongRecOn with
      | _ d1 ih =>
      intro k f h1 hd1 hkn hst hFO h21 hm hf
      have h20 : f 20 = nI n := (hFO 20 (Or.inl (by decide))).trans hn20
      refine X.w wkX3_reads (fcons (ceV k_isMarkSign mmR1 ckX3_185 rfl mrR1 (by omega) rfl) (fcons (ceV k_isDigit mmR1 ckX3_182 rfl mrR1 (by omega) rfl) (fcons (ceV k_wordAt mmR2 ckX3_178 rfl mrR2 (by omega) rfl) (fcons (ceV k_isLetter mmR1 ckX3_175 rfl mrR1 (by omega) rfl) (fcons (ceV k_raw mmR1 ckX3_163 rfl mrR1 (by omega) rfl) fnil))))) [0, 39] 21 rfl ?_
      refine gF (by first | assumption | exact hm.obj | exact hm.arr _ rfl) ?_
      refine Exists.intro _ (Exists.intro k (And.intro hm (And.intro ⟨h21, ⟨n, h20, hn⟩, by omega⟩ ?_)))
      intro v5 e5
      (try dsimp only at e5)
      replace e5 : v5 = chr (S 8) n k := e5.trans (raw_chr h20 hn (by omega))
      refine And.intro (fun b10 => ?_) (fun b10 => ?_)
      · simp only [cP, cN, bI_0, Bool.not_eq_false, lt_nle, Decidable.not_not] at b10
        rw [e5] at b10
        refine gF (by first | assumption | exact hm.obj | exact hm.arr _ rfl) ?_
        refine pF0 (okV_W rfl) (by first | assumption | exact hm.obj | exact hm.arr _ rfl) (Nat.le_of_ble_eq_true rfl) (by first | exact hm.N | exact hm.No _) ?_
        intro h33 e33
        have hm := hm.u0 e33 rfl; have hf := hf.u0 e33
        rw [up2_set] at hm
        have hws : wsB (chr (S 8) n k) = true := by unfold wsB; rw [b10]; rfl
        have hkl := chr_lt (p := wsB) (by decide) hws
        exact ih (n - (k + 1)) (by omega) (k + 1) _ _ rfl (by omega) (by rw [← hst]; exact (run_t hkl hws).symm) (by exact hFO.upd (by decide)) (by show f 21 + 1 = _; rw [h21, nI_1]) hm hf
      · simp only [cP, cN, bI_0, Bool.not_eq_false, lt_nle, Decidable.not_not] at b10
        rw [e5] at b10
        refine gF (by first | assumption | exact hm.obj | exact hm.arr _ rfl) ?_
        refine Exists.intro _ (Exists.intro k (And.intro hm (And.intro ⟨h21, ⟨n, h20, hn⟩, by omega⟩ ?_)))
        intro v18 e18
        (try dsimp only at e18)
        replace e18 : v18 = chr (S 8) n k := e18.trans (raw_chr h20 hn (by omega))
        refine And.intro (fun b23 => ?_) (fun b23 => ?_)
        · simp only [cP, cN, bI_0, Bool.not_eq_false, lt_nle, Decidable.not_not] at b23
          rw [e18] at b23
          have hws : wsB (chr (S 8) n k) = false := by unfold wsB; rw [decide_eq_false b10, decide_eq_false b23]; rfl
          have hks : k = s0 := by rw [← hst]; exact (run_f hws).symm
          exact go39 f h1 hFO (by rw [h21, hks]) hm hf
        · simp only [cP, cN, bI_0, Bool.not_eq_false, lt_nle, Decidable.not_not] at b23
          rw [e18] at b23
          refine gF (by first | assumption | exact hm.obj | exact hm.arr _ rfl) ?_
          refine pF0 (okV_W rfl) (by first | assumption | exact hm.obj | exact hm.arr _ rfl) (Nat.le_of_ble_eq_true rfl) (by first | exact hm.N | exact hm.No _) ?_
          intro h33 e33
          have hm := hm.u0 e33 rfl; have hf := hf.u0 e33
          rw [up2_set] at hm
          have hws : wsB (chr (S 8) n k) = true := by unfold wsB; rw [b23]; rfl
          have hkl := chr_lt (p := wsB) (by decide) hws
          exact ih (n - (k + 1)) (by omega) (k + 1) _ _ rfl (by omega) (by rw [← hst]; exact (run_t hkl hws).symm) (by exact hFO.upd (by decide)) (by show f 21 + 1 = _; rw [h21, nI_1]) hm hf
    exact go0 (n - k0) k0 (S 0) h rfl hk0 hs0.symm (fun _ _ => rfl) h210 (by rw [setF_self]; exact hm) hf
