set_option maxRecDepth 100000
/-! THE CLASS: days, at, odds -/
theorem uS_2 {W : XW} {j : Nat} {A B : SS} : (W.uS j A).uS j B = W.uS j B := by
  show (W.1, W.2.1, upN (upN W.S j A) j B, W.2.2.2) = (W.1, W.2.1, upN W.S j B, W.2.2.2)
  rw [show upN (upN W.S j A) j B = upN W.S j B from by
    funext q
    by_cases e : q = j
    · subst e; rw [upN_s, upN_s]
    · rw [upN_n e, upN_n e, upN_n e]]
theorem uS_sf {W : XW} {j : Nat} : W.uS j (W.S j) = W := by
  show (W.1, W.2.1, upN W.S j (W.S j), W.2.2.2) = W
  rw [upN_self]
theorem RW.rg {S M : SS} {L : List Line9} (r : RW S L M) : RG S (thkF M) 0 (M 0 16) := by
  refine ⟨fun k hk => (cap_M r hk).symm, fun k hk => r.2.2.1 2 k hk, fun c hc h => ?_, ?_, ?_⟩
  · have h1 : capB S (nI c) = true := by rw [cap_M r hc]; exact h
    have hn := cap_ne r hc h1
    refine ⟨?_, r.2.2.1 4 c hc hn, ?_⟩
    · show cpy 64 (M 18) (fun j => M 1 (64 + j)) c = _
      rw [cpy_lt hc]
      exact r.2.2.1 3 c hc hn
    · show (if M 3 c + 10 - 0 < 0 then 0 else M 3 c + 10 - 0) = _
      have hcell : isCellB S (nI c) = true := by
        unfold capB at h1
        rw [Bool.and_eq_true] at h1
        exact h1.1
      rw [show M 3 c = _ from r.2.2.2.1 10 c hc hcell]
      have e : S 1 c - 10 + 10 - 0 = S 1 c := by simp
      rw [e]
      have h0 := (r.1 9 c hc).ge (by decide)
      rw [if_neg (by rw [Int32.not_lt]; exact h0)]
  · show M 0 17 + 0 = _
    rw [show M 0 17 = _ from r.2.2.2.1 2]
    simp
  · exact (r.2.2.2.1 6).symm
theorem endS_f {A : SS} {m : Nat} : endS A m 0 14 = A 0 14 + 1 ∧ endS A m 0 16 = A 0 16 := by
  have ag : ∀ (B : SS) k, sickF B m 0 k = B 0 k := fun B k => by rw [sickF_lo B m 0 (by decide)]
  have k1 : eatS A 0 16 = A 0 16 ∧ eatS A 0 14 = A 0 14 := by
    unfold eatS
    split
    · exact ⟨rfl, rfl⟩
    · split
      · exact ⟨rfl, rfl⟩
      · split
        · exact ⟨rfl, rfl⟩
        · exact ⟨rfl, rfl⟩
  have k2 : ∀ B : SS, wetS B 0 16 = B 0 16 ∧ wetS B 0 14 = B 0 14 := fun B => by
    unfold wetS
    split <;> exact ⟨rfl, rfl⟩
  have k3 : ∀ B : SS, frzS B 0 16 = B 0 16 ∧ frzS B 0 14 = B 0 14 := fun B => by
    unfold frzS
    split <;> exact ⟨rfl, rfl⟩
  unfold endS t54 t95 t109 t136 t146
  constructor
  · show sickF _ m 0 14 + 1 = _
    rw [ag]
    show frzS _ 0 14 + 1 = _
    rw [(k3 _).2]
    show wetS _ 0 14 + 1 = _
    rw [(k2 _).2, k1.2]
  · show sickF _ m 0 16 = _
    rw [ag]
    show frzS _ 0 16 = _
    rw [(k3 _).1]
    show wetS _ 0 16 = _
    rw [(k2 _).1, k1.1]
theorem x_days : CtS mX0_days (DEP + 12) (xW1 (fun (M : SS) w W => RelX W M) (fun (M : SS) w W v W' => ((isInB w 1 100 = true ∧ M 0 17 + w ≤ 9999) ∧ ∃ A, (∀ v1 S1, EndsR (W.Ls 0) (gN (W.S 0 0 16)) (gN w) M v1 S1 → RW A (W.Ls 0) S1 ∧ v = v1) ∧ W' = (W.uS 0 A).uF 8 0) ∨ (¬ (isInB w 1 100 = true ∧ M 0 17 + w ≤ 9999) ∧ v = -1 ∧ W' = W))) := by
  intro l G d hd as h z Q hs
  match as, hs with
  | [.ref b, .int w], hs =>
    obtain ⟨W, M, hx, hp, hs⟩ := hs
    replace hp : RelX W M := hp
    replace hs : ∀ v W' h', (((isInB w 1 100 = true ∧ M 0 17 + w ≤ 9999) ∧ ∃ A, (∀ v1 S1, EndsR (W.Ls 0) (gN (W.S 0 0 16)) (gN w) M v1 S1 → RW A (W.Ls 0) S1 ∧ v = v1) ∧ W' = (W.uS 0 A).uF 8 0) ∨ (¬ (isInB w 1 100 = true ∧ M 0 17 + w ≤ 9999) ∧ v = -1 ∧ W' = W)) → IsX G b W' h' → FrX b h h' → Q (some (.int v)) h' := hs
    have hf : FrX b h h := FrX.rf
    refine Ct.of rfl (Nat.le_of_ble_eq_true rfl) rfl ?_
    have e17 : M 0 17 = W.S 0 0 14 := hp.w.2.2.2.1 2
    have hB6 := hp.w.1 4
    have hBd := hp.w.1 2
    refine X.w wkX0_days (fcons (ceV x_forgets xmW0 ckX0_110 rfl xrW0 (by omega) rfl) (fcons (ceV c_endsDay moEnds ckX0_210 rfl rcEnds (by omega) rfl) (fcons (ceS c_isIn mo3 ckX0_50 (by omega) rfl) fnil))) [27] 15 rfl ?_
    refine And.intro (fun b7 => ?_) (fun b7 => ?_)
    · simp only [cP, cN, bI_0, Bool.not_eq_false, lt_nle, Decidable.not_not] at b7
      exact And.intro (hs _ _ _ (Or.inr ⟨fun q => absurd (b7.symm.trans q.1) (by decide), rfl, rfl⟩) hx hf) rfl
    · simp only [cP, cN, bI_0, Bool.not_eq_false, lt_nle, Decidable.not_not] at b7
      refine gF (by first | assumption | exact hx.obj | exact hx.bk | exact hx.rs | exact hx.sp | exact hx.tp | exact hx.w0.obj | exact hx.w0.arr _ rfl) ?_
      refine gF (by first | assumption | exact hx.obj | exact hx.bk | exact hx.rs | exact hx.sp | exact hx.tp | exact hx.w0.obj | exact hx.w0.arr _ rfl) ?_
      refine And.intro (fun b22 => ?_) (fun b22 => ?_)
      · simp only [cP, cN, bI_0, Bool.not_eq_false, lt_nle, Decidable.not_not] at b22
        have hC : (isInB w 1 100 = true ∧ M 0 17 + w ≤ 9999) := ⟨b7, by rw [e17]; exact b22⟩
        obtain ⟨kw, hk1, hkw, rfl⟩ := isInB_nI (a := 1) (b := 100) (by decide) b7 (by decide)
        have hd9 : gN (W.S 0 0 14) + kw ≤ 9999 := by
          have h9 := b22
          have h8 := hBd.2
          rw [hBd.1, nI_add] at h9
          exact (nI_leI (b := 9999) (by omega) (by decide)).mp h9
        have egw : gN (nI kw) = kw := gN_nI (by omega)
        have hwn : nI kw = nI (gN (nI kw)) := by rw [egw]
        rw [← egw] at hd9 hkw
        generalize nI kw = w at hs hC hwn hd9 hkw
        have loop : ∀ (n c : Nat) (i : Int32) (v : Int32) (A : SS) (h1 : AH), c + n = gN w → i = nI c → (IsX G b (W.uS 0 A) h1) → (FrX b h h1) → (A 0 16 = W.S 0 0 16) → (A 0 14 = nI (gN (W.S 0 0 14) + c)) → (∀ v1 S1, EndsR (W.Ls 0) (gN (W.S 0 0 16)) c M v1 S1 → RW A (W.Ls 0) S1 ∧ v = v1) → X l G mX0_days (rmK d 0 0) (TGm G (fun v h' z' => Q v h' ∧ z' = z) 0 0) 0 0 31 [(0, .ref b), (1, .int w), (2, .int v), (3, .int i)] [] h1 z := by
          intro  n
          induction n using Nat.strongRecOn with
          | _ n ih =>
          intro c i v A h1  hc hi hx hf h16 h14 hR
          subst hi
          refine X.w wkX0_days (fcons (ceV x_forgets xmW0 ckX0_110 rfl xrW0 (by omega) rfl) (fcons (ceV c_endsDay moEnds ckX0_210 rfl rcEnds (by omega) rfl) (fcons (ceS c_isIn mo3 ckX0_50 (by omega) rfl) fnil))) [31] 13 rfl ?_
          refine And.intro (fun b33 => ?_) (fun b33 => ?_)
          · simp only [cP, cN, bI_0, Bool.not_eq_false, lt_nle, Decidable.not_not] at b33
            have hc2 : gN w ≤ c := (le64 (by omega) (by omega)).mp (hwn ▸ b33)
            obtain rfl : c = gN w := by omega
            refine Exists.intro _ (Exists.intro () (And.intro hx (And.intro trivial ?_)))
            intro v53 W53 h53 p53 hx hf53
            have hf := hf.tr hf53
            (try dsimp only at p53)
            obtain ⟨rfl, rfl⟩ := p53
            exact And.intro (hs _ _ _ (Or.inl ⟨hC, A, hR, rfl⟩) hx hf) rfl
          · simp only [cP, cN, bI_0, Bool.not_eq_false, lt_nle, Decidable.not_not] at b33
            have hc2 : c < gN w := nle64 (k := gN w) (hwn ▸ b33) (by omega) (by omega)
            refine gF (by first | assumption | exact hx.obj | exact hx.bk | exact hx.rs | exact hx.sp | exact hx.tp | exact hx.w0.obj | exact hx.w0.arr _ rfl) ?_
            refine Exists.intro _ (Exists.intro _ (Exists.intro _ (Exists.intro _ (And.intro hx.w0 (And.intro (hx.lawF (j := 0) (by decide)) (And.intro (show (W.uS 0 A).S 0 0 16 = nI (gN (W.S 0 0 16)) from h16.trans hB6.1) (And.intro hB6.2 ?_)))))))
            intro x41 h41 hw41 hf41
            have hf := hf.w (j := 0) (by decide) hf41
            have hx := hx.wood (j := 0) (by decide) hw41 hf41
            rw [uS_2] at hx
            refine ih (n - 1) (by omega) (c + 1) _ _ _ _ (by omega) (nI_1 c) hx hf ?_ ?_ ?_
            · rw [endS_f.2]; exact h16
            · rw [endS_f.1]
              show A 0 14 + 1 = _
              rw [h14, nI_1]; rfl
            · intro v1 S1 hE
              obtain ⟨v0, S0, v2, g1, g2, rfl⟩ := hE
              obtain ⟨r0, rfl⟩ := hR v0 S0 g1
              have h9 := r0.day (x := x41) (h16.trans hB6.1) hB6.2 (by rw [h14, gN_nI (by omega)]; omega) r0.rg g2
              exact ⟨h9.1, by rw [h9.2]; rfl⟩
        refine X.w wkX0_days (fcons (ceV x_forgets xmW0 ckX0_110 rfl xrW0 (by omega) rfl) (fcons (ceV c_endsDay moEnds ckX0_210 rfl rcEnds (by omega) rfl) (fcons (ceS c_isIn mo3 ckX0_50 (by omega) rfl) fnil))) [31] 6 rfl ?_
        exact loop (gN w) 0 _ _ (W.S 0) _ (by omega) rfl (by rw [uS_sf]; exact hx) hf rfl hBd.1 (fun v1 S1 hE => by obtain ⟨rfl, rfl⟩ := hE; exact ⟨hp.w, rfl⟩)
      · simp only [cP, cN, bI_0, Bool.not_eq_false, lt_nle, Decidable.not_not] at b22
        exact And.intro (hs _ _ _ (Or.inr ⟨fun q => b22 (by rw [← e17]; exact q.2), rfl, rfl⟩) hx hf) rfl
theorem x_at : CtS mX0_at (DEP + 12) (xW2 (fun (M : SS) c w W => RelX W M) (fun (M : SS) c w W v W' => v = atM M (W.Ls 0) c w ∧ ∃ x, W' = W.up 0 0 24 x)) := by
  intro l G d hd as h z Q hs
  match as, hs with
  | [.ref b, .int c, .int w], hs =>
    obtain ⟨W, M, hx, hp, hs⟩ := hs
    replace hp : RelX W M := hp
    replace hs : ∀ v W' h', (v = atM M (W.Ls 0) c w ∧ ∃ x, W' = W.up 0 0 24 x) → IsX G b W' h' → FrX b h h' → Q (some (.int v)) h' := hs
    have hf : FrX b h h := FrX.rf
    refine Ct.of rfl (Nat.le_of_ble_eq_true rfl) rfl ?_
    have sf : W = W.up 0 0 24 (W.S 0 0 24) := (XW.up_sf W 0 0 24).symm
    refine X.w wkX0_at (fcons (ceV c_grows moGrows ckX0_213 rfl rcGrows (by omega) rfl) (fcons (ceV c_hasCap moW1 ckX0_168 rfl rcW1 (by omega) rfl) (fcons (ceS c_isIn mo3 ckX0_50 (by omega) rfl) (fcons (ceV c_isCell moW1 ckX0_114 rfl rcW1 (by omega) rfl) fnil)))) [] 20 rfl ?_
    refine gF (by first | assumption | exact hx.obj | exact hx.bk | exact hx.rs | exact hx.sp | exact hx.tp | exact hx.w0.obj | exact hx.w0.arr _ rfl) ?_
    refine Exists.intro _ (Exists.intro _ (And.intro hx.w0 ?_))
    refine And.intro (fun b8 => ?_) (fun b8 => ?_)
    · simp only [cP, cN, bI_0, Bool.not_eq_false, lt_nle, Decidable.not_not] at b8
      exact And.intro (hs _ _ _ ⟨by unfold atM; rw [if_neg (fun q => absurd (b8.symm.trans ((hp.cell _).symm.trans q.1)) (by decide))], _, sf⟩ hx hf) rfl
    · simp only [cP, cN, bI_0, Bool.not_eq_false, lt_nle, Decidable.not_not] at b8
      obtain ⟨j, hj, rfl⟩ := isCellM_lt hp.sq (by rw [hp.cell]; exact b8)
      have hg : gN (nI j) = j := gN_nI (by omega)
      refine And.intro (fun b17 => ?_) (fun b17 => ?_)
      · simp only [cP, cN, bI_0, Bool.not_eq_false, lt_nle, Decidable.not_not] at b17
        exact And.intro (hs _ _ _ ⟨by unfold atM; rw [if_neg (fun q => absurd (b17.symm.trans q.2.1) (by decide))], _, sf⟩ hx hf) rfl
      · simp only [cP, cN, bI_0, Bool.not_eq_false, lt_nle, Decidable.not_not] at b17
        refine And.intro (fun b21 => ?_) (fun b21 => ?_)
        · simp only [cP, cN, bI_0, Bool.not_eq_false, lt_nle, Decidable.not_not] at b21
          have hcm : isCellM M (nI j) = true := by rw [hp.cell]; exact b8
          have hdm : M 3 j + 10 = W.S 0 1 j := by rw [show M 3 j = _ from hp.w.2.2.2.1 10 j hj b8]; simp
          rcases sw_case w 4 (by decide) with ⟨k, hk, rfl⟩ | ⟨ho, hn⟩
          · match k, hk with
            | 0, _ =>
              refine X.tswIn wkX0_at.2.2.2 rfl (by decide +kernel) (by decide +kernel) (by decide +kernel) (off := 36) (tgt := 76) (by decide) ?_
              refine X.w wkX0_at (fcons (ceV c_grows moGrows ckX0_213 rfl rcGrows (by omega) rfl) (fcons (ceV c_hasCap moW1 ckX0_168 rfl rcW1 (by omega) rfl) (fcons (ceS c_isIn mo3 ckX0_50 (by omega) rfl) (fcons (ceV c_isCell moW1 ckX0_114 rfl rcW1 (by omega) rfl) fnil)))) [] 7 rfl ?_
              refine gF (by first | assumption | exact hx.obj | exact hx.bk | exact hx.rs | exact hx.sp | exact hx.tp | exact hx.w0.obj | exact hx.w0.arr _ rfl) ?_
              refine gF (by first | assumption | exact hx.obj | exact hx.bk | exact hx.rs | exact hx.sp | exact hx.tp | exact hx.w0.obj | exact hx.w0.arr _ rfl) ?_
              refine gA (by first | assumption | exact hx.obj | exact hx.bk | exact hx.rs | exact hx.sp | exact hx.tp | exact hx.w0.obj | exact hx.w0.arr _ rfl) (ixN hj (by decide)) ?_
              exact And.intro (hs _ _ _ ⟨by unfold atM; rw [if_pos ⟨hcm, b17, fun q => q.1 b21⟩, hg, if_pos (by decide), hdm], _, sf⟩ hx hf) rfl
            | 1, _ => exact absurd b21 (by decide)
            | 2, _ => exact absurd b21 (by decide)
            | 3, _ => exact absurd b21 (by decide)
            | 4, _ => exact absurd b21 (by decide)
          · exfalso
            obtain ⟨k9, -, hk9, rfl⟩ := isInB_nI (a := 0) (b := 5) (by decide) b17 (by decide)
            have h9 := (nI_leI (b := 0) (by omega) (by decide)).mp b21
            exact hn k9 (by omega) rfl
        · simp only [cP, cN, bI_0, Bool.not_eq_false, lt_nle, Decidable.not_not] at b21
          refine gF (by first | assumption | exact hx.obj | exact hx.bk | exact hx.rs | exact hx.sp | exact hx.tp | exact hx.w0.obj | exact hx.w0.arr _ rfl) ?_
          refine Exists.intro _ (Exists.intro _ (And.intro hx.w0 ?_))
          refine And.intro (fun b32 => ?_) (fun b32 => ?_)
          · simp only [cP, cN, bI_0, Bool.not_eq_false, lt_nle, Decidable.not_not] at b32
            have hcm : isCellM M (nI j) = true := by rw [hp.cell]; exact b8
            have hdm : M 3 j + 10 = W.S 0 1 j := by rw [show M 3 j = _ from hp.w.2.2.2.1 10 j hj b8]; simp
            rcases sw_case w 4 (by decide) with ⟨k, hk, rfl⟩ | ⟨ho, hn⟩
            · match k, hk with
              | 0, _ => exact absurd (by decide) b21
              | 1, _ =>
                refine X.tswIn wkX0_at.2.2.2 rfl (by decide +kernel) (by decide +kernel) (by decide +kernel) (off := 46) (tgt := 86) (by decide) ?_
                refine X.w wkX0_at (fcons (ceV c_grows moGrows ckX0_213 rfl rcGrows (by omega) rfl) (fcons (ceV c_hasCap moW1 ckX0_168 rfl rcW1 (by omega) rfl) (fcons (ceS c_isIn mo3 ckX0_50 (by omega) rfl) (fcons (ceV c_isCell moW1 ckX0_114 rfl rcW1 (by omega) rfl) fnil)))) [] 7 rfl ?_
                refine gF (by first | assumption | exact hx.obj | exact hx.bk | exact hx.rs | exact hx.sp | exact hx.tp | exact hx.w0.obj | exact hx.w0.arr _ rfl) ?_
                refine gF (by first | assumption | exact hx.obj | exact hx.bk | exact hx.rs | exact hx.sp | exact hx.tp | exact hx.w0.obj | exact hx.w0.arr _ rfl) ?_
                refine gA (by first | assumption | exact hx.obj | exact hx.bk | exact hx.rs | exact hx.sp | exact hx.tp | exact hx.w0.obj | exact hx.w0.arr _ rfl) (ixN hj (by decide)) ?_
                exact And.intro (hs _ _ _ ⟨by unfold atM; rw [if_pos ⟨hcm, b17, fun q => absurd ((cap_f hp.w hj).mpr (by rw [← hg]; exact q.2)) (by rw [b32]; decide)⟩, hg, if_neg (by decide), if_pos (by decide), hp.wd1 hj], _, sf⟩ hx hf) rfl
              | 2, _ =>
                refine X.tswIn wkX0_at.2.2.2 rfl (by decide +kernel) (by decide +kernel) (by decide +kernel) (off := 56) (tgt := 96) (by decide) ?_
                refine X.w wkX0_at (fcons (ceV c_grows moGrows ckX0_213 rfl rcGrows (by omega) rfl) (fcons (ceV c_hasCap moW1 ckX0_168 rfl rcW1 (by omega) rfl) (fcons (ceS c_isIn mo3 ckX0_50 (by omega) rfl) (fcons (ceV c_isCell moW1 ckX0_114 rfl rcW1 (by omega) rfl) fnil)))) [] 7 rfl ?_
                refine gF (by first | assumption | exact hx.obj | exact hx.bk | exact hx.rs | exact hx.sp | exact hx.tp | exact hx.w0.obj | exact hx.w0.arr _ rfl) ?_
                refine gF (by first | assumption | exact hx.obj | exact hx.bk | exact hx.rs | exact hx.sp | exact hx.tp | exact hx.w0.obj | exact hx.w0.arr _ rfl) ?_
                refine gA (by first | assumption | exact hx.obj | exact hx.bk | exact hx.rs | exact hx.sp | exact hx.tp | exact hx.w0.obj | exact hx.w0.arr _ rfl) (ixN hj (by decide)) ?_
                exact And.intro (hs _ _ _ ⟨by unfold atM; rw [if_pos ⟨hcm, b17, fun q => absurd ((cap_f hp.w hj).mpr (by rw [← hg]; exact q.2)) (by rw [b32]; decide)⟩, hg, if_neg (by decide), if_neg (by decide), if_pos (by decide), hp.sz hj b32], _, sf⟩ hx hf) rfl
              | 3, _ =>
                refine X.tswIn wkX0_at.2.2.2 rfl (by decide +kernel) (by decide +kernel) (by decide +kernel) (off := 66) (tgt := 106) (by decide) ?_
                refine X.w wkX0_at (fcons (ceV c_grows moGrows ckX0_213 rfl rcGrows (by omega) rfl) (fcons (ceV c_hasCap moW1 ckX0_168 rfl rcW1 (by omega) rfl) (fcons (ceS c_isIn mo3 ckX0_50 (by omega) rfl) (fcons (ceV c_isCell moW1 ckX0_114 rfl rcW1 (by omega) rfl) fnil)))) [] 7 rfl ?_
                refine gF (by first | assumption | exact hx.obj | exact hx.bk | exact hx.rs | exact hx.sp | exact hx.tp | exact hx.w0.obj | exact hx.w0.arr _ rfl) ?_
                refine gF (by first | assumption | exact hx.obj | exact hx.bk | exact hx.rs | exact hx.sp | exact hx.tp | exact hx.w0.obj | exact hx.w0.arr _ rfl) ?_
                refine gA (by first | assumption | exact hx.obj | exact hx.bk | exact hx.rs | exact hx.sp | exact hx.tp | exact hx.w0.obj | exact hx.w0.arr _ rfl) (ixN hj (by decide)) ?_
                exact And.intro (hs _ _ _ ⟨by unfold atM; rw [if_pos ⟨hcm, b17, fun q => absurd ((cap_f hp.w hj).mpr (by rw [← hg]; exact q.2)) (by rw [b32]; decide)⟩, hg, if_neg (by decide), if_neg (by decide), if_neg (by decide), if_pos (by decide), hp.cm hj b32], _, sf⟩ hx hf) rfl
              | 4, _ =>
                refine X.tswIn wkX0_at.2.2.2 rfl (by decide +kernel) (by decide +kernel) (by decide +kernel) (off := 76) (tgt := 116) (by decide) ?_
                refine X.w wkX0_at (fcons (ceV c_grows moGrows ckX0_213 rfl rcGrows (by omega) rfl) (fcons (ceV c_hasCap moW1 ckX0_168 rfl rcW1 (by omega) rfl) (fcons (ceS c_isIn mo3 ckX0_50 (by omega) rfl) (fcons (ceV c_isCell moW1 ckX0_114 rfl rcW1 (by omega) rfl) fnil)))) [] 7 rfl ?_
                refine gF (by first | assumption | exact hx.obj | exact hx.bk | exact hx.rs | exact hx.sp | exact hx.tp | exact hx.w0.obj | exact hx.w0.arr _ rfl) ?_
                refine gF (by first | assumption | exact hx.obj | exact hx.bk | exact hx.rs | exact hx.sp | exact hx.tp | exact hx.w0.obj | exact hx.w0.arr _ rfl) ?_
                refine gA (by first | assumption | exact hx.obj | exact hx.bk | exact hx.rs | exact hx.sp | exact hx.tp | exact hx.w0.obj | exact hx.w0.arr _ rfl) (ixN hj (by decide)) ?_
                exact And.intro (hs _ _ _ ⟨by unfold atM; rw [if_pos ⟨hcm, b17, fun q => absurd ((cap_f hp.w hj).mpr (by rw [← hg]; exact q.2)) (by rw [b32]; decide)⟩, hg, if_neg (by decide), if_neg (by decide), if_neg (by decide), if_neg (by decide), if_pos (by decide), hp.by hj b32], _, sf⟩ hx hf) rfl
            · refine X.tswOut wkX0_at.2.2.2 rfl ho (tgt := 126) (by decide) ?_
              refine X.w wkX0_at (fcons (ceV c_grows moGrows ckX0_213 rfl rcGrows (by omega) rfl) (fcons (ceV c_hasCap moW1 ckX0_168 rfl rcW1 (by omega) rfl) (fcons (ceS c_isIn mo3 ckX0_50 (by omega) rfl) (fcons (ceV c_isCell moW1 ckX0_114 rfl rcW1 (by omega) rfl) fnil)))) [] 6 rfl ?_
              refine gF (by first | assumption | exact hx.obj | exact hx.bk | exact hx.rs | exact hx.sp | exact hx.tp | exact hx.w0.obj | exact hx.w0.arr _ rfl) ?_
              refine Exists.intro _ (Exists.intro _ (Exists.intro _ (Exists.intro _ (And.intro hx.w0 (And.intro rfl (And.intro hj (And.intro (hx.lawF (j := 0) (by decide)) ?_)))))))
              intro h131 hw131 hf131
              have hf := hf.w (j := 0) (by decide) hf131
              have hx := hx.wood (j := 0) (by decide) hw131 hf131
              refine And.intro (hs _ _ _ ⟨?_, _, rfl⟩ hx hf) rfl
              unfold atM
              rw [if_pos ⟨hcm, b17, fun q => absurd ((cap_f hp.w hj).mpr (by rw [← hg]; exact q.2)) (by rw [b32]; decide)⟩, hg, if_neg (show ¬ w = 0 from hn 0 (by decide)), if_neg (show ¬ w = 1 from hn 1 (by decide)), if_neg (show ¬ w = 2 from hn 2 (by decide)), if_neg (show ¬ w = 3 from hn 3 (by decide)), if_neg (show ¬ w = 4 from hn 4 (by decide)), grow_eq hp.rg hp.wf hj (by show capM M j = true; rw [← hp.cap hj]; exact b32)]
              rfl
          · simp only [cP, cN, bI_0, Bool.not_eq_false, lt_nle, Decidable.not_not] at b32
            exact And.intro (hs _ _ _ ⟨by unfold atM; rw [if_neg (fun q => q.2.2 ⟨b21, by rw [hg]; exact (cap_f hp.w hj).mp b32⟩)], _, sf⟩ hx hf) rfl
def wayX (u : Int32) : Nat → Int32
  | 0 => 1
  | c + 1 => wayX u c * (u - nI c) / (nI c + 1)
theorem way_ok : ∀ n, n < 65 → ∀ k, k < 5 → (if nI k ≤ nI n then wayX (nI n) k else 0) = waysM (nI n) k := by decide +kernel
def spWays : GG → CSpec := fun _ as h Q => match as with
  | [.int u, .int w] => ∃ a N : Nat, w = nI a ∧ a ≤ 4 ∧ u = nI N ∧ N ≤ 64 ∧ ∀ v, v = waysM (nI N) a → Q (some (.int v)) h
  | _ => False
theorem moWays {G : GG} : Mono (spWays G) := by
  intro as h Q Q' hQ hs
  unfold spWays at hs ⊢
  split at hs
  · obtain ⟨a, N, h1, h2, h3, h4, h5⟩ := hs
    exact ⟨a, N, h1, h2, h3, h4, fun v e => hQ _ _ (h5 v e)⟩
  · exact hs.elim
theorem x_ways : CtS mX0_ways 1 spWays := by
  intro l G d hd as h z Q hs
  match as, hs with
  | [.int u, .int w], hs =>
    obtain ⟨a, N, rfl, ha, rfl, hN, hs⟩ := hs
    refine Ct.of rfl (Nat.le_of_ble_eq_true rfl) rfl ?_
    have loop : ∀ (n c : Nat) (i : Int32) (v : Int32), c + n = a → i = nI c → (v = wayX (nI N) c) → X l G mX0_ways (rmK d 0 0) (TGm G (fun v h' z' => Q v h' ∧ z' = z) 0 0) 0 0 4 [(0, .int (nI N)), (1, .int (nI a)), (2, .int v), (3, .int i)] [] h z := by
      intro  n
      induction n using Nat.strongRecOn with
      | _ n ih =>
      intro c i v  hc hi hv
      subst hi
      refine X.w wkX0_ways fnil [4] 17 rfl ?_
      refine And.intro (fun b6 => ?_) (fun b6 => ?_)
      · simp only [cP, cN, bI_0, Bool.not_eq_false, lt_nle, Decidable.not_not] at b6
        have hc2 : a ≤ c := (le64 (by omega) (by omega)).mp b6
        obtain rfl : c = a := by omega
        refine And.intro (fun b27 => ?_) (fun b27 => ?_)
        · simp only [cP, cN, bI_0, Bool.not_eq_false, lt_nle, Decidable.not_not] at b27
          exact And.intro (hs _ (by rw [← way_ok N (by omega) c (by omega), if_pos b27, ← hv])) rfl
        · simp only [cP, cN, bI_0, Bool.not_eq_false, lt_nle, Decidable.not_not] at b27
          exact And.intro (hs _ (by rw [← way_ok N (by omega) c (by omega), if_neg b27])) rfl
      · simp only [cP, cN, bI_0, Bool.not_eq_false, lt_nle, Decidable.not_not] at b6
        have hc2 : c < a := nle64 b6 (by omega) (by omega)
        refine And.intro (nI1_ne (by omega)) ?_
        refine ih (n - 1) (by omega) (c + 1) _ _ (by omega) (nI_1 c) ?_
        unfold wayX
        rw [hv]
    refine X.w wkX0_ways fnil [4] 6 rfl ?_
    exact loop a 0 _ _ (by omega) rfl rfl
theorem com1 {l : Launch} {G : GG} {d a b : Nat} (ha : a < 2 ^ 31) (hb : b < 2 ^ 31) {h : AH} {z : Nat} {P : Option Value → AH → Nat → Prop} (hc : 0 < b → ∀ P' : Option Value → AH → Nat → Prop, P' (some (.int (nI (Nat.gcd b (a % b))))) h z → Ct l G mX0_common d 0 0 [.int (nI b), .int (nI (a % b))] h z P') (hP : P (some (.int (nI (Nat.gcd a b)))) h z) : Ct l G mX0_common (d + 1) 0 0 [.int (nI a), .int (nI b)] h z P := by
  refine Ct.of rfl (Nat.le_of_ble_eq_true rfl) rfl ?_
  refine X.w wkX0_common fnil [12] 8 rfl ?_
  refine And.intro (fun b1 => ?_) (fun b1 => ?_)
  · simp only [cP, cN, bI_0, Bool.not_eq_false, lt_nle, Decidable.not_not] at b1
    have hb0 : 0 < b := by
      rcases Nat.eq_zero_or_pos b with e | e
      · rw [e] at b1; exact absurd rfl b1
      · exact e
    refine And.intro b1 ?_
    rw [pk_rem ha hb0 hb]
    refine X.callS (As := [.int (nI b), .int (nI (a % b))]) (rest := []) ckX0_238 wkX0_common.2.2.2 rfl (hc hb0 (fun v h' z' => v = some (.int (nI (Nat.gcd a b))) ∧ h' = h ∧ z' = z) ⟨by rw [Nat.gcd_comm b, ← Nat.gcd_rec, Nat.gcd_comm], rfl, rfl⟩) rfl rfl (Fit.K (by omega) (by decide) (Nat.le_refl 0) (Nat.le_refl 0)) (by decide) ?_
    intro v h' z' hv
    obtain ⟨rfl, rfl, rfl⟩ := hv
    refine X.w wkX0_common fnil [] 2 rfl ?_
    exact hP
  · simp only [cP, cN, bI_0, Bool.not_eq_false, lt_nle, Decidable.not_not] at b1
    have hb0 : b = 0 := (nI_eq hb (by decide)).mp b1
    rw [hb0, Nat.gcd_zero_right] at hP
    exact hP
theorem com2 {l : Launch} {G : GG} {h : AH} {z : Nat} : ∀ (f a b d : Nat), a < 2 ^ 31 → b < 2 ^ 31 → b < 2 ^ f → 2 * f + 1 ≤ d → ∀ P : Option Value → AH → Nat → Prop, P (some (.int (nI (Nat.gcd a b)))) h z → Ct l G mX0_common d 0 0 [.int (nI a), .int (nI b)] h z P
  | 0, a, b, d, ha, hb, hf, hd, P, hP => by
    obtain ⟨e, rfl⟩ : ∃ e, d = e + 1 := ⟨d - 1, by omega⟩
    exact com1 ha hb (fun q => by omega) hP
  | f + 1, a, b, d, ha, hb, hf, hd, P, hP => by
    obtain ⟨e, rfl⟩ : ∃ e, d = (e + 1) + 1 := ⟨d - 2, by omega⟩
    refine com1 ha hb (fun hb0 P' hP' => ?_) hP
    have h1 := Nat.mod_lt a hb0
    refine com1 hb (by omega) (fun hr0 P2 hP2 => ?_) hP'
    have h2 := Nat.mod_lt b hr0
    have h3 := Nat.div_add_mod b (a % b)
    have h4 : 0 < b / (a % b) := Nat.div_pos (by omega) hr0
    have h5 : a % b ≤ (a % b) * (b / (a % b)) := Nat.le_mul_of_pos_right _ h4
    have h6 : 2 ^ (f + 1) = 2 * 2 ^ f := by rw [Nat.pow_succ, Nat.mul_comm]
    exact com2 f _ _ e (by omega) (by omega) (by omega) (by omega) P2 hP2
def spCom : GG → CSpec := fun _ as h Q => match as with
  | [.int x, .int y] => ∃ a b : Nat, x = nI a ∧ y = nI b ∧ a < 2 ^ 31 ∧ b < 2 ^ 31 ∧ ∀ v, v = nI (Nat.gcd a b) → Q (some (.int v)) h
  | _ => False
theorem moCom {G : GG} : Mono (spCom G) := by
  intro as h Q Q' hQ hs
  unfold spCom at hs ⊢
  split at hs
  · obtain ⟨a, N, h1, h2, h3, h4, h5⟩ := hs
    exact ⟨a, N, h1, h2, h3, h4, fun v e => hQ _ _ (h5 v e)⟩
  · exact hs.elim
theorem x_common : CtS mX0_common 63 spCom := by
  intro l G d hd as h z Q hs
  match as, hs with
  | [.int x, .int y], hs =>
    obtain ⟨a, b, rfl, rfl, ha, hb, hs⟩ := hs
    exact com2 31 a b d ha hb hb (by omega) _ ⟨hs _ rfl, rfl⟩
theorem x_odds : CtS mX0_odds (65) (xR4 (fun (M : SS) ce0 r n0 w W => RelX W M) (fun (M : SS) ce0 r n0 w W => oddM M ce0 r n0 w)) := by
  intro l G d hd as h z Q hs
  match as, hs with
  | [.ref b, .int ce0, .int r, .int n0, .int w], hs =>
    obtain ⟨W, M, hx, hp, hs⟩ := hs
    replace hp : RelX W M := hp
    replace hs : ∀ r9, r9 = oddM M ce0 r n0 w → Q (some (.int r9)) h := hs
    have hf : FrX b h h := FrX.rf
    refine Ct.of rfl (Nat.le_of_ble_eq_true rfl) rfl ?_
    have loop : ∀ (n c : Nat) (i : Int32) (x y : Int32), c + n = 64 → i = nI c → (arM M ce0 r = true) → (isInB n0 1 4 = true) → (isInB w 0 1 = true) → (x = foldN (craM M ce0 r) (fun _ x => x + 1) 0 c) → (y = foldN (godM M ce0 r) (fun _ x => x + 1) 0 c) → X l G mX0_odds (rmK d 0 0) (TGm G (fun v h' z' => Q v h' ∧ z' = z) 0 0) 0 0 39 [(0, .ref b), (1, .int ce0), (2, .int r), (3, .int n0), (4, .int w), (5, .int x), (6, .int y), (7, .int i)] [] h z := by
      intro  n
      induction n using Nat.strongRecOn with
      | _ n ih =>
      intro c i x y  hc hi h1 h3 h4 hv hy
      subst hi
      refine X.w wkX0_odds (fcons (ceS x_common moCom ckX0_238 (by omega) rfl) (fcons (ceS x_ways moWays ckX0_241 (by omega) rfl) (fcons (ceS c_far mo2 ckX0_220 (by omega) rfl) (fcons (ceV c_hasCap moW1 ckX0_168 rfl rcW1 (by omega) rfl) (fcons (ceS c_isIn mo3 ckX0_50 (by omega) rfl) (fcons (ceV x_isRound xmR2 ckX0_234 rfl xrR2 (by omega) rfl) fnil)))))) [39, 111] 33 rfl ?_
      refine And.intro (fun b43 => ?_) (fun b43 => ?_)
      · simp only [cP, cN, bI_0, Bool.not_eq_false, lt_nle, Decidable.not_not] at b43
        have hc2 : 64 ≤ c := (le64 (by omega) (by omega)).mp b43
        obtain rfl : c = 64 := by omega
        rw [cnt_fold] at hv hy
        obtain ⟨k, hk1, hk4, rfl⟩ := isInB_nI (a := 1) (b := 4) (by decide) h3 (by decide)
        have hA := cntP_le (craM M ce0 r) 64 0
        have hG := cntP_le (godM M ce0 r) 64 0
        replace hv : x = nI (allN M ce0 r) := hv
        replace hy : y = nI (godN M ce0 r) := hy
        subst hv
        subst hy
        have hA2 : allN M ce0 r ≤ 64 := hA
        have hG2 : godN M ce0 r ≤ 64 := hG
        refine X.cut [(0, .ref b), (1, .int ce0), (2, .int r), (3, .int (nI k)), (4, .int w), (5, .int (nI (allN M ce0 r))), (6, .int (nI (godN M ce0 r)))] [(7, .int (nI 64))] rfl ?_
        refine X.w wkX0_odds (fcons (ceS x_common moCom ckX0_238 (by omega) rfl) (fcons (ceS x_ways moWays ckX0_241 (by omega) rfl) (fcons (ceS c_far mo2 ckX0_220 (by omega) rfl) (fcons (ceV c_hasCap moW1 ckX0_168 rfl rcW1 (by omega) rfl) (fcons (ceS c_isIn mo3 ckX0_50 (by omega) rfl) (fcons (ceV x_isRound xmR2 ckX0_234 rfl xrR2 (by omega) rfl) fnil)))))) [] 23 rfl ?_
        refine And.intro (fun b114 => ?_) (fun b114 => ?_)
        · simp only [cP, cN, bI_0, Bool.not_eq_false, lt_nle, Decidable.not_not] at b114
          have hkA : k ≤ allN M ce0 r := (nI_leI (by omega) (by omega)).mp b114
          have w1 := (ways_ge (godN M ce0 r) (by omega) k (by omega)).1
          have w2 := ways_ge (allN M ce0 r) (by omega) k (by omega)
          obtain ⟨A, hA3, eA⟩ := nI_of (x := waysM (nI (godN M ce0 r)) k) (by rw [Int32.not_lt]; exact w1)
          obtain ⟨B, hB3, eB⟩ := nI_of (x := waysM (nI (allN M ce0 r)) k) (by rw [Int32.not_lt]; exact w2.1)
          have hB0 : 0 < B := by
            rcases Nat.eq_zero_or_pos B with e | e
            · exact absurd (by rw [eB, e]; rfl) (w2.2 hkA)
            · exact e
          have hg0 : 0 < Nat.gcd A B := Nat.gcd_pos_of_pos_right A hB0
          have hgl : Nat.gcd A B < 2 ^ 31 := Nat.lt_of_le_of_lt (Nat.gcd_le_right A hB0) hB3
          have ho : oddM M ce0 r (nI k) w = oddP (nI A) (nI B) w := by
            unfold oddM
            rw [if_pos ⟨h1, h3, h4⟩, if_neg (by rw [Int32.not_lt]; exact b114), gN_nI (by omega), eA, eB]
          have hga : Nat.gcd (gN (nI A)) (gN (nI B)) = Nat.gcd A B := by rw [gN_nI hA3, gN_nI hB3]
          refine Exists.intro k (Exists.intro (godN M ce0 r) (And.intro rfl (And.intro hk4 (And.intro rfl (And.intro hG2 ?_)))))
          intro v122 e122
          obtain rfl : v122 = nI A := e122.trans eA
          refine Exists.intro k (Exists.intro (allN M ce0 r) (And.intro rfl (And.intro hk4 (And.intro rfl (And.intro hA2 ?_)))))
          intro v130 e130
          obtain rfl : v130 = nI B := e130.trans eB
          refine Exists.intro A (Exists.intro B (And.intro rfl (And.intro rfl (And.intro hA3 (And.intro hB3 ?_)))))
          intro v139 e139
          refine And.intro (fun b146 => ?_) (fun b146 => ?_)
          · simp only [cP, cN, bI_0, Bool.not_eq_false, lt_nle, Decidable.not_not] at b146
            refine And.intro (by rw [e139]; exact nI_ne0 hg0 hgl) ?_
            exact And.intro (hs _ (by rw [ho]; unfold oddP; rw [if_neg b146, hga, e139])) rfl
          · simp only [cP, cN, bI_0, Bool.not_eq_false, lt_nle, Decidable.not_not] at b146
            refine And.intro (by rw [e139]; exact nI_ne0 hg0 hgl) ?_
            exact And.intro (hs _ (by rw [ho]; unfold oddP; rw [if_pos b146, hga, e139])) rfl
        · simp only [cP, cN, bI_0, Bool.not_eq_false, lt_nle, Decidable.not_not] at b114
          exact And.intro (hs _ (by unfold oddM; rw [if_pos ⟨h1, h3, h4⟩, if_pos (by rw [lt_nle]; exact b114)])) rfl
      · simp only [cP, cN, bI_0, Bool.not_eq_false, lt_nle, Decidable.not_not] at b43
        have hc2 : c < 64 := nle64 b43 (by omega) (by omega)
        refine gF (by first | assumption | exact hx.obj | exact hx.bk | exact hx.rs | exact hx.sp | exact hx.tp | exact hx.w0.obj | exact hx.w0.arr _ rfl) ?_
        refine Exists.intro _ (Exists.intro _ (And.intro hx.w0 ?_))
        refine And.intro (fun b55 => ?_) (fun b55 => ?_)
        · simp only [cP, cN, bI_0, Bool.not_eq_false, lt_nle, Decidable.not_not] at b55
          have hcr : craM M ce0 r c = false := by simp only [craM, ← hp.cap hc2, lt_nle, b43, b55, decide_true, decide_false, Bool.and_true, Bool.true_and, Bool.and_false, Bool.false_and, Bool.or_true, Bool.true_or, Bool.or_false, Bool.false_or, not_true_eq_false, not_false_eq_true, Bool.not_true, Bool.not_false, decide_not, if_true, if_false, and_true, true_and, and_false, false_and, or_true, true_or, or_false, false_or, Bool.false_eq_true]
          exact ih (n - 1) (by omega) (c + 1) _ _ _ (by omega) (nI_1 c) h1 h3 h4 (foldN_sf hv hcr) (foldN_sf hy (by unfold godM; rw [hcr]; rfl))
        · simp only [cP, cN, bI_0, Bool.not_eq_false, lt_nle, Decidable.not_not] at b55
          refine And.intro (fun b65 => ?_) (fun b65 => ?_)
          · simp only [cP, cN, bI_0, Bool.not_eq_false, lt_nle, Decidable.not_not] at b65
            refine gF (by first | assumption | exact hx.obj | exact hx.bk | exact hx.rs | exact hx.sp | exact hx.tp | exact hx.w0.obj | exact hx.w0.arr _ rfl) ?_
            refine gF (by first | assumption | exact hx.obj | exact hx.bk | exact hx.rs | exact hx.sp | exact hx.tp | exact hx.w0.obj | exact hx.w0.arr _ rfl) ?_
            refine gF (by first | assumption | exact hx.obj | exact hx.bk | exact hx.rs | exact hx.sp | exact hx.tp | exact hx.w0.obj | exact hx.w0.arr _ rfl) ?_
            refine gF (by first | assumption | exact hx.obj | exact hx.bk | exact hx.rs | exact hx.sp | exact hx.tp | exact hx.w0.obj | exact hx.w0.arr _ rfl) ?_
            refine gA (by first | assumption | exact hx.obj | exact hx.bk | exact hx.rs | exact hx.sp | exact hx.tp | exact hx.w0.obj | exact hx.w0.arr _ rfl) (by first | exact ixN (by omega) (by decide) | exact ixz (by omega) (by decide)) ?_
            refine gA (by first | assumption | exact hx.obj | exact hx.bk | exact hx.rs | exact hx.sp | exact hx.tp | exact hx.w0.obj | exact hx.w0.arr _ rfl) (hp.wi hc2 b55) ?_
            refine And.intro (fun b94 => ?_) (fun b94 => ?_)
            · simp only [cP, cN, bI_0, Bool.not_eq_false, lt_nle, Decidable.not_not] at b94
              have hcr : craM M ce0 r c = true := by simp only [craM, ← hp.cap hc2, lt_nle, b43, b55, b65, b94, decide_true, decide_false, Bool.and_true, Bool.true_and, Bool.and_false, Bool.false_and, Bool.or_true, Bool.true_or, Bool.or_false, Bool.false_or, not_true_eq_false, not_false_eq_true, Bool.not_true, Bool.not_false, decide_not, if_true, if_false, and_true, true_and, and_false, false_and, or_true, true_or, or_false, false_or, Bool.false_eq_true]
              have hgd : godM M ce0 r c = decide (W.S 0 8 (gN (W.S 0 2 c)) = 0) := by
                unfold godM
                rw [hcr, hp.wd1 hc2, (hp.kd hc2 b55).2.1, Bool.true_and]
              refine ih (n - 1) (by omega) (c + 1) _ _ _ (by omega) (nI_1 c) h1 h3 h4 (foldN_st hv hcr rfl) ?_
              rw [Int32.add_zero]
              exact foldN_sf hy (hgd.trans (decide_eq_false b94))
            · simp only [cP, cN, bI_0, Bool.not_eq_false, lt_nle, Decidable.not_not] at b94
              have hcr : craM M ce0 r c = true := by simp only [craM, ← hp.cap hc2, lt_nle, b43, b55, b65, b94, decide_true, decide_false, Bool.and_true, Bool.true_and, Bool.and_false, Bool.false_and, Bool.or_true, Bool.true_or, Bool.or_false, Bool.false_or, not_true_eq_false, not_false_eq_true, Bool.not_true, Bool.not_false, decide_not, if_true, if_false, and_true, true_and, and_false, false_and, or_true, true_or, or_false, false_or, Bool.false_eq_true]
              have hgd : godM M ce0 r c = decide (W.S 0 8 (gN (W.S 0 2 c)) = 0) := by
                unfold godM
                rw [hcr, hp.wd1 hc2, (hp.kd hc2 b55).2.1, Bool.true_and]
              exact ih (n - 1) (by omega) (c + 1) _ _ _ (by omega) (nI_1 c) h1 h3 h4 (foldN_st hv hcr rfl) (foldN_st hy (hgd.trans (decide_eq_true b94)) rfl)
          · simp only [cP, cN, bI_0, Bool.not_eq_false, lt_nle, Decidable.not_not] at b65
            have hcr : craM M ce0 r c = false := by simp only [craM, ← hp.cap hc2, lt_nle, b43, b55, b65, decide_true, decide_false, Bool.and_true, Bool.true_and, Bool.and_false, Bool.false_and, Bool.or_true, Bool.true_or, Bool.or_false, Bool.false_or, not_true_eq_false, not_false_eq_true, Bool.not_true, Bool.not_false, decide_not, if_true, if_false, and_true, true_and, and_false, false_and, or_true, true_or, or_false, false_or, Bool.false_eq_true]
            exact ih (n - 1) (by omega) (c + 1) _ _ _ (by omega) (nI_1 c) h1 h3 h4 (foldN_sf hv hcr) (foldN_sf hy (by unfold godM; rw [hcr]; rfl))
    refine X.w wkX0_odds (fcons (ceS x_common moCom ckX0_238 (by omega) rfl) (fcons (ceS x_ways moWays ckX0_241 (by omega) rfl) (fcons (ceS c_far mo2 ckX0_220 (by omega) rfl) (fcons (ceV c_hasCap moW1 ckX0_168 rfl rcW1 (by omega) rfl) (fcons (ceS c_isIn mo3 ckX0_50 (by omega) rfl) (fcons (ceV x_isRound xmR2 ckX0_234 rfl xrR2 (by omega) rfl) fnil)))))) [39] 23 rfl ?_
    refine Exists.intro _ (Exists.intro () (And.intro hx (And.intro trivial ?_)))
    intro v3 e3
    subst e3
    refine And.intro (fun b6 => ?_) (fun b6 => ?_)
    · simp only [cP, cN, bI_0, Bool.not_eq_false, lt_nle, Decidable.not_not] at b6
      exact And.intro (hs _ (by unfold oddM; rw [if_neg (fun q => absurd (b6.symm.trans ((hp.rd _ _).symm.trans q.1)) (by decide))])) rfl
    · simp only [cP, cN, bI_0, Bool.not_eq_false, lt_nle, Decidable.not_not] at b6
      refine And.intro (fun b15 => ?_) (fun b15 => ?_)
      · simp only [cP, cN, bI_0, Bool.not_eq_false, lt_nle, Decidable.not_not] at b15
        exact And.intro (hs _ (by unfold oddM; rw [if_neg (fun q => absurd (b15.symm.trans q.2.1) (by decide))])) rfl
      · simp only [cP, cN, bI_0, Bool.not_eq_false, lt_nle, Decidable.not_not] at b15
        refine And.intro (fun b25 => ?_) (fun b25 => ?_)
        · simp only [cP, cN, bI_0, Bool.not_eq_false, lt_nle, Decidable.not_not] at b25
          exact loop 64 0 _ _ _ rfl rfl (by rw [hp.rd]; exact b6) b15 b25 rfl rfl
        · simp only [cP, cN, bI_0, Bool.not_eq_false, lt_nle, Decidable.not_not] at b25
          exact And.intro (hs _ (by unfold oddM; rw [if_neg (fun q => absurd (b25.symm.trans q.2.2) (by decide))])) rfl
