set_option maxRecDepth 100000
/-! THE CLASS: eating, picking, asking -/
def skX (W : XW) (k c w : Nat) : Int32 := minI 99 (W.S 0 (113 + 2 * k) 2 + (W.S 0 8 w * W.S 0 3 c + 9) / 10)
def eaX (W : XW) (k c w : Nat) : XW := if ¬ W.S 0 9 w = -1 ∧ 0 < W.S 0 8 (gN (W.S 0 9 w)) then (W.up 0 (113 + 2 * k) 2 (skX W k c w)).up 0 (113 + 2 * k) 2 (skX W k c w / 2) else W.up 0 (113 + 2 * k) 2 (skX W k c w)
theorem eaX_1 {W : XW} {k c w : Nat} : (eaX W k c w).S 0 (113 + 2 * k) 1 = W.S 0 (113 + 2 * k) 1 := by
  unfold eaX
  split
  · rw [up_S0, up_S0, up2_s, up2_s, pk_un (by decide), pk_un (by decide)]
  · rw [up_S0, up2_s, pk_un (by decide)]
def spXeats : GG → CSpec := fun G as h Q => match as with
  | [.ref b, .ref a, .int u] => ∃ (W : XW) (k c w : Nat), IsX G b W h ∧ a = wb b 0 + (113 + 2 * k) ∧ k < 6 ∧ u = nI c ∧ c < 64 ∧ W.S 0 2 c = nI w ∧ w < 12 ∧ (W.S 0 9 w = -1 ∨ ∃ j, j < 12 ∧ W.S 0 9 w = nI j) ∧ ∀ W' h', W' = eaX W k c w → IsX G b W' h' → FrX b h h' → Q none h'
  | _ => False
theorem moXeats {G : GG} : Mono (spXeats G) := by
  intro as h Q Q' hQ hs
  unfold spXeats at hs ⊢
  split at hs
  · obtain ⟨W, k, c, w, h1, h2, h3, h4, h5, h6, h7, h8, h9⟩ := hs
    exact ⟨W, k, c, w, h1, h2, h3, h4, h5, h6, h7, h8, fun W' h' p1 p2 p3 => hQ _ _ (h9 W' h' p1 p2 p3)⟩
  · exact hs.elim
theorem rcXeats {G : GG} : ∀ as h Q, as.length = 2 + 1 → spXeats G as h Q → ∃ b as', as = .ref b :: as' ∧ ∃ fs, h b = some (.inr (0, fs)) := by
  intro as h Q _ hs
  unfold spXeats at hs
  split at hs
  · obtain ⟨W, k, c, w, h1, -⟩ := hs
    exact ⟨_, _, rfl, h1.recv⟩
  · exact hs.elim
theorem x_eats : CtS mX0_eats 2 spXeats := by
  intro l G d hd as h z Q hs
  match as, hs with
  | [.ref b, .ref a, .int u], hs =>
    obtain ⟨W, k, c, w, hx, rfl, hk6, rfl, hc, hw, hw12, hcu, hs⟩ := hs
    have hf : FrX b h h := FrX.rf
    refine Ct.of rfl (Nat.le_of_ble_eq_true rfl) rfl ?_
    have half : ∀ (h1 : AH), IsX G b (W.up 0 (113 + 2 * k) 2 (skX W k c w)) h1 → FrX b h h1 → X l G mX0_eats (rmK d 0 0) (TGm G (fun v h' z' => Q v h' ∧ z' = z) 0 0) 0 0 49 [(0, .ref b), (1, .ref (wb b 0 + (113 + 2 * k))), (2, .int (nI c)), (3, .int (nI w))] [] h1 z := by
      intro h1 hx hf
      have e9 : (W.up 0 (113 + 2 * k) 2 (skX W k c w)).S 0 9 = W.S 0 9 := by rw [up_S0, up2_n (by omega)]
      have e8 : (W.up 0 (113 + 2 * k) 2 (skX W k c w)).S 0 8 = W.S 0 8 := by rw [up_S0, up2_n (by omega)]
      have e2 : (W.up 0 (113 + 2 * k) 2 (skX W k c w)).S 0 (113 + 2 * k) 2 = skX W k c w := by rw [up_S0, up2_s, pk_us]
      refine X.w wkX0_eats (fcons (ceMin ckX0_193 q792 (by omega)) fnil) [] 25 rfl ?_
      refine gF (by first | assumption | exact hx.w0.arr _ (wC_pp hk6) | exact hx.w0.arr _ (wC_bask hk6) | exact hx.obj | exact hx.bk | exact hx.rs | exact hx.sp | exact hx.tp | exact hx.w0.obj | exact hx.w0.arr _ rfl) ?_
      refine gF (by first | assumption | exact hx.w0.arr _ (wC_pp hk6) | exact hx.w0.arr _ (wC_bask hk6) | exact hx.obj | exact hx.bk | exact hx.rs | exact hx.sp | exact hx.tp | exact hx.w0.obj | exact hx.w0.arr _ rfl) ?_
      refine gA (by first | assumption | exact hx.w0.arr _ (wC_pp hk6) | exact hx.w0.arr _ (wC_bask hk6) | exact hx.obj | exact hx.bk | exact hx.rs | exact hx.sp | exact hx.tp | exact hx.w0.obj | exact hx.w0.arr _ rfl) (ixN hw12 (by decide)) ?_
      refine And.intro (fun b59 => ?_) (fun b59 => ?_)
      · simp only [cP, cN, bI_0, Bool.not_eq_false, lt_nle, Decidable.not_not] at b59
        rw [e9] at b59
        exact And.intro (hs _ _ (by unfold eaX; rw [if_neg (fun q => q.1 b59)]) hx hf) rfl
      · simp only [cP, cN, bI_0, Bool.not_eq_false, lt_nle, Decidable.not_not] at b59
        rw [e9] at b59
        obtain ⟨j, hj, hj1⟩ : ∃ j, j < 12 ∧ W.S 0 9 w = nI j := hcu.resolve_left b59
        have hj2 : (W.up 0 (113 + 2 * k) 2 (skX W k c w)).S 0 9 w = nI j := by rw [e9]; exact hj1
        refine gF (by first | assumption | exact hx.w0.arr _ (wC_pp hk6) | exact hx.w0.arr _ (wC_bask hk6) | exact hx.obj | exact hx.bk | exact hx.rs | exact hx.sp | exact hx.tp | exact hx.w0.obj | exact hx.w0.arr _ rfl) ?_
        refine gF (by first | assumption | exact hx.w0.arr _ (wC_pp hk6) | exact hx.w0.arr _ (wC_bask hk6) | exact hx.obj | exact hx.bk | exact hx.rs | exact hx.sp | exact hx.tp | exact hx.w0.obj | exact hx.w0.arr _ rfl) ?_
        refine gF (by first | assumption | exact hx.w0.arr _ (wC_pp hk6) | exact hx.w0.arr _ (wC_bask hk6) | exact hx.obj | exact hx.bk | exact hx.rs | exact hx.sp | exact hx.tp | exact hx.w0.obj | exact hx.w0.arr _ rfl) ?_
        refine gF (by first | assumption | exact hx.w0.arr _ (wC_pp hk6) | exact hx.w0.arr _ (wC_bask hk6) | exact hx.obj | exact hx.bk | exact hx.rs | exact hx.sp | exact hx.tp | exact hx.w0.obj | exact hx.w0.arr _ rfl) ?_
        refine gA (by first | assumption | exact hx.w0.arr _ (wC_pp hk6) | exact hx.w0.arr _ (wC_bask hk6) | exact hx.obj | exact hx.bk | exact hx.rs | exact hx.sp | exact hx.tp | exact hx.w0.obj | exact hx.w0.arr _ rfl) (ixN hw12 (by decide)) ?_
        refine gA (by first | assumption | exact hx.w0.arr _ (wC_pp hk6) | exact hx.w0.arr _ (wC_bask hk6) | exact hx.obj | exact hx.bk | exact hx.rs | exact hx.sp | exact hx.tp | exact hx.w0.obj | exact hx.w0.arr _ rfl) (ixE hj2 hj (by decide)) ?_
        refine And.intro (fun b79 => ?_) (fun b79 => ?_)
        · simp only [cP, cN, bI_0, Bool.not_eq_false, lt_nle, Decidable.not_not] at b79
          rw [e8] at b79
          exact And.intro (hs _ _ (by unfold eaX; rw [if_neg (fun q => by have q2 := q.2; rw [hj1, gN_nI (by omega), lt_nle] at q2; exact q2 b79)]) hx hf) rfl
        · simp only [cP, cN, bI_0, Bool.not_eq_false, lt_nle, Decidable.not_not] at b79
          rw [e8] at b79
          refine gF (by first | assumption | exact hx.w0.arr _ (wC_pp hk6) | exact hx.w0.arr _ (wC_bask hk6) | exact hx.obj | exact hx.bk | exact hx.rs | exact hx.sp | exact hx.tp | exact hx.w0.obj | exact hx.w0.arr _ rfl) ?_
          refine And.intro (by decide) ?_
          refine pF0 (okV_W rfl) (by first | assumption | exact hx.w0.arr _ (wC_pp hk6) | exact hx.w0.arr _ (wC_bask hk6) | exact hx.obj | exact hx.bk | exact hx.rs | exact hx.sp | exact hx.tp | exact hx.w0.obj | exact hx.w0.arr _ rfl) (Nat.le_of_ble_eq_true rfl) (by first | exact hx.N | exact hx.No _ | exact hx.w0.N | exact hx.w0.No _) ?_
          intro h89 e89
          have hf := hf.u e89 (InX.w (by decide) (off_p hk6)); have hx := hx.upf (by decide) (wK_p hk6).1 (Or.inr (Or.inl rfl)) e89 (off_p hk6)
          rw [e2] at hx
          exact And.intro (hs _ _ (by unfold eaX; rw [if_pos ⟨b59, by rw [hj1, gN_nI (by omega), lt_nle]; exact b79⟩]) hx hf) rfl
    refine X.w wkX0_eats (fcons (ceMin ckX0_193 q792 (by omega)) fnil) [49] 30 rfl ?_
    refine gF (by first | assumption | exact hx.w0.arr _ (wC_pp hk6) | exact hx.w0.arr _ (wC_bask hk6) | exact hx.obj | exact hx.bk | exact hx.rs | exact hx.sp | exact hx.tp | exact hx.w0.obj | exact hx.w0.arr _ rfl) ?_
    refine gF (by first | assumption | exact hx.w0.arr _ (wC_pp hk6) | exact hx.w0.arr _ (wC_bask hk6) | exact hx.obj | exact hx.bk | exact hx.rs | exact hx.sp | exact hx.tp | exact hx.w0.obj | exact hx.w0.arr _ rfl) ?_
    refine gA (by first | assumption | exact hx.w0.arr _ (wC_pp hk6) | exact hx.w0.arr _ (wC_bask hk6) | exact hx.obj | exact hx.bk | exact hx.rs | exact hx.sp | exact hx.tp | exact hx.w0.obj | exact hx.w0.arr _ rfl) (ixN hc (by decide)) ?_
    refine gF (by first | assumption | exact hx.w0.arr _ (wC_pp hk6) | exact hx.w0.arr _ (wC_bask hk6) | exact hx.obj | exact hx.bk | exact hx.rs | exact hx.sp | exact hx.tp | exact hx.w0.obj | exact hx.w0.arr _ rfl) ?_
    refine gF (by first | assumption | exact hx.w0.arr _ (wC_pp hk6) | exact hx.w0.arr _ (wC_bask hk6) | exact hx.obj | exact hx.bk | exact hx.rs | exact hx.sp | exact hx.tp | exact hx.w0.obj | exact hx.w0.arr _ rfl) ?_
    refine gF (by first | assumption | exact hx.w0.arr _ (wC_pp hk6) | exact hx.w0.arr _ (wC_bask hk6) | exact hx.obj | exact hx.bk | exact hx.rs | exact hx.sp | exact hx.tp | exact hx.w0.obj | exact hx.w0.arr _ rfl) ?_
    refine gA (by first | assumption | exact hx.w0.arr _ (wC_pp hk6) | exact hx.w0.arr _ (wC_bask hk6) | exact hx.obj | exact hx.bk | exact hx.rs | exact hx.sp | exact hx.tp | exact hx.w0.obj | exact hx.w0.arr _ rfl) (ixE hw hw12 (by decide)) ?_
    refine gF (by first | assumption | exact hx.w0.arr _ (wC_pp hk6) | exact hx.w0.arr _ (wC_bask hk6) | exact hx.obj | exact hx.bk | exact hx.rs | exact hx.sp | exact hx.tp | exact hx.w0.obj | exact hx.w0.arr _ rfl) ?_
    refine gF (by first | assumption | exact hx.w0.arr _ (wC_pp hk6) | exact hx.w0.arr _ (wC_bask hk6) | exact hx.obj | exact hx.bk | exact hx.rs | exact hx.sp | exact hx.tp | exact hx.w0.obj | exact hx.w0.arr _ rfl) ?_
    refine gA (by first | assumption | exact hx.w0.arr _ (wC_pp hk6) | exact hx.w0.arr _ (wC_bask hk6) | exact hx.obj | exact hx.bk | exact hx.rs | exact hx.sp | exact hx.tp | exact hx.w0.obj | exact hx.w0.arr _ rfl) (ixN hc (by decide)) ?_
    refine And.intro (by decide) ?_
    refine pF0 (okV_W rfl) (by first | assumption | exact hx.w0.arr _ (wC_pp hk6) | exact hx.w0.arr _ (wC_bask hk6) | exact hx.obj | exact hx.bk | exact hx.rs | exact hx.sp | exact hx.tp | exact hx.w0.obj | exact hx.w0.arr _ rfl) (Nat.le_of_ble_eq_true rfl) (by first | exact hx.N | exact hx.No _ | exact hx.w0.N | exact hx.w0.No _) ?_
    intro h46 e46
    have hf := hf.u e46 (InX.w (by decide) (off_p hk6)); have hx := hx.upf (by decide) (wK_p hk6).1 (Or.inr (Or.inl rfl)) e46 (off_p hk6)
    rw [hw]
    exact half _ hx hf
def acX (W : XW) (u : Nat) (q w : Int32) (c d : Nat) : XW := if w = 0 then (kpX W u).up 0 0 20 (W.S 0 0 20 + 1) else if w = 2 then (eaX (kpX W u) (gN q) c d).up 0 2 c (-1) else (((kpX W u).up 0 (113 + 2 * gN q + 1) d (W.S 0 (113 + 2 * gN q + 1) d + 1)).up 0 (113 + 2 * gN q) 3 (W.S 0 (113 + 2 * gN q) 3 + W.S 0 3 c)).up 0 2 c (-1)
theorem x_act : CtS mX0_act (4) (xW2 (fun (a : SS × Nat) q w W => RelX W a.1 ∧ a.1 0 3 = nI a.2 ∧ a.2 ≤ 12) (fun (a : SS × Nat) q w W v W' => (acC a.1 q w ∧ v = 1 ∧ W' = acX W a.2 q w (gN (a.1 1 (256 + gN q))) (gN (W.S 0 2 (gN (a.1 1 (256 + gN q)))))) ∨ (¬ acC a.1 q w ∧ v = 0 ∧ W' = W))) := by
  intro l G d hd as h z Q hs
  match as, hs with
  | [.ref b, .int q, .int w], hs =>
    obtain ⟨W, a, hx, hp, hs⟩ := hs
    replace hp : RelX W a.1 ∧ a.1 0 3 = nI a.2 ∧ a.2 ≤ 12 := hp
    replace hs : ∀ v W' h', ((acC a.1 q w ∧ v = 1 ∧ W' = acX W a.2 q w (gN (a.1 1 (256 + gN q))) (gN (W.S 0 2 (gN (a.1 1 (256 + gN q)))))) ∨ (¬ acC a.1 q w ∧ v = 0 ∧ W' = W)) → IsX G b W' h' → FrX b h h' → Q (some (.int v)) h' := hs
    have hf : FrX b h h := FrX.rf
    refine Ct.of rfl (Nat.le_of_ble_eq_true rfl) rfl ?_
    obtain ⟨M, u⟩ := a
    dsimp only at hp hs
    refine X.w wkX0_act (fcons (ceV x_eats moXeats ckX0_200 rfl rcXeats (by omega) rfl) (fcons (ceV c_hasCap moW1 ckX0_168 rfl rcW1 (by omega) rfl) (fcons (ceV x_keeps xmW0 ckX0_159 rfl xrW0 (by omega) rfl) (fcons (ceS c_isIn mo3 ckX0_50 (by omega) rfl) (fcons (ceV x_isPerson xmR1 ckX0_147 rfl xrR1 (by omega) rfl) fnil))))) [47, 83] 26 rfl ?_
    refine Exists.intro _ (Exists.intro () (And.intro hx (And.intro trivial ?_)))
    intro v2 e2
    subst e2
    refine And.intro (fun b5 => ?_) (fun b5 => ?_)
    · simp only [cP, cN, bI_0, Bool.not_eq_false, lt_nle, Decidable.not_not] at b5
      refine And.intro (by first | exact Or.inl rfl | exact Or.inr rfl | exact bI_01 _) ?_
      exact And.intro (hs _ _ _ (Or.inr ⟨fun q9 => absurd (b5.symm.trans ((hp.1.ps _).symm.trans q9.1)) (by decide), rfl, rfl⟩) hx hf) rfl
    · simp only [cP, cN, bI_0, Bool.not_eq_false, lt_nle, Decidable.not_not] at b5
      obtain ⟨k, hk, hk6, rfl, hg⟩ := hp.1.pp b5
      have hps : psB M (nI k) = true := by rw [hp.1.ps]; exact b5
      have ec := hp.1.pc hk
      have hcb := (hp.1.pcell hk).1
      have hc63 : gN (W.S 0 (113 + 2 * k) 1) < 64 := by have := hcb.2; omega
      have hcp : capB (W.S 0) (W.S 0 (113 + 2 * k) 1) = false ↔ M 1 (gN (M 1 (256 + gN (nI k)))) = 0 := by
        rw [hg, ec]
        have h9 := cap_f hp.1.w hc63
        rw [← hcb.1] at h9
        exact h9

      refine And.intro (fun b14 => ?_) (fun b14 => ?_)
      · simp only [cP, cN, bI_0, Bool.not_eq_false, lt_nle, Decidable.not_not] at b14
        refine gF (by first | assumption | exact hx.w0.arr _ (wC_pp hk6) | exact hx.w0.arr _ (wC_bask hk6) | exact hx.obj | exact hx.bk | exact hx.rs | exact hx.sp | exact hx.tp | exact hx.w0.obj | exact hx.w0.arr _ rfl) ?_
        refine gF (by first | assumption | exact hx.w0.arr _ (wC_pp hk6) | exact hx.w0.arr _ (wC_bask hk6) | exact hx.obj | exact hx.bk | exact hx.rs | exact hx.sp | exact hx.tp | exact hx.w0.obj | exact hx.w0.arr _ rfl) ?_
        refine gR (by first | assumption | exact hx.w0.arr _ (wC_pp hk6) | exact hx.w0.arr _ (wC_bask hk6) | exact hx.obj | exact hx.bk | exact hx.rs | exact hx.sp | exact hx.tp | exact hx.w0.obj | exact hx.w0.arr _ rfl) (by decide) (by first | exact ixN (by omega) (by decide) | exact ixz (by omega) (by decide)) (by exact rfl) ?_
        refine And.intro (fun b30 => ?_) (fun b30 => ?_)
        · simp only [cP, cN, bI_0, Bool.not_eq_false, lt_nle, Decidable.not_not] at b30
          refine gF (by first | assumption | exact hx.w0.arr _ (wC_pp hk6) | exact hx.w0.arr _ (wC_bask hk6) | exact hx.obj | exact hx.bk | exact hx.rs | exact hx.sp | exact hx.tp | exact hx.w0.obj | exact hx.w0.arr _ rfl) ?_
          refine gF (by first | assumption | exact hx.w0.arr _ (wC_pp hk6) | exact hx.w0.arr _ (wC_bask hk6) | exact hx.obj | exact hx.bk | exact hx.rs | exact hx.sp | exact hx.tp | exact hx.w0.obj | exact hx.w0.arr _ rfl) ?_
          refine Exists.intro _ (Exists.intro _ (And.intro hx.w0 ?_))
          refine And.intro (fun b78 => ?_) (fun b78 => ?_)
          · simp only [cP, cN, bI_0, Bool.not_eq_false, lt_nle, Decidable.not_not] at b78
            have hcap : capB (W.S 0) (nI (gN (W.S 0 (113 + 2 * k) 1))) = true := by rw [← hcb.1]; exact b78
            obtain ⟨hw11, hwl⟩ := cap_word hp.1.w hc63 hcap
            have hcu := hp.1.w.1 10 _ hwl
            have hC : acC M (nI k) w := ⟨hps, b14, by rw [if_neg b30]; intro e; exact absurd (b78.symm.trans (hcp.mpr e)) (by decide)⟩
            have ecc : gN (M 1 (256 + gN (nI k))) = gN (W.S 0 (113 + 2 * k) 1) := by rw [hg, ec]
            have fin : ∀ (W2 : XW) (h2 : AH), W2.S 0 (113 + 2 * k) 1 = W.S 0 (113 + 2 * k) 1 → acX W u (nI k) w (gN (M 1 (256 + gN (nI k)))) (gN (W.S 0 2 (gN (M 1 (256 + gN (nI k)))))) = W2.up 0 2 (gN (W.S 0 (113 + 2 * k) 1)) (-1) → IsX G b W2 h2 → FrX b h h2 → X l G mX0_act (rmK d 0 0) (TGm G (fun v h' z' => Q v h' ∧ z' = z) 0 0) 0 0 147 [(0, .ref b), (1, .int (nI k)), (2, .int w), (3, .ref (wb b 0 + (113 + 2 * k)))] [] h2 z := by
              intro W2 h2 e1 eA hx hf
              refine X.w wkX0_act (fcons (ceV x_eats moXeats ckX0_200 rfl rcXeats (by omega) rfl) (fcons (ceV c_hasCap moW1 ckX0_168 rfl rcW1 (by omega) rfl) (fcons (ceV x_keeps xmW0 ckX0_159 rfl xrW0 (by omega) rfl) (fcons (ceS c_isIn mo3 ckX0_50 (by omega) rfl) (fcons (ceV x_isPerson xmR1 ckX0_147 rfl xrR1 (by omega) rfl) fnil))))) [] 10 rfl ?_
              refine gF (by first | assumption | exact hx.w0.arr _ (wC_pp hk6) | exact hx.w0.arr _ (wC_bask hk6) | exact hx.obj | exact hx.bk | exact hx.rs | exact hx.sp | exact hx.tp | exact hx.w0.obj | exact hx.w0.arr _ rfl) ?_
              refine gF (by first | assumption | exact hx.w0.arr _ (wC_pp hk6) | exact hx.w0.arr _ (wC_bask hk6) | exact hx.obj | exact hx.bk | exact hx.rs | exact hx.sp | exact hx.tp | exact hx.w0.obj | exact hx.w0.arr _ rfl) ?_
              refine gF (by first | assumption | exact hx.w0.arr _ (wC_pp hk6) | exact hx.w0.arr _ (wC_bask hk6) | exact hx.obj | exact hx.bk | exact hx.rs | exact hx.sp | exact hx.tp | exact hx.w0.obj | exact hx.w0.arr _ rfl) ?_
              refine sA (by first | assumption | exact hx.w0.arr _ (wC_pp hk6) | exact hx.w0.arr _ (wC_bask hk6) | exact hx.obj | exact hx.bk | exact hx.rs | exact hx.sp | exact hx.tp | exact hx.w0.obj | exact hx.w0.arr _ rfl) (ixE (e1.trans hcb.1) hc63 (by decide)) (by first | exact hx.N | exact hx.No _ | exact hx.w0.N | exact hx.w0.No _) ?_
              intro h159 e159
              have hf := hf.u e159 (InX.w (by decide) (by decide)); have hx := hx.uA (by decide) e159 (by decide) (by decide)
              refine And.intro (by first | exact Or.inl rfl | exact Or.inr rfl | exact bI_01 _) ?_
              exact And.intro (hs _ _ _ (Or.inl ⟨hC, rfl, eA.symm⟩) hx hf) rfl
            have aft : ∀ (W1 : XW) (h1 : AH), W1 = kpX W u → W1.S 0 = W.S 0 → IsX G b W1 h1 → FrX b h h1 → X l G mX0_act (rmK d 0 0) (TGm G (fun v h' z' => Q v h' ∧ z' = z) 0 0) 0 0 88 [(0, .ref b), (1, .int (nI k)), (2, .int w), (3, .ref (wb b 0 + (113 + 2 * k)))] [] h1 z := by
              intro W1 h1 eW eS hx hf
              have e1 : W1.S 0 (113 + 2 * k) 1 = nI (gN (W.S 0 (113 + 2 * k) 1)) := by rw [eS]; exact hcb.1
              have e2 : W1.S 0 2 (gN (W.S 0 (113 + 2 * k) 1)) = nI (gN (W.S 0 2 (gN (W.S 0 (113 + 2 * k) 1)))) := by rw [eS]; exact hw11.1
              have e9 : W1.S 0 9 (gN (W.S 0 2 (gN (W.S 0 (113 + 2 * k) 1)))) = -1 ∨ ∃ j, j < 12 ∧ W1.S 0 9 (gN (W.S 0 2 (gN (W.S 0 (113 + 2 * k) 1)))) = nI j := by
                rw [eS]
                rcases hcu.2.2 with e | ⟨e, -⟩
                · exact Or.inl e
                · exact Or.inr ⟨_, by have := e.2; omega, e.1⟩
              have hwx : gN (W.S 0 2 (gN (W.S 0 (113 + 2 * k) 1))) < 12 := by have := hw11.2; omega
              refine X.w wkX0_act (fcons (ceV x_eats moXeats ckX0_200 rfl rcXeats (by omega) rfl) (fcons (ceV c_hasCap moW1 ckX0_168 rfl rcW1 (by omega) rfl) (fcons (ceV x_keeps xmW0 ckX0_159 rfl xrW0 (by omega) rfl) (fcons (ceS c_isIn mo3 ckX0_50 (by omega) rfl) (fcons (ceV x_isPerson xmR1 ckX0_147 rfl xrR1 (by omega) rfl) fnil))))) [147] 29 rfl ?_
              refine And.intro (fun b90 => ?_) (fun b90 => ?_)
              · simp only [cP, cN, bI_0, Bool.not_eq_false, lt_nle, Decidable.not_not] at b90
                refine gF (by first | assumption | exact hx.w0.arr _ (wC_pp hk6) | exact hx.w0.arr _ (wC_bask hk6) | exact hx.obj | exact hx.bk | exact hx.rs | exact hx.sp | exact hx.tp | exact hx.w0.obj | exact hx.w0.arr _ rfl) ?_
                refine gF (by first | assumption | exact hx.w0.arr _ (wC_pp hk6) | exact hx.w0.arr _ (wC_bask hk6) | exact hx.obj | exact hx.bk | exact hx.rs | exact hx.sp | exact hx.tp | exact hx.w0.obj | exact hx.w0.arr _ rfl) ?_
                refine gF (by first | assumption | exact hx.w0.arr _ (wC_pp hk6) | exact hx.w0.arr _ (wC_bask hk6) | exact hx.obj | exact hx.bk | exact hx.rs | exact hx.sp | exact hx.tp | exact hx.w0.obj | exact hx.w0.arr _ rfl) ?_
                refine gF (by first | assumption | exact hx.w0.arr _ (wC_pp hk6) | exact hx.w0.arr _ (wC_bask hk6) | exact hx.obj | exact hx.bk | exact hx.rs | exact hx.sp | exact hx.tp | exact hx.w0.obj | exact hx.w0.arr _ rfl) ?_
                refine gA (by first | assumption | exact hx.w0.arr _ (wC_pp hk6) | exact hx.w0.arr _ (wC_bask hk6) | exact hx.obj | exact hx.bk | exact hx.rs | exact hx.sp | exact hx.tp | exact hx.w0.obj | exact hx.w0.arr _ rfl) (ixE e1 hc63 (by decide)) ?_
                refine gA (by first | assumption | exact hx.w0.arr _ (wC_pp hk6) | exact hx.w0.arr _ (wC_bask hk6) | exact hx.obj | exact hx.bk | exact hx.rs | exact hx.sp | exact hx.tp | exact hx.w0.obj | exact hx.w0.arr _ rfl) (ixE e2 hwx (by decide)) ?_
                refine sA (by first | assumption | exact hx.w0.arr _ (wC_pp hk6) | exact hx.w0.arr _ (wC_bask hk6) | exact hx.obj | exact hx.bk | exact hx.rs | exact hx.sp | exact hx.tp | exact hx.w0.obj | exact hx.w0.arr _ rfl) (ixE e2 hwx (by decide)) (by first | exact hx.N | exact hx.No _ | exact hx.w0.N | exact hx.w0.No _) ?_
                intro h125 e125
                have hf := hf.u e125 (InX.w (by decide) (off_b hk6)); have hx := hx.uA (by decide) e125 (Or.inr (Or.inl ⟨(wK_p hk6).2, rfl⟩)) (off_b hk6)
                refine gF (by first | assumption | exact hx.w0.arr _ (wC_pp hk6) | exact hx.w0.arr _ (wC_bask hk6) | exact hx.obj | exact hx.bk | exact hx.rs | exact hx.sp | exact hx.tp | exact hx.w0.obj | exact hx.w0.arr _ rfl) ?_
                refine gF (by first | assumption | exact hx.w0.arr _ (wC_pp hk6) | exact hx.w0.arr _ (wC_bask hk6) | exact hx.obj | exact hx.bk | exact hx.rs | exact hx.sp | exact hx.tp | exact hx.w0.obj | exact hx.w0.arr _ rfl) ?_
                refine gF (by first | assumption | exact hx.w0.arr _ (wC_pp hk6) | exact hx.w0.arr _ (wC_bask hk6) | exact hx.obj | exact hx.bk | exact hx.rs | exact hx.sp | exact hx.tp | exact hx.w0.obj | exact hx.w0.arr _ rfl) ?_
                refine gF (by first | assumption | exact hx.w0.arr _ (wC_pp hk6) | exact hx.w0.arr _ (wC_bask hk6) | exact hx.obj | exact hx.bk | exact hx.rs | exact hx.sp | exact hx.tp | exact hx.w0.obj | exact hx.w0.arr _ rfl) ?_
                refine gA (by first | assumption | exact hx.w0.arr _ (wC_pp hk6) | exact hx.w0.arr _ (wC_bask hk6) | exact hx.obj | exact hx.bk | exact hx.rs | exact hx.sp | exact hx.tp | exact hx.w0.obj | exact hx.w0.arr _ rfl) (ixE (j := gN (W.S 0 (113 + 2 * k) 1)) (by rw [up_S0, up2_n (by omega)]; exact e1) hc63 (by decide)) ?_
                refine pF0 (okV_W rfl) (by first | assumption | exact hx.w0.arr _ (wC_pp hk6) | exact hx.w0.arr _ (wC_bask hk6) | exact hx.obj | exact hx.bk | exact hx.rs | exact hx.sp | exact hx.tp | exact hx.w0.obj | exact hx.w0.arr _ rfl) (Nat.le_of_ble_eq_true rfl) (by first | exact hx.N | exact hx.No _ | exact hx.w0.N | exact hx.w0.No _) ?_
                intro h144 e144
                have hf := hf.u e144 (InX.w (by decide) (off_p hk6)); have hx := hx.upf (by decide) (wK_p hk6).1 (Or.inr (Or.inr rfl)) e144 (off_p hk6)
                refine fin _ _ ?_ ?_ hx hf
                · rw [up_S0, up_S0, up2_s, pk_un (by decide), up2_n (by omega), eS]
                · unfold acX
                  rw [if_neg b30, if_neg b90, ecc, hg, ← eW, ← eS]
                  rw [up_S0, up2_n (by omega), up2_n (by omega)]
              · simp only [cP, cN, bI_0, Bool.not_eq_false, lt_nle, Decidable.not_not] at b90
                refine gF (by first | assumption | exact hx.w0.arr _ (wC_pp hk6) | exact hx.w0.arr _ (wC_bask hk6) | exact hx.obj | exact hx.bk | exact hx.rs | exact hx.sp | exact hx.tp | exact hx.w0.obj | exact hx.w0.arr _ rfl) ?_
                refine Exists.intro _ (Exists.intro _ (Exists.intro _ (Exists.intro _ (And.intro hx (And.intro rfl (And.intro hk6 (And.intro e1 (And.intro hc63 (And.intro e2 (And.intro hwx (And.intro e9 ?_)))))))))))
                intro W99 h99 p99 hx hf99
                have hf := hf.tr hf99
                subst p99
                refine fin _ _ ?_ ?_ hx hf
                · rw [eaX_1, eS]
                · unfold acX
                  rw [if_neg b30, if_pos b90, ecc, hg, ← eW]
            refine X.w wkX0_act (fcons (ceV x_eats moXeats ckX0_200 rfl rcXeats (by omega) rfl) (fcons (ceV c_hasCap moW1 ckX0_168 rfl rcW1 (by omega) rfl) (fcons (ceV x_keeps xmW0 ckX0_159 rfl xrW0 (by omega) rfl) (fcons (ceS c_isIn mo3 ckX0_50 (by omega) rfl) (fcons (ceV x_isPerson xmR1 ckX0_147 rfl xrR1 (by omega) rfl) fnil))))) [88] 5 rfl ?_
            refine Exists.intro _ (Exists.intro u (And.intro hx (And.intro (hp.1.kpre hp.2.1 hp.2.2) ?_)))
            intro v84 W84 h84 p84 hx hf84
            have hf := hf.tr hf84
            (try dsimp only at p84)
            obtain ⟨rfl, e84⟩ := p84
            exact aft W84 _ e84 (by rw [e84]; exact kpX_S (by decide)) hx hf
          · simp only [cP, cN, bI_0, Bool.not_eq_false, lt_nle, Decidable.not_not] at b78
            refine And.intro (by first | exact Or.inl rfl | exact Or.inr rfl | exact bI_01 _) ?_
            exact And.intro (hs _ _ _ (Or.inr ⟨fun q9 => q9.2.2 (by rw [if_neg b30]; exact hcp.mp b78), rfl, rfl⟩) hx hf) rfl
        · simp only [cP, cN, bI_0, Bool.not_eq_false, lt_nle, Decidable.not_not] at b30
          refine gF (by first | assumption | exact hx.w0.arr _ (wC_pp hk6) | exact hx.w0.arr _ (wC_bask hk6) | exact hx.obj | exact hx.bk | exact hx.rs | exact hx.sp | exact hx.tp | exact hx.w0.obj | exact hx.w0.arr _ rfl) ?_
          refine gF (by first | assumption | exact hx.w0.arr _ (wC_pp hk6) | exact hx.w0.arr _ (wC_bask hk6) | exact hx.obj | exact hx.bk | exact hx.rs | exact hx.sp | exact hx.tp | exact hx.w0.obj | exact hx.w0.arr _ rfl) ?_
          refine And.intro (fun b42 => ?_) (fun b42 => ?_)
          · simp only [cP, cN, bI_0, Bool.not_eq_false, lt_nle, Decidable.not_not] at b42
            have aft : ∀ (W1 : XW) (h1 : AH), W1 = kpX W u → W1.S 0 = W.S 0 → IsX G b W1 h1 → FrX b h h1 → X l G mX0_act (rmK d 0 0) (TGm G (fun v h' z' => Q v h' ∧ z' = z) 0 0) 0 0 52 [(0, .ref b), (1, .int (nI k)), (2, .int w), (3, .ref (wb b 0 + (113 + 2 * k)))] [] h1 z := by
              intro W1 h1 eW eS hx hf
              refine X.w wkX0_act (fcons (ceV x_eats moXeats ckX0_200 rfl rcXeats (by omega) rfl) (fcons (ceV c_hasCap moW1 ckX0_168 rfl rcW1 (by omega) rfl) (fcons (ceV x_keeps xmW0 ckX0_159 rfl xrW0 (by omega) rfl) (fcons (ceS c_isIn mo3 ckX0_50 (by omega) rfl) (fcons (ceV x_isPerson xmR1 ckX0_147 rfl xrR1 (by omega) rfl) fnil))))) [] 10 rfl ?_
              refine gF (by first | assumption | exact hx.obj | exact hx.bk | exact hx.rs | exact hx.sp | exact hx.tp | exact hx.w0.obj | exact hx.w0.arr _ rfl) ?_
              refine gF (by first | assumption | exact hx.obj | exact hx.bk | exact hx.rs | exact hx.sp | exact hx.tp | exact hx.w0.obj | exact hx.w0.arr _ rfl) ?_
              refine pF0 (okV_W rfl) (by first | assumption | exact hx.obj | exact hx.bk | exact hx.rs | exact hx.sp | exact hx.tp | exact hx.w0.obj | exact hx.w0.arr _ rfl) (Nat.le_of_ble_eq_true rfl) (by first | exact hx.N | exact hx.No _ | exact hx.w0.N | exact hx.w0.No _) ?_
              intro h62 e62
              have hf := hf.u e62 (InX.o (by decide)); have hx := hx.u0 (by decide) e62 rfl
              refine And.intro (by first | exact Or.inl rfl | exact Or.inr rfl | exact bI_01 _) ?_
              refine And.intro (hs _ _ _ (Or.inl ⟨⟨hps, b14, ?_⟩, rfl, ?_⟩) hx hf) rfl
              · rw [if_pos b30, show M 1 346 = _ from hp.1.w.2.2.1 1]; exact b42
              · unfold acX
                rw [if_pos b30, ← eW, ← eS]
            refine X.w wkX0_act (fcons (ceV x_eats moXeats ckX0_200 rfl rcXeats (by omega) rfl) (fcons (ceV c_hasCap moW1 ckX0_168 rfl rcW1 (by omega) rfl) (fcons (ceV x_keeps xmW0 ckX0_159 rfl xrW0 (by omega) rfl) (fcons (ceS c_isIn mo3 ckX0_50 (by omega) rfl) (fcons (ceV x_isPerson xmR1 ckX0_147 rfl xrR1 (by omega) rfl) fnil))))) [52] 5 rfl ?_
            refine Exists.intro _ (Exists.intro u (And.intro hx (And.intro (hp.1.kpre hp.2.1 hp.2.2) ?_)))
            intro v48 W48 h48 p48 hx hf48
            have hf := hf.tr hf48
            (try dsimp only at p48)
            obtain ⟨rfl, e48⟩ := p48
            exact aft W48 _ e48 (by rw [e48]; exact kpX_S (by decide)) hx hf
          · simp only [cP, cN, bI_0, Bool.not_eq_false, lt_nle, Decidable.not_not] at b42
            refine And.intro (by first | exact Or.inl rfl | exact Or.inr rfl | exact bI_01 _) ?_
            exact And.intro (hs _ _ _ (Or.inr ⟨fun q9 => q9.2.2 (by rw [if_pos b30, show M 1 346 = _ from hp.1.w.2.2.1 1]; exact b42), rfl, rfl⟩) hx hf) rfl
      · simp only [cP, cN, bI_0, Bool.not_eq_false, lt_nle, Decidable.not_not] at b14
        refine And.intro (by first | exact Or.inl rfl | exact Or.inr rfl | exact bI_01 _) ?_
        exact And.intro (hs _ _ _ (Or.inr ⟨fun q9 => absurd (b14.symm.trans q9.2.1) (by decide), rfl, rfl⟩) hx hf) rfl
