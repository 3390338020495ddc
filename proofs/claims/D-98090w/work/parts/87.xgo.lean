set_option maxRecDepth 100000
/-! THE CLASS: acts -/
theorem kpX_S {W : XW} {u j : Nat} (hj : j < 3) : (kpX W u).S j = W.S j := by
  unfold kpX kp1
  show upN (upN (kp0 W u).S _ _) _ _ j = _
  rw [upN_n (by omega), upN_n (by omega), kp0_S]
theorem kpX_la {W : XW} {u : Nat} : (kpX W u).la = W.la := by
  show (kp0 W u).la = W.la
  unfold kp0
  split <;> rfl
theorem RelX.kpre {W : XW} {M : SS} (r : RelX W M) {u : Nat} (h : M 0 3 = nI u) (h2 : u ≤ 12) : W.F 8 = nI u ∧ u ≤ 12 ∧ Bd 6 (W.S 0 0 16) := ⟨r.fu.trans h, h2, r.w.1 4⟩
theorem RelX.pcell {W : XW} {M : SS} (r : RelX W M) {k : Nat} (h : k < gN (W.S 0 0 16)) : Bd 63 (W.S 0 (113 + 2 * k) 1) ∧ isCellB (W.S 0) (W.S 0 (113 + 2 * k) 1) = true := r.w.2.1 4 k h
def goX (W : XW) (u : Nat) (q w n : Int32) : XW := (kpX W u).up 0 (113 + 2 * gN q) 1 (8 * goy (W.S 0 (113 + 2 * gN q) 1) w n + gox (W.S 0 (113 + 2 * gN q) 1) w n)
theorem x_go : CtS mX0_go (4) (xW3 (fun (a : SS × Nat) q w n W => RelX W a.1 ∧ a.1 0 3 = nI a.2 ∧ a.2 ≤ 12) (fun (a : SS × Nat) q w n W v W' => (goC a.1 q w n ∧ v = 1 ∧ W' = goX W a.2 q w n) ∨ (¬ goC a.1 q w n ∧ v = 0 ∧ W' = W))) := by
  intro l G d hd as h z Q hs
  match as, hs with
  | [.ref b, .int q, .int w, .int n], hs =>
    obtain ⟨W, a, hx, hp, hs⟩ := hs
    replace hp : RelX W a.1 ∧ a.1 0 3 = nI a.2 ∧ a.2 ≤ 12 := hp
    replace hs : ∀ v W' h', ((goC a.1 q w n ∧ v = 1 ∧ W' = goX W a.2 q w n) ∨ (¬ goC a.1 q w n ∧ v = 0 ∧ W' = W)) → IsX G b W' h' → FrX b h h' → Q (some (.int v)) h' := hs
    have hf : FrX b h h := FrX.rf
    refine Ct.of rfl (Nat.le_of_ble_eq_true rfl) rfl ?_
    obtain ⟨M, u⟩ := a
    dsimp only at hp hs
    refine X.w wkX0_go (fcons (ceV x_keeps xmW0 ckX0_159 rfl xrW0 (by omega) rfl) (fcons (ceS c_isIn mo3 ckX0_50 (by omega) rfl) (fcons (ceV x_isPerson xmR1 ckX0_147 rfl xrR1 (by omega) rfl) fnil))) [29] 17 rfl ?_
    refine Exists.intro _ (Exists.intro () (And.intro hx (And.intro trivial ?_)))
    intro v2 e2
    subst e2
    refine And.intro (fun b5 => ?_) (fun b5 => ?_)
    · simp only [cP, cN, bI_0, Bool.not_eq_false, lt_nle, Decidable.not_not] at b5
      refine And.intro (by first | exact Or.inl rfl | exact Or.inr rfl | exact bI_01 _) ?_
      exact And.intro (hs _ _ _ (Or.inr ⟨fun q9 => absurd (b5.symm.trans ((hp.1.ps _).symm.trans q9.1)) (by decide), rfl, rfl⟩) hx hf) rfl
    · simp only [cP, cN, bI_0, Bool.not_eq_false, lt_nle, Decidable.not_not] at b5
      obtain ⟨k, hk, hk6, rfl, hg⟩ := hp.1.pp b5
      have hps : psB M (nI k) = true := by rw [hp.1.ps]; exact b5
      refine And.intro (fun b14 => ?_) (fun b14 => ?_)
      · simp only [cP, cN, bI_0, Bool.not_eq_false, lt_nle, Decidable.not_not] at b14
        refine And.intro (by first | exact Or.inl rfl | exact Or.inr rfl | exact bI_01 _) ?_
        exact And.intro (hs _ _ _ (Or.inr ⟨fun q9 => absurd (b14.symm.trans q9.2.1) (by decide), rfl, rfl⟩) hx hf) rfl
      · simp only [cP, cN, bI_0, Bool.not_eq_false, lt_nle, Decidable.not_not] at b14
        refine And.intro (fun b24 => ?_) (fun b24 => ?_)
        · simp only [cP, cN, bI_0, Bool.not_eq_false, lt_nle, Decidable.not_not] at b24
          have h3 := b14
          have h7 := b24
          have ec := hp.1.pc hk
          have e5 := hp.1.w.2.2.2.1 0
          have e6 := hp.1.w.2.2.2.1 1
          have fin : ∀ (x5 x6 : Int32), x5 = gox (W.S 0 (113 + 2 * k) 1) w n → x6 = goy (W.S 0 (113 + 2 * k) 1) w n → X l G mX0_go (rmK d 0 0) (TGm G (fun v h' z' => Q v h' ∧ z' = z) 0 0) 0 0 101 [(0, .ref b), (1, .int (nI k)), (2, .int w), (3, .int n), (4, .ref (wb b 0 + (113 + 2 * k))), (5, .int x5), (6, .int x6)] [] h z := by
            intro x5 x6 ex ey
            refine X.w wkX0_go (fcons (ceV x_keeps xmW0 ckX0_159 rfl xrW0 (by omega) rfl) (fcons (ceS c_isIn mo3 ckX0_50 (by omega) rfl) (fcons (ceV x_isPerson xmR1 ckX0_147 rfl xrR1 (by omega) rfl) fnil))) [] 31 rfl ?_
            refine gF (by first | assumption | exact hx.w0.arr _ (wC_pp hk6) | exact hx.w0.arr _ (wC_bask hk6) | exact hx.obj | exact hx.bk | exact hx.rs | exact hx.sp | exact hx.tp | exact hx.w0.obj | exact hx.w0.arr _ rfl) ?_
            refine gF (by first | assumption | exact hx.w0.arr _ (wC_pp hk6) | exact hx.w0.arr _ (wC_bask hk6) | exact hx.obj | exact hx.bk | exact hx.rs | exact hx.sp | exact hx.tp | exact hx.w0.obj | exact hx.w0.arr _ rfl) ?_
            refine And.intro (fun b116 => ?_) (fun b116 => ?_)
            · simp only [cP, cN, bI_0, Bool.not_eq_false, lt_nle, Decidable.not_not] at b116
              refine And.intro (by first | exact Or.inl rfl | exact Or.inr rfl | exact bI_01 _) ?_
              refine And.intro (hs _ _ _ (Or.inr ⟨fun q9 => ?_, rfl, rfl⟩) hx hf) rfl
              have q8 := q9.2.2.2
              rw [hg, ec, show M 0 5 = _ from e5, show M 0 6 = _ from e6, ← ex] at q8
              exact absurd (b116.symm.trans q8.1) (by decide)
            · simp only [cP, cN, bI_0, Bool.not_eq_false, lt_nle, Decidable.not_not] at b116
              refine gF (by first | assumption | exact hx.w0.arr _ (wC_pp hk6) | exact hx.w0.arr _ (wC_bask hk6) | exact hx.obj | exact hx.bk | exact hx.rs | exact hx.sp | exact hx.tp | exact hx.w0.obj | exact hx.w0.arr _ rfl) ?_
              refine gF (by first | assumption | exact hx.w0.arr _ (wC_pp hk6) | exact hx.w0.arr _ (wC_bask hk6) | exact hx.obj | exact hx.bk | exact hx.rs | exact hx.sp | exact hx.tp | exact hx.w0.obj | exact hx.w0.arr _ rfl) ?_
              refine And.intro (fun b134 => ?_) (fun b134 => ?_)
              · simp only [cP, cN, bI_0, Bool.not_eq_false, lt_nle, Decidable.not_not] at b134
                refine Exists.intro _ (Exists.intro u (And.intro hx (And.intro (hp.1.kpre hp.2.1 hp.2.2) ?_)))
                intro v140 W140 h140 p140 hx hf140
                have hf := hf.tr hf140
                (try dsimp only at p140)
                obtain ⟨rfl, rfl⟩ := p140
                refine pF0 (okV_W rfl) (by first | assumption | exact hx.w0.arr _ (wC_pp hk6) | exact hx.w0.arr _ (wC_bask hk6) | exact hx.obj | exact hx.bk | exact hx.rs | exact hx.sp | exact hx.tp | exact hx.w0.obj | exact hx.w0.arr _ rfl) (Nat.le_of_ble_eq_true rfl) (by first | exact hx.N | exact hx.No _ | exact hx.w0.N | exact hx.w0.No _) ?_
                intro h154 e154
                have hf := hf.u e154 (InX.w (by decide) (off_p hk6)); have hx := hx.upf (by decide) (wK_p hk6).1 (Or.inl rfl) e154 (off_p hk6)
                refine And.intro (by first | exact Or.inl rfl | exact Or.inr rfl | exact bI_01 _) ?_
                refine And.intro (hs _ _ _ (Or.inl ⟨⟨hps, h3, h7, ?_, ?_⟩, rfl, ?_⟩) hx hf) rfl
                · rw [hg, ec, show M 0 5 = _ from e5, ← ex]; exact b116
                · rw [hg, ec, show M 0 6 = _ from e6, ← ey]; exact b134
                · unfold goX
                  rw [hg, ex, ey]
              · simp only [cP, cN, bI_0, Bool.not_eq_false, lt_nle, Decidable.not_not] at b134
                refine And.intro (by first | exact Or.inl rfl | exact Or.inr rfl | exact bI_01 _) ?_
                refine And.intro (hs _ _ _ (Or.inr ⟨fun q9 => ?_, rfl, rfl⟩) hx hf) rfl
                have q8 := q9.2.2.2
                rw [hg, ec, show M 0 5 = _ from e5, show M 0 6 = _ from e6, ← ey] at q8
                exact absurd (b134.symm.trans q8.2) (by decide)
          have yy : ∀ (x5 : Int32), x5 = gox (W.S 0 (113 + 2 * k) 1) w n → X l G mX0_go (rmK d 0 0) (TGm G (fun v h' z' => Q v h' ∧ z' = z) 0 0) 0 0 71 [(0, .ref b), (1, .int (nI k)), (2, .int w), (3, .int n), (4, .ref (wb b 0 + (113 + 2 * k))), (5, .int x5)] [] h z := by
            intro x5 ex
            refine X.w wkX0_go (fcons (ceV x_keeps xmW0 ckX0_159 rfl xrW0 (by omega) rfl) (fcons (ceS c_isIn mo3 ckX0_50 (by omega) rfl) (fcons (ceV x_isPerson xmR1 ckX0_147 rfl xrR1 (by omega) rfl) fnil))) [101] 16 rfl ?_
            refine gF (by first | assumption | exact hx.w0.arr _ (wC_pp hk6) | exact hx.w0.arr _ (wC_bask hk6) | exact hx.obj | exact hx.bk | exact hx.rs | exact hx.sp | exact hx.tp | exact hx.w0.obj | exact hx.w0.arr _ rfl) ?_
            refine And.intro (by decide) ?_
            refine And.intro (fun b81 => ?_) (fun b81 => ?_)
            · simp only [cP, cN, bI_0, Bool.not_eq_false, lt_nle, Decidable.not_not] at b81
              refine And.intro (fun b89 => ?_) (fun b89 => ?_)
              · simp only [cP, cN, bI_0, Bool.not_eq_false, lt_nle, Decidable.not_not] at b89
                refine fin _ _ ex ?_
                unfold goy; rw [show dyF w n = 0 from by unfold dyF; rw [if_neg b81, if_neg b89]]
              · simp only [cP, cN, bI_0, Bool.not_eq_false, lt_nle, Decidable.not_not] at b89
                refine fin _ _ ex ?_
                unfold goy; rw [show dyF w n = -n from by unfold dyF; rw [if_neg b81, if_pos b89]]
            · simp only [cP, cN, bI_0, Bool.not_eq_false, lt_nle, Decidable.not_not] at b81
              refine fin _ _ ex ?_
              unfold goy; rw [show dyF w n = n from by unfold dyF; rw [if_pos b81]]
          refine X.w wkX0_go (fcons (ceV x_keeps xmW0 ckX0_159 rfl xrW0 (by omega) rfl) (fcons (ceS c_isIn mo3 ckX0_50 (by omega) rfl) (fcons (ceV x_isPerson xmR1 ckX0_147 rfl xrR1 (by omega) rfl) fnil))) [71] 23 rfl ?_
          refine gF (by first | assumption | exact hx.w0.arr _ (wC_pp hk6) | exact hx.w0.arr _ (wC_bask hk6) | exact hx.obj | exact hx.bk | exact hx.rs | exact hx.sp | exact hx.tp | exact hx.w0.obj | exact hx.w0.arr _ rfl) ?_
          refine gF (by first | assumption | exact hx.w0.arr _ (wC_pp hk6) | exact hx.w0.arr _ (wC_bask hk6) | exact hx.obj | exact hx.bk | exact hx.rs | exact hx.sp | exact hx.tp | exact hx.w0.obj | exact hx.w0.arr _ rfl) ?_
          refine gR (by first | assumption | exact hx.w0.arr _ (wC_pp hk6) | exact hx.w0.arr _ (wC_bask hk6) | exact hx.obj | exact hx.bk | exact hx.rs | exact hx.sp | exact hx.tp | exact hx.w0.obj | exact hx.w0.arr _ rfl) (by decide) (by first | exact ixN (by omega) (by decide) | exact ixz (by omega) (by decide)) (by exact rfl) ?_
          refine gF (by first | assumption | exact hx.w0.arr _ (wC_pp hk6) | exact hx.w0.arr _ (wC_bask hk6) | exact hx.obj | exact hx.bk | exact hx.rs | exact hx.sp | exact hx.tp | exact hx.w0.obj | exact hx.w0.arr _ rfl) ?_
          refine And.intro (by decide) ?_
          refine And.intro (fun b50 => ?_) (fun b50 => ?_)
          · simp only [cP, cN, bI_0, Bool.not_eq_false, lt_nle, Decidable.not_not] at b50
            refine And.intro (fun b59 => ?_) (fun b59 => ?_)
            · simp only [cP, cN, bI_0, Bool.not_eq_false, lt_nle, Decidable.not_not] at b59
              exact yy _ (by unfold gox; rw [show dxF w n = 0 from by unfold dxF; rw [if_neg b50, if_neg b59]])
            · simp only [cP, cN, bI_0, Bool.not_eq_false, lt_nle, Decidable.not_not] at b59
              exact yy _ (by unfold gox; rw [show dxF w n = -n from by unfold dxF; rw [if_neg b50, if_pos b59]])
          · simp only [cP, cN, bI_0, Bool.not_eq_false, lt_nle, Decidable.not_not] at b50
            exact yy _ (by unfold gox; rw [show dxF w n = n from by unfold dxF; rw [if_pos b50]])
        · simp only [cP, cN, bI_0, Bool.not_eq_false, lt_nle, Decidable.not_not] at b24
          refine And.intro (by first | exact Or.inl rfl | exact Or.inr rfl | exact bI_01 _) ?_
          exact And.intro (hs _ _ _ (Or.inr ⟨fun q9 => absurd (b24.symm.trans q9.2.2.1) (by decide), rfl, rfl⟩) hx hf) rfl
