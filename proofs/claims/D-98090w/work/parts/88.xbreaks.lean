set_option maxRecDepth 100000
/-! THE CLASS: acts on caps -/
def br1 (W : XW) (c : Nat) (q w : Int32) : XW := (((W.up 0 2 c w).up 0 3 c 0).up 0 4 c (W.S 0 0 14)).up 0 5 c q
def br2 (W : XW) (l c : Nat) (q w : Int32) : XW := ((((W.up 0 (11 + l) 0 q).up 0 (11 + l) 1 (nI c)).up 0 (11 + l) 2 w).up 0 (11 + l) 3 (W.S 0 0 14)).up 0 0 17 (nI l + 1)
def brX (W : XW) (u c : Nat) (q w : Int32) : XW := if W.S 0 0 17 = 100 then br1 (kpX W u) c q w else br2 (br1 (kpX W u) c q w) (gN (W.S 0 0 17)) c q w
theorem up_S0 {W : XW} {o k : Nat} {x : Int32} : (W.up 0 o k x).S 0 = up2 (W.S 0) o k x := by
  show upN W.S 0 (up2 (W.S 0) o k x) 0 = _
  exact upN_s
theorem br1_f {W : XW} {c k : Nat} {q w : Int32} : (br1 W c q w).S 0 0 k = W.S 0 0 k := by
  unfold br1
  rw [up_S0, up_S0, up_S0, up_S0, up2_n (by decide), up2_n (by decide), up2_n (by decide), up2_n (by decide)]
theorem x_breaks : CtS mX0_breaks (4) (xW2 (fun (a : SS × Nat) q w W => RelX W a.1 ∧ a.1 0 3 = nI a.2 ∧ a.2 ≤ 12) (fun (a : SS × Nat) q w W v W' => (bkC a.1 q w ∧ v = 1 ∧ W' = brX W a.2 (gN (a.1 1 (256 + gN q))) q w) ∨ (¬ bkC a.1 q w ∧ v = 0 ∧ W' = W))) := by
  intro l G d hd as h z Q hs
  match as, hs with
  | [.ref b, .int q, .int w], hs =>
    obtain ⟨W, a, hx, hp, hs⟩ := hs
    replace hp : RelX W a.1 ∧ a.1 0 3 = nI a.2 ∧ a.2 ≤ 12 := hp
    replace hs : ∀ v W' h', ((bkC a.1 q w ∧ v = 1 ∧ W' = brX W a.2 (gN (a.1 1 (256 + gN q))) q w) ∨ (¬ bkC a.1 q w ∧ v = 0 ∧ W' = W)) → IsX G b W' h' → FrX b h h' → Q (some (.int v)) h' := hs
    have hf : FrX b h h := FrX.rf
    refine Ct.of rfl (Nat.le_of_ble_eq_true rfl) rfl ?_
    obtain ⟨M, u⟩ := a
    dsimp only at hp hs
    refine X.w wkX0_breaks (fcons (ceV x_keeps xmW0 ckX0_159 rfl xrW0 (by omega) rfl) (fcons (ceV c_hasCap moW1 ckX0_168 rfl rcW1 (by omega) rfl) (fcons (ceV x_isWord xmR1 ckX0_162 rfl xrR1 (by omega) rfl) (fcons (ceV x_isPerson xmR1 ckX0_147 rfl xrR1 (by omega) rfl) fnil)))) [51] 26 rfl ?_
    refine Exists.intro _ (Exists.intro () (And.intro hx (And.intro trivial ?_)))
    intro v2 e2
    subst e2
    refine And.intro (fun b5 => ?_) (fun b5 => ?_)
    · simp only [cP, cN, bI_0, Bool.not_eq_false, lt_nle, Decidable.not_not] at b5
      refine And.intro (by first | exact Or.inl rfl | exact Or.inr rfl | exact bI_01 _) ?_
      exact And.intro (hs _ _ _ (Or.inr ⟨fun q9 => absurd (b5.symm.trans ((hp.1.ps _).symm.trans q9.1)) (by decide), rfl, rfl⟩) hx hf) rfl
    · simp only [cP, cN, bI_0, Bool.not_eq_false, lt_nle, Decidable.not_not] at b5
      obtain ⟨k, hk, hk6, rfl, hg⟩ := hp.1.pp b5
      have hps : psB M (nI k) = true := by rw [hp.1.ps]; exact b5
      have ec := hp.1.pc hk
      have hcb := (hp.1.pcell hk).1
      have hc63 : gN (W.S 0 (113 + 2 * k) 1) < 64 := by have := hcb.2; omega
      have hcp : capB (W.S 0) (W.S 0 (113 + 2 * k) 1) = false ↔ M 1 (gN (M 1 (256 + gN (nI k)))) ≤ 0 := by
        rw [hg, ec]
        have h9 := hp.1.cap hc63
        rw [← hcb.1] at h9
        rw [h9]
        unfold capM
        rw [decide_eq_false_iff_not, Int32.not_lt]

      refine Exists.intro _ (Exists.intro () (And.intro hx (And.intro trivial ?_)))
      intro v10 e10
      subst e10
      refine And.intro (fun b13 => ?_) (fun b13 => ?_)
      · simp only [cP, cN, bI_0, Bool.not_eq_false, lt_nle, Decidable.not_not] at b13
        refine And.intro (by first | exact Or.inl rfl | exact Or.inr rfl | exact bI_01 _) ?_
        exact And.intro (hs _ _ _ (Or.inr ⟨fun q9 => absurd (b13.symm.trans ((hp.1.wn _).symm.trans q9.2.1)) (by decide), rfl, rfl⟩) hx hf) rfl
      · simp only [cP, cN, bI_0, Bool.not_eq_false, lt_nle, Decidable.not_not] at b13
        refine gF (by first | assumption | exact hx.w0.arr _ (wC_pp hk6) | exact hx.w0.arr _ (wC_bask hk6) | exact hx.obj | exact hx.bk | exact hx.rs | exact hx.sp | exact hx.tp | exact hx.w0.obj | exact hx.w0.arr _ rfl) ?_
        refine gF (by first | assumption | exact hx.w0.arr _ (wC_pp hk6) | exact hx.w0.arr _ (wC_bask hk6) | exact hx.obj | exact hx.bk | exact hx.rs | exact hx.sp | exact hx.tp | exact hx.w0.obj | exact hx.w0.arr _ rfl) ?_
        refine And.intro (fun b24 => ?_) (fun b24 => ?_)
        · simp only [cP, cN, bI_0, Bool.not_eq_false, lt_nle, Decidable.not_not] at b24
          refine And.intro (by first | exact Or.inl rfl | exact Or.inr rfl | exact bI_01 _) ?_
          exact And.intro (hs _ _ _ (Or.inr ⟨fun q9 => q9.2.2.1 ((hp.1.w.2.2.2.1 6).trans b24), rfl, rfl⟩) hx hf) rfl
        · simp only [cP, cN, bI_0, Bool.not_eq_false, lt_nle, Decidable.not_not] at b24
          refine gF (by first | assumption | exact hx.w0.arr _ (wC_pp hk6) | exact hx.w0.arr _ (wC_bask hk6) | exact hx.obj | exact hx.bk | exact hx.rs | exact hx.sp | exact hx.tp | exact hx.w0.obj | exact hx.w0.arr _ rfl) ?_
          refine gF (by first | assumption | exact hx.w0.arr _ (wC_pp hk6) | exact hx.w0.arr _ (wC_bask hk6) | exact hx.obj | exact hx.bk | exact hx.rs | exact hx.sp | exact hx.tp | exact hx.w0.obj | exact hx.w0.arr _ rfl) ?_
          refine gF (by first | assumption | exact hx.w0.arr _ (wC_pp hk6) | exact hx.w0.arr _ (wC_bask hk6) | exact hx.obj | exact hx.bk | exact hx.rs | exact hx.sp | exact hx.tp | exact hx.w0.obj | exact hx.w0.arr _ rfl) ?_
          refine gR (by first | assumption | exact hx.w0.arr _ (wC_pp hk6) | exact hx.w0.arr _ (wC_bask hk6) | exact hx.obj | exact hx.bk | exact hx.rs | exact hx.sp | exact hx.tp | exact hx.w0.obj | exact hx.w0.arr _ rfl) (by decide) (by first | exact ixN (by omega) (by decide) | exact ixz (by omega) (by decide)) (by exact rfl) ?_
          refine gF (by first | assumption | exact hx.w0.arr _ (wC_pp hk6) | exact hx.w0.arr _ (wC_bask hk6) | exact hx.obj | exact hx.bk | exact hx.rs | exact hx.sp | exact hx.tp | exact hx.w0.obj | exact hx.w0.arr _ rfl) ?_
          refine Exists.intro _ (Exists.intro _ (And.intro hx.w0 ?_))
          refine And.intro (fun b46 => ?_) (fun b46 => ?_)
          · simp only [cP, cN, bI_0, Bool.not_eq_false, lt_nle, Decidable.not_not] at b46
            have hC : bkC M (nI k) w := ⟨hps, by rw [hp.1.wn]; exact b13, fun e => b24 ((hp.1.w.2.2.2.1 6).symm.trans e), hcp.mp b46⟩
            have hln := hp.1.ln.1
            have aft : ∀ (W1 : XW) (h1 : AH), W1 = kpX W u → W1.S 0 = W.S 0 → IsX G b W1 h1 → FrX b h h1 → X l G mX0_breaks (rmK d 0 0) (TGm G (fun v h' z' => Q v h' ∧ z' = z) 0 0) 0 0 56 [(0, .ref b), (1, .int (nI k)), (2, .int w)] [] h1 z := by
              intro W1 h1 eW eS hx hf
              have hcb : Bd 63 (W1.S 0 (113 + 2 * k) 1) := by rw [eS]; exact hcb
              have hc63 : gN (W1.S 0 (113 + 2 * k) 1) < 64 := by have := hcb.2; omega
              have hln : Bd 100 (W1.S 0 0 17) := by rw [eS]; exact hln
              have ecc : gN (M 1 (256 + gN (nI k))) = gN (W1.S 0 (113 + 2 * k) 1) := by rw [hg, ec, eS]
              refine X.w wkX0_breaks (fcons (ceV x_keeps xmW0 ckX0_159 rfl xrW0 (by omega) rfl) (fcons (ceV c_hasCap moW1 ckX0_168 rfl rcW1 (by omega) rfl) (fcons (ceV x_isWord xmR1 ckX0_162 rfl xrR1 (by omega) rfl) (fcons (ceV x_isPerson xmR1 ckX0_147 rfl xrR1 (by omega) rfl) fnil)))) [129] 41 rfl ?_
              refine gF (by first | assumption | exact hx.w0.arr _ (wC_pp hk6) | exact hx.w0.arr _ (wC_bask hk6) | exact hx.obj | exact hx.bk | exact hx.rs | exact hx.sp | exact hx.tp | exact hx.w0.obj | exact hx.w0.arr _ rfl) ?_
              refine gF (by first | assumption | exact hx.w0.arr _ (wC_pp hk6) | exact hx.w0.arr _ (wC_bask hk6) | exact hx.obj | exact hx.bk | exact hx.rs | exact hx.sp | exact hx.tp | exact hx.w0.obj | exact hx.w0.arr _ rfl) ?_
              refine gR (by first | assumption | exact hx.w0.arr _ (wC_pp hk6) | exact hx.w0.arr _ (wC_bask hk6) | exact hx.obj | exact hx.bk | exact hx.rs | exact hx.sp | exact hx.tp | exact hx.w0.obj | exact hx.w0.arr _ rfl) (by decide) (by first | exact ixN (by omega) (by decide) | exact ixz (by omega) (by decide)) (by exact rfl) ?_
              refine gF (by first | assumption | exact hx.w0.arr _ (wC_pp hk6) | exact hx.w0.arr _ (wC_bask hk6) | exact hx.obj | exact hx.bk | exact hx.rs | exact hx.sp | exact hx.tp | exact hx.w0.obj | exact hx.w0.arr _ rfl) ?_
              refine gF (by first | assumption | exact hx.w0.arr _ (wC_pp hk6) | exact hx.w0.arr _ (wC_bask hk6) | exact hx.obj | exact hx.bk | exact hx.rs | exact hx.sp | exact hx.tp | exact hx.w0.obj | exact hx.w0.arr _ rfl) ?_
              refine gF (by first | assumption | exact hx.w0.arr _ (wC_pp hk6) | exact hx.w0.arr _ (wC_bask hk6) | exact hx.obj | exact hx.bk | exact hx.rs | exact hx.sp | exact hx.tp | exact hx.w0.obj | exact hx.w0.arr _ rfl) ?_
              refine sA (by first | assumption | exact hx.w0.arr _ (wC_pp hk6) | exact hx.w0.arr _ (wC_bask hk6) | exact hx.obj | exact hx.bk | exact hx.rs | exact hx.sp | exact hx.tp | exact hx.w0.obj | exact hx.w0.arr _ rfl) (ixE hcb.1 hc63 (by decide)) (by first | exact hx.N | exact hx.No _ | exact hx.w0.N | exact hx.w0.No _) ?_
              intro h78 e78
              have hf := hf.u e78 (InX.w (by decide) (by decide)); have hx := hx.uA (by decide) e78 (by decide) (by decide)
              refine gF (by first | assumption | exact hx.w0.arr _ (wC_pp hk6) | exact hx.w0.arr _ (wC_bask hk6) | exact hx.obj | exact hx.bk | exact hx.rs | exact hx.sp | exact hx.tp | exact hx.w0.obj | exact hx.w0.arr _ rfl) ?_
              refine gF (by first | assumption | exact hx.w0.arr _ (wC_pp hk6) | exact hx.w0.arr _ (wC_bask hk6) | exact hx.obj | exact hx.bk | exact hx.rs | exact hx.sp | exact hx.tp | exact hx.w0.obj | exact hx.w0.arr _ rfl) ?_
              refine sA (by first | assumption | exact hx.w0.arr _ (wC_pp hk6) | exact hx.w0.arr _ (wC_bask hk6) | exact hx.obj | exact hx.bk | exact hx.rs | exact hx.sp | exact hx.tp | exact hx.w0.obj | exact hx.w0.arr _ rfl) (ixE hcb.1 hc63 (by decide)) (by first | exact hx.N | exact hx.No _ | exact hx.w0.N | exact hx.w0.No _) ?_
              intro h88 e88
              have hf := hf.u e88 (InX.w (by decide) (by decide)); have hx := hx.uA (by decide) e88 (by decide) (by decide)
              refine gF (by first | assumption | exact hx.w0.arr _ (wC_pp hk6) | exact hx.w0.arr _ (wC_bask hk6) | exact hx.obj | exact hx.bk | exact hx.rs | exact hx.sp | exact hx.tp | exact hx.w0.obj | exact hx.w0.arr _ rfl) ?_
              refine gF (by first | assumption | exact hx.w0.arr _ (wC_pp hk6) | exact hx.w0.arr _ (wC_bask hk6) | exact hx.obj | exact hx.bk | exact hx.rs | exact hx.sp | exact hx.tp | exact hx.w0.obj | exact hx.w0.arr _ rfl) ?_
              refine gF (by first | assumption | exact hx.w0.arr _ (wC_pp hk6) | exact hx.w0.arr _ (wC_bask hk6) | exact hx.obj | exact hx.bk | exact hx.rs | exact hx.sp | exact hx.tp | exact hx.w0.obj | exact hx.w0.arr _ rfl) ?_
              refine gF (by first | assumption | exact hx.w0.arr _ (wC_pp hk6) | exact hx.w0.arr _ (wC_bask hk6) | exact hx.obj | exact hx.bk | exact hx.rs | exact hx.sp | exact hx.tp | exact hx.w0.obj | exact hx.w0.arr _ rfl) ?_
              refine sA (by first | assumption | exact hx.w0.arr _ (wC_pp hk6) | exact hx.w0.arr _ (wC_bask hk6) | exact hx.obj | exact hx.bk | exact hx.rs | exact hx.sp | exact hx.tp | exact hx.w0.obj | exact hx.w0.arr _ rfl) (ixE hcb.1 hc63 (by decide)) (by first | exact hx.N | exact hx.No _ | exact hx.w0.N | exact hx.w0.No _) ?_
              intro h104 e104
              have hf := hf.u e104 (InX.w (by decide) (by decide)); have hx := hx.uA (by decide) e104 (by decide) (by decide)
              refine gF (by first | assumption | exact hx.w0.arr _ (wC_pp hk6) | exact hx.w0.arr _ (wC_bask hk6) | exact hx.obj | exact hx.bk | exact hx.rs | exact hx.sp | exact hx.tp | exact hx.w0.obj | exact hx.w0.arr _ rfl) ?_
              refine gF (by first | assumption | exact hx.w0.arr _ (wC_pp hk6) | exact hx.w0.arr _ (wC_bask hk6) | exact hx.obj | exact hx.bk | exact hx.rs | exact hx.sp | exact hx.tp | exact hx.w0.obj | exact hx.w0.arr _ rfl) ?_
              refine sA (by first | assumption | exact hx.w0.arr _ (wC_pp hk6) | exact hx.w0.arr _ (wC_bask hk6) | exact hx.obj | exact hx.bk | exact hx.rs | exact hx.sp | exact hx.tp | exact hx.w0.obj | exact hx.w0.arr _ rfl) (ixE hcb.1 hc63 (by decide)) (by first | exact hx.N | exact hx.No _ | exact hx.w0.N | exact hx.w0.No _) ?_
              intro h114 e114
              have hf := hf.u e114 (InX.w (by decide) (by decide)); have hx := hx.uA (by decide) e114 (by decide) (by decide)
              refine gF (by first | assumption | exact hx.w0.arr _ (wC_pp hk6) | exact hx.w0.arr _ (wC_bask hk6) | exact hx.obj | exact hx.bk | exact hx.rs | exact hx.sp | exact hx.tp | exact hx.w0.obj | exact hx.w0.arr _ rfl) ?_
              refine gF (by first | assumption | exact hx.w0.arr _ (wC_pp hk6) | exact hx.w0.arr _ (wC_bask hk6) | exact hx.obj | exact hx.bk | exact hx.rs | exact hx.sp | exact hx.tp | exact hx.w0.obj | exact hx.w0.arr _ rfl) ?_
              refine And.intro (fun b124 => ?_) (fun b124 => ?_)
              · simp only [cP, cN, bI_0, Bool.not_eq_false, lt_nle, Decidable.not_not] at b124
                have hl100 : gN (W1.S 0 0 17) < 100 := by
                  have h8 := hln.2
                  rcases Nat.lt_or_ge (gN (W1.S 0 0 17)) 100 with q | q
                  · exact q
                  · exact absurd (by show W1.S 0 0 17 = 100; rw [hln.1, show gN (W1.S 0 0 17) = 100 from by omega]; rfl) b124
                replace hx : IsX G b (br1 W1 (gN (W1.S 0 (113 + 2 * k) 1)) (nI k) w) h114 := hx
                refine X.cut [(0, .ref b), (1, .int (nI k)), (2, .int w), (3, .int (W1.S 0 (113 + 2 * k) 1))] [] rfl ?_
                have e17 : (br1 W1 (gN (W1.S 0 (113 + 2 * k) 1)) (nI k) w).S 0 0 17 = W1.S 0 0 17 := br1_f
                have eB : brX W u (gN (M 1 (256 + gN (nI k)))) (nI k) w = br2 (br1 W1 (gN (W1.S 0 (113 + 2 * k) 1)) (nI k) w) (gN (W1.S 0 0 17)) (gN (W1.S 0 (113 + 2 * k) 1)) (nI k) w := by
                  unfold brX
                  rw [if_neg (show ¬ W.S 0 0 17 = 100 from by rw [← eS]; exact b124), ecc, ← eW, ← eS]
                generalize br1 W1 (gN (W1.S 0 (113 + 2 * k) 1)) (nI k) w = W2 at hx e17 eB
                have hln2 : Bd 100 (W2.S 0 0 17) := by rw [e17]; exact hln
                rw [← e17] at eB hl100
                have ecx : W1.S 0 (113 + 2 * k) 1 = nI (gN (W1.S 0 (113 + 2 * k) 1)) := hcb.1
                generalize hcc : gN (W1.S 0 (113 + 2 * k) 1) = cc at eB ecx
                rw [ecx]
                refine X.w wkX0_breaks (fcons (ceV x_keeps xmW0 ckX0_159 rfl xrW0 (by omega) rfl) (fcons (ceV c_hasCap moW1 ckX0_168 rfl rcW1 (by omega) rfl) (fcons (ceV x_isWord xmR1 ckX0_162 rfl xrR1 (by omega) rfl) (fcons (ceV x_isPerson xmR1 ckX0_147 rfl xrR1 (by omega) rfl) fnil)))) [] 36 rfl ?_
                refine gF (by first | assumption | exact hx.w0.arr _ (wC_row hl100) | exact hx.obj | exact hx.bk | exact hx.rs | exact hx.sp | exact hx.tp | exact hx.w0.obj | exact hx.w0.arr _ rfl) ?_
                refine gF (by first | assumption | exact hx.w0.arr _ (wC_row hl100) | exact hx.obj | exact hx.bk | exact hx.rs | exact hx.sp | exact hx.tp | exact hx.w0.obj | exact hx.w0.arr _ rfl) ?_
                refine gF (by first | assumption | exact hx.w0.arr _ (wC_row hl100) | exact hx.obj | exact hx.bk | exact hx.rs | exact hx.sp | exact hx.tp | exact hx.w0.obj | exact hx.w0.arr _ rfl) ?_
                refine gF (by first | assumption | exact hx.w0.arr _ (wC_row hl100) | exact hx.obj | exact hx.bk | exact hx.rs | exact hx.sp | exact hx.tp | exact hx.w0.obj | exact hx.w0.arr _ rfl) ?_
                refine gR (by first | assumption | exact hx.w0.arr _ (wC_row hl100) | exact hx.obj | exact hx.bk | exact hx.rs | exact hx.sp | exact hx.tp | exact hx.w0.obj | exact hx.w0.arr _ rfl) (by decide) (ixE hln2.1 hl100 (by decide)) (by exact rfl) ?_
                refine sA (by first | assumption | exact hx.w0.arr _ (wC_row hl100) | exact hx.obj | exact hx.bk | exact hx.rs | exact hx.sp | exact hx.tp | exact hx.w0.obj | exact hx.w0.arr _ rfl) (ixE (j := 0) rfl (by decide) (by decide)) (by first | exact hx.N | exact hx.No _ | exact hx.w0.N | exact hx.w0.No _) ?_
                intro h150 e150
                have hf := hf.u e150 (InX.w (by decide) (off_r hl100)); have hx := hx.uA (by decide) e150 (Or.inr (Or.inr ⟨wK_row hl100, rfl⟩)) (off_r hl100)
                refine sA (by first | assumption | exact hx.w0.arr _ (wC_row hl100) | exact hx.obj | exact hx.bk | exact hx.rs | exact hx.sp | exact hx.tp | exact hx.w0.obj | exact hx.w0.arr _ rfl) (ixE (j := 1) rfl (by decide) (by decide)) (by first | exact hx.N | exact hx.No _ | exact hx.w0.N | exact hx.w0.No _) ?_
                intro h155 e155
                have hf := hf.u e155 (InX.w (by decide) (off_r hl100)); have hx := hx.uA (by decide) e155 (Or.inr (Or.inr ⟨wK_row hl100, rfl⟩)) (off_r hl100)
                refine sA (by first | assumption | exact hx.w0.arr _ (wC_row hl100) | exact hx.obj | exact hx.bk | exact hx.rs | exact hx.sp | exact hx.tp | exact hx.w0.obj | exact hx.w0.arr _ rfl) (ixE (j := 2) rfl (by decide) (by decide)) (by first | exact hx.N | exact hx.No _ | exact hx.w0.N | exact hx.w0.No _) ?_
                intro h160 e160
                have hf := hf.u e160 (InX.w (by decide) (off_r hl100)); have hx := hx.uA (by decide) e160 (Or.inr (Or.inr ⟨wK_row hl100, rfl⟩)) (off_r hl100)
                refine gF (by first | assumption | exact hx.w0.arr _ (wC_row hl100) | exact hx.obj | exact hx.bk | exact hx.rs | exact hx.sp | exact hx.tp | exact hx.w0.obj | exact hx.w0.arr _ rfl) ?_
                refine gF (by first | assumption | exact hx.w0.arr _ (wC_row hl100) | exact hx.obj | exact hx.bk | exact hx.rs | exact hx.sp | exact hx.tp | exact hx.w0.obj | exact hx.w0.arr _ rfl) ?_
                refine sA (by first | assumption | exact hx.w0.arr _ (wC_row hl100) | exact hx.obj | exact hx.bk | exact hx.rs | exact hx.sp | exact hx.tp | exact hx.w0.obj | exact hx.w0.arr _ rfl) (ixE (j := 3) rfl (by decide) (by decide)) (by first | exact hx.N | exact hx.No _ | exact hx.w0.N | exact hx.w0.No _) ?_
                intro h171 e171
                have hf := hf.u e171 (InX.w (by decide) (off_r hl100)); have hx := hx.uA (by decide) e171 (Or.inr (Or.inr ⟨wK_row hl100, rfl⟩)) (off_r hl100)
                refine gF (by first | assumption | exact hx.w0.arr _ (wC_row hl100) | exact hx.obj | exact hx.bk | exact hx.rs | exact hx.sp | exact hx.tp | exact hx.w0.obj | exact hx.w0.arr _ rfl) ?_
                refine gF (by first | assumption | exact hx.w0.arr _ (wC_row hl100) | exact hx.obj | exact hx.bk | exact hx.rs | exact hx.sp | exact hx.tp | exact hx.w0.obj | exact hx.w0.arr _ rfl) ?_
                refine pF0 (okV_W rfl) (by first | assumption | exact hx.w0.arr _ (wC_row hl100) | exact hx.obj | exact hx.bk | exact hx.rs | exact hx.sp | exact hx.tp | exact hx.w0.obj | exact hx.w0.arr _ rfl) (Nat.le_of_ble_eq_true rfl) (by first | exact hx.N | exact hx.No _ | exact hx.w0.N | exact hx.w0.No _) ?_
                intro h182 e182
                have hf := hf.u e182 (InX.o (by decide)); have hx := hx.u0 (by decide) e182 rfl
                refine And.intro (by first | exact Or.inl rfl | exact Or.inr rfl | exact bI_01 _) ?_
                refine And.intro (hs _ _ _ (Or.inl ⟨hC, rfl, ?_⟩) hx hf) rfl
                rw [eB]
                unfold br2
                rw [← hln2.1]
                simp only [up_S0, up2_n (show (0 : Nat) ≠ 11 + gN (W2.S 0 0 17) by omega)]
              · simp only [cP, cN, bI_0, Bool.not_eq_false, lt_nle, Decidable.not_not] at b124
                refine And.intro (by first | exact Or.inl rfl | exact Or.inr rfl | exact bI_01 _) ?_
                refine And.intro (hs _ _ _ (Or.inl ⟨hC, rfl, ?_⟩) hx hf) rfl
                unfold brX
                rw [if_pos (show W.S 0 0 17 = 100 from by rw [← eS]; exact b124), ecc, ← eW]
                rfl
            refine X.w wkX0_breaks (fcons (ceV x_keeps xmW0 ckX0_159 rfl xrW0 (by omega) rfl) (fcons (ceV c_hasCap moW1 ckX0_168 rfl rcW1 (by omega) rfl) (fcons (ceV x_isWord xmR1 ckX0_162 rfl xrR1 (by omega) rfl) (fcons (ceV x_isPerson xmR1 ckX0_147 rfl xrR1 (by omega) rfl) fnil)))) [56] 5 rfl ?_
            refine Exists.intro _ (Exists.intro u (And.intro hx (And.intro (hp.1.kpre hp.2.1 hp.2.2) ?_)))
            intro v52 W52 h52 p52 hx hf52
            have hf := hf.tr hf52
            (try dsimp only at p52)
            obtain ⟨rfl, e52⟩ := p52
            exact aft W52 _ e52 (by rw [e52]; exact kpX_S (by decide)) hx hf
          · simp only [cP, cN, bI_0, Bool.not_eq_false, lt_nle, Decidable.not_not] at b46
            refine And.intro (by first | exact Or.inl rfl | exact Or.inr rfl | exact bI_01 _) ?_
            exact And.intro (hs _ _ _ (Or.inr ⟨fun q9 => absurd b46 (by rw [hcp.mpr q9.2.2.2]; decide), rfl, rfl⟩) hx hf) rfl
