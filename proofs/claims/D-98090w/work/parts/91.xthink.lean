set_option maxRecDepth 100000
/-! THE CLASS: images, days in thought -/
def XW.tk (W : XW) (j i : Nat) : XW := (W.uS j (takF (W.S j) (W.S i) (gN (W.S i 0 16)) (gN (W.S i 0 15)) (gN (W.S i 0 17)))).uL j (W.la i) (W.Ls i)
def BW (S : SS) : Prop := Bd 6 (S 0 16) ∧ Bd 12 (S 0 15) ∧ Bd 100 (S 0 17)
def imX (W : XW) (t : Bool) : XW := bif t then (W.tk 1 0).uF 9 1 else ((W.tk 0 1).uF 8 0).uF 9 1
theorem ap_w {x j i : Nat} (h : j ≠ i) : Apart 125 (wb x j) (wb x i) := by
  have := wb_ap (x := x) h
  unfold Apart; omega
theorem IsX.lawF {G : GG} {x : Nat} {W : XW} {h : AH} (w : IsX G x W h) {j : Nat} (hj : j < 15) : ∀ h', Fr (wb x j) h h' → IsLaw G h' (W.la j) (W.Ls j) := fun h' f => by
  have h9 := w.lw j hj
  rw [← cut_fr (FrX.rf.w hj f)] at h9
  exact h9.mono (fun _ _ q => cut_le q)
theorem x_image : CtS mX0_image (4) (xW1 (fun (a : Bool × Bool) x W => x = bI a.1 ∧ W.F 9 = bI a.2 ∧ (a.1 = true → BW (W.S 0)) ∧ (a.2 = true → BW (W.S 1))) (fun (a : Bool × Bool) x W v W' => ((a.1 || a.2) = true ∧ v = 1 ∧ W' = imX W a.1) ∨ ((a.1 || a.2) = false ∧ v = 0 ∧ W' = W))) := by
  intro l G d hd as h z Q hs
  match as, hs with
  | [.ref b, .int x], hs =>
    obtain ⟨W, a, hx, hp, hs⟩ := hs
    replace hp : x = bI a.1 ∧ W.F 9 = bI a.2 ∧ (a.1 = true → BW (W.S 0)) ∧ (a.2 = true → BW (W.S 1)) := hp
    replace hs : ∀ v W' h', (((a.1 || a.2) = true ∧ v = 1 ∧ W' = imX W a.1) ∨ ((a.1 || a.2) = false ∧ v = 0 ∧ W' = W)) → IsX G b W' h' → FrX b h h' → Q (some (.int v)) h' := hs
    have hf : FrX b h h := FrX.rf
    refine Ct.of rfl (Nat.le_of_ble_eq_true rfl) rfl ?_
    obtain ⟨t, q⟩ := a
    dsimp only at hp hs
    obtain ⟨rfl, hq, hB0, hB1⟩ := hp
    refine X.w wkX0_image (fcons (ceV x_forgets xmW0 ckX0_110 rfl xrW0 (by omega) rfl) (fcons (ceV c_takes moTakes ckX0_250 rfl rcTakes (by omega) rfl) fnil)) [13] 8 rfl ?_
    refine And.intro (fun b1 => ?_) (fun b1 => ?_)
    · simp only [cP, cN, bI_0, Bool.not_eq_false, lt_nle, Decidable.not_not] at b1
      refine X.w wkX0_image (fcons (ceV x_forgets xmW0 ckX0_110 rfl xrW0 (by omega) rfl) (fcons (ceV c_takes moTakes ckX0_250 rfl rcTakes (by omega) rfl) fnil)) [] 16 rfl ?_
      refine And.intro (fun b14 => ?_) (fun b14 => ?_)
      · simp only [cP, cN, bI_0, Bool.not_eq_false, lt_nle, Decidable.not_not] at b14
        exact absurd (b14.symm.trans b1) (by decide)
      · simp only [cP, cN, bI_0, Bool.not_eq_false, lt_nle, Decidable.not_not] at b14
        subst b1
        have hB := hB0 rfl
        refine gF (by first | assumption | exact hx.obj | exact hx.bk | exact hx.rs | exact hx.sp | exact hx.tp | exact hx.w0.obj | exact hx.w0.arr _ rfl) ?_
        refine gF (by first | assumption | exact hx.obj | exact hx.bk | exact hx.rs | exact hx.sp | exact hx.tp | exact hx.w0.obj | exact hx.w0.arr _ rfl) ?_
        refine Exists.intro _ (Exists.intro _ (Exists.intro _ (Exists.intro _ (Exists.intro _ (Exists.intro _ (Exists.intro _ (And.intro (hx.wd 1 (by decide)) (And.intro (hx.wd 0 (by decide)) (And.intro (ap_w (by decide)) (And.intro hB.1.1 (And.intro hB.1.2 (And.intro hB.2.1.1 (And.intro hB.2.1.2 (And.intro hB.2.2.1 (And.intro hB.2.2.2 ?_)))))))))))))))
        intro h25 hw25 hf25
        have hf := hf.w (j := 1) (by decide) hf25
        have hx := hx.woodL (j := 1) (by decide) hw25 hf25 (hx.lw 0 (by decide))
        refine And.intro (fun b43 => ?_) (fun b43 => ?_)
        · simp only [cP, cN, bI_0, Bool.not_eq_false, lt_nle, Decidable.not_not] at b43
          refine pF0 (by first | exact okV_W rfl | exact ⟨rfl, rfl⟩ | exact ⟨by decide, by decide⟩) (by first | assumption | exact hx.obj | exact hx.bk | exact hx.rs | exact hx.sp | exact hx.tp | exact hx.w0.obj | exact hx.w0.arr _ rfl) (Nat.le_of_ble_eq_true rfl) (by first | exact hx.N | exact hx.No _ | exact hx.w0.N | exact hx.w0.No _) ?_
          intro h53 e53
          have hf := hf.u e53 InX.self; have hx := hx.uF e53 rfl
          refine And.intro (by first | exact Or.inl rfl | exact Or.inr rfl | exact bI_01 _) ?_
          exact And.intro (hs _ _ _ (Or.inl ⟨rfl, rfl, rfl⟩) hx hf) rfl
        · simp only [cP, cN, bI_0, Bool.not_eq_false, lt_nle, Decidable.not_not] at b43
          exact absurd b43 (by decide)
    · simp only [cP, cN, bI_0, Bool.not_eq_false, lt_nle, Decidable.not_not] at b1
      refine gF (by first | assumption | exact hx.obj | exact hx.bk | exact hx.rs | exact hx.sp | exact hx.tp | exact hx.w0.obj | exact hx.w0.arr _ rfl) ?_
      refine And.intro (fun b8 => ?_) (fun b8 => ?_)
      · simp only [cP, cN, bI_0, Bool.not_eq_false, lt_nle, Decidable.not_not] at b8
        have hq2 : q = true := by
          rw [hq] at b8
          exact bI_n0.mp b8
        refine X.w wkX0_image (fcons (ceV x_forgets xmW0 ckX0_110 rfl xrW0 (by omega) rfl) (fcons (ceV c_takes moTakes ckX0_250 rfl rcTakes (by omega) rfl) fnil)) [] 18 rfl ?_
        refine And.intro (fun b14 => ?_) (fun b14 => ?_)
        · simp only [cP, cN, bI_0, Bool.not_eq_false, lt_nle, Decidable.not_not] at b14
          subst b1
          have hB := hB1 hq2
          refine gF (by first | assumption | exact hx.obj | exact hx.bk | exact hx.rs | exact hx.sp | exact hx.tp | exact hx.w0.obj | exact hx.w0.arr _ rfl) ?_
          refine gF (by first | assumption | exact hx.obj | exact hx.bk | exact hx.rs | exact hx.sp | exact hx.tp | exact hx.w0.obj | exact hx.w0.arr _ rfl) ?_
          refine Exists.intro _ (Exists.intro _ (Exists.intro _ (Exists.intro _ (Exists.intro _ (Exists.intro _ (Exists.intro _ (And.intro (hx.wd 0 (by decide)) (And.intro (hx.wd 1 (by decide)) (And.intro (ap_w (by decide)) (And.intro hB.1.1 (And.intro hB.1.2 (And.intro hB.2.1.1 (And.intro hB.2.1.2 (And.intro hB.2.2.1 (And.intro hB.2.2.2 ?_)))))))))))))))
          intro h39 hw39 hf39
          have hf := hf.w (j := 0) (by decide) hf39
          have hx := hx.woodL (j := 0) (by decide) hw39 hf39 (hx.lw 1 (by decide))
          refine And.intro (fun b43 => ?_) (fun b43 => ?_)
          · simp only [cP, cN, bI_0, Bool.not_eq_false, lt_nle, Decidable.not_not] at b43
            exact absurd b43 (by decide)
          · simp only [cP, cN, bI_0, Bool.not_eq_false, lt_nle, Decidable.not_not] at b43
            refine Exists.intro _ (Exists.intro () (And.intro hx (And.intro trivial ?_)))
            intro v47 W47 h47 p47 hx hf47
            have hf := hf.tr hf47
            (try dsimp only at p47)
            obtain ⟨rfl, rfl⟩ := p47
            refine pF0 (by first | exact okV_W rfl | exact ⟨rfl, rfl⟩ | exact ⟨by decide, by decide⟩) (by first | assumption | exact hx.obj | exact hx.bk | exact hx.rs | exact hx.sp | exact hx.tp | exact hx.w0.obj | exact hx.w0.arr _ rfl) (Nat.le_of_ble_eq_true rfl) (by first | exact hx.N | exact hx.No _ | exact hx.w0.N | exact hx.w0.No _) ?_
            intro h53 e53
            have hf := hf.u e53 InX.self; have hx := hx.uF e53 rfl
            refine And.intro (by first | exact Or.inl rfl | exact Or.inr rfl | exact bI_01 _) ?_
            exact And.intro (hs _ _ _ (Or.inl ⟨by rw [hq2]; rfl, rfl, rfl⟩) hx hf) rfl
        · simp only [cP, cN, bI_0, Bool.not_eq_false, lt_nle, Decidable.not_not] at b14
          exact absurd (b14.symm.trans b1) (by decide)
      · simp only [cP, cN, bI_0, Bool.not_eq_false, lt_nle, Decidable.not_not] at b8
        have hq2 : q = false := by
          rw [hq] at b8
          exact bI_0.mp b8
        refine And.intro (by first | exact Or.inl rfl | exact Or.inr rfl | exact bI_01 _) ?_
        exact And.intro (hs _ _ _ (Or.inr ⟨by rw [b1, hq2]; rfl, rfl, rfl⟩) hx hf) rfl
/-- W' is W but for the wood in thought -/
def SameX (W W' : XW) : Prop := W'.F = W.F ∧ W'.T = W.T ∧ (∀ j, j ≠ 2 → W'.S j = W.S j ∧ W'.Ls j = W.Ls j) ∧ W'.pi = W.pi
theorem uS_s {W : XW} {j : Nat} {A : SS} : (W.uS j A).S j = A := by
  show upN W.S j A j = A
  exact upN_s
theorem tk_Ls {W : XW} {j i : Nat} : (W.tk j i).Ls j = W.Ls i := by
  show upN W.Ls j (W.Ls i) j = _
  exact upN_s
theorem SameX.rf {W : XW} : SameX W W := ⟨rfl, rfl, fun _ _ => ⟨rfl, rfl⟩, rfl⟩
theorem SameX.uS {W W1 : XW} {S' : SS} (h : SameX W W1) : SameX W (W1.uS 2 S') := ⟨h.1, h.2.1, fun j hj => ⟨(upN_n hj).trans (h.2.2.1 j hj).1, (h.2.2.1 j hj).2⟩, h.2.2.2⟩
theorem SameX.tk {W : XW} : SameX W (W.tk 2 0) := ⟨rfl, rfl, fun j hj => ⟨upN_n hj, upN_n hj⟩, rfl⟩
theorem RelX.same {W W' : XW} {M : SS} (r : RelX W M) (s : SameX W W') : RelX W' M := by
  obtain ⟨s1, s2, s3, s4⟩ := s
  refine ⟨?_, ?_, ?_, ?_, ?_⟩
  · rw [(s3 0 (by decide)).1, (s3 0 (by decide)).2]; exact r.1
  · obtain ⟨u, h1, h2, h3, h4, h5, h6⟩ := r.2.1
    refine ⟨u, h1, by rw [s1]; exact h2, h3, fun k hk => ?_, fun k hk => ?_, fun k k' hk hk' => ?_⟩
    · rw [s4, (s3 (3 + W.pi k) (by omega)).1, (s3 0 (by decide)).1]; exact h4 k hk
    · rw [s4, (s3 (3 + W.pi k) (by omega)).1, (s3 0 (by decide)).1]; exact h5 k hk
    · rw [s4, (s3 (3 + W.pi k) (by omega)).1, (s3 (3 + W.pi k') (by omega)).1]; exact h6 k k' hk hk'
  · obtain ⟨t, h1, h2, h3, h4⟩ := r.2.2.1
    exact ⟨t, h1, by rw [s1]; exact h2, h3, fun k hk => by rw [s2]; exact h4 k hk⟩
  · obtain ⟨q, h1, h2, h3⟩ := r.2.2.2.1
    exact ⟨q, by rw [s1]; exact h1, h2, fun e => by rw [(s3 1 (by decide)).1, (s3 1 (by decide)).2]; exact h3 e⟩
  · obtain ⟨h1, h2, h3⟩ := r.2.2.2.2
    exact ⟨by rw [s1]; exact h1, by rw [s1]; exact h2, h3⟩
/-- the damp of the model, in bounds -/
def DmpO (M : SS) : Prop := ∀ c, c < 64 → capM M c = true → ∃ d, d < 100 ∧ M 3 c + 10 = nI d
theorem dm_step : ∀ d, d < 100 → ∀ k, k < 100 → (if nI d - nI (k + 1) < 0 then 0 else nI d - nI (k + 1)) = clampI 0 99 ((if nI d - nI k < 0 then 0 else nI d - nI k) + -1) := by decide +kernel
theorem RG.step {S M M' : SS} {k : Nat} {fz x : Int32} {L : List Line9} (r : RG S M (nI k) fz) (hk : k < 100) (hd : DmpO M) (hL : WfL L) (g : GrwR L (nI k) fz M M') : RG (up2 (goesF S L) 0 24 x) M' (nI (k + 1)) 0 ∧ DmpO M' := by
  obtain ⟨g1, g2⟩ := g
  have e1 : M' 1 = M 1 := g1 1 rfl
  have e3 : M' 3 = M 3 := g1 3 rfl
  have e0 : M' 0 = M 0 := g1 0 rfl
  have ec : ∀ c, capM M' c = capM M c := fun c => by unfold capM; rw [e1]
  refine ⟨⟨fun c hc => (ec c).trans (r.1 c hc), fun c hc => by rw [e1]; exact r.2.1 c hc, fun c hc hcap => ?_, ?_, rfl⟩, fun c hc hcap => by rw [e3]; exact hd c hc ((ec c).symm.trans hcap)⟩
  · rw [ec] at hcap
    obtain ⟨r1, r2, r3⟩ := r.2.2.1 c hc hcap
    refine ⟨?_, by rw [e1]; exact r2, ?_⟩
    · rw [g2 c hc hcap, grw_eq r hL hc hcap]; rfl
    · obtain ⟨d, hd1, hd2⟩ := hd c hc hcap
      have hcell : isCellB S (nI c) = true := by
        have h9 := r.1 c hc
        rw [hcap] at h9
        unfold capB at h9
        have h8 := h9.symm
        rw [Bool.and_eq_true] at h8
        exact h8.1
      have e9 : up2 (goesF S L) 0 24 x 1 c = clampI 0 99 (S 1 c + -1) := by
        show dampF (allGrowF S L) (-1) 64 c = _
        unfold dampF
        rw [if_pos ⟨hc, hcell⟩]
        rfl
      rw [e9, ← r3]
      unfold dmpM
      rw [e3, hd2]
      exact dm_step d hd1 k hk
  · show M' 0 17 + nI (k + 1) = S 0 14 + 1
    rw [e0, ← nI_1, ← Int32.add_assoc, r.2.2.2.1]
theorem RG.ag {S S' M : SS} {y fz : Int32} (r : RG S M y fz) (a : AgX S S') : RG S' M y fz := by
  have ec : ∀ c, c < 64 → capB S' (nI c) = capB S (nI c) := fun c hc => by
    unfold capB
    rw [cell_ag a.1, nI_clamp (by omega), (a.2.1.2.1 c hc).1]
  refine ⟨fun c hc => by rw [ec c hc]; exact r.1 c hc, fun c hc => by rw [(a.2.1.2.1 c hc).1]; exact r.2.1 c hc, fun c hc h => ?_, by rw [a.1 14 (by decide) (by decide)]; exact r.2.2.2.1, by rw [a.1 19 (by decide) (by decide)]; exact r.2.2.2.2⟩
  rw [(a.2.1.2.1 c hc).2.1, (a.2.1.2.1 c hc).2.2.1, a.2.2.1 c hc]
  exact r.2.2.1 c hc h
theorem RelX.dmp {W : XW} {M : SS} (r : RelX W M) : DmpO (thkF M) := by
  intro c hc h
  have h1 : capB (W.S 0) (nI c) = true := by rw [r.cap hc]; exact h
  have hcell : isCellB (W.S 0) (nI c) = true := by
    unfold capB at h1
    rw [Bool.and_eq_true] at h1
    exact h1.1
  refine ⟨gN (W.S 0 1 c), by have := (r.w.1 9 c hc).2; omega, ?_⟩
  show M 3 c + 10 = _
  rw [show M 3 c = _ from r.w.2.2.2.1 10 c hc hcell, ← (r.w.1 9 c hc).1]
  simp
theorem RelX.wf {W : XW} {M : SS} (r : RelX W M) : WfL (W.Ls 0) := r.w.2.2.2.2.wf
theorem RelX.bw {W : XW} {M : SS} (r : RelX W M) : BW (W.S 0) := ⟨r.w.1 4, r.w.1 3, r.w.2.1 0⟩
theorem RelX.rg2 {W : XW} {M : SS} (r : RelX W M) : RG ((W.tk 2 0).S 2) (thkF M) (nI 0) (M 0 16) := by
  refine r.rg.ag ?_
  show AgX (W.S 0) (upN W.S 2 _ 2)
  rw [upN_s]
  exact takF_ag (r.w.1 3).2 (r.w.2.1 0).2
def fz0 (M : SS) (k : Nat) : Int32 := if k = 0 then M 0 16 else 0
theorem x_size : CtS mX0_size (DEP + 12) (xW2 (fun (M : SS) c w W => RelX W M) (fun (M : SS) c w W v W' => ((iscM M c = true ∧ isInB w 0 60 = true) ∧ SameX W W' ∧ ∀ S1, GrwsR (W.Ls 0) (M 0 16) (gN w) (thkF M) S1 → v = S1 18 (gN c)) ∨ (¬ (iscM M c = true ∧ isInB w 0 60 = true) ∧ v = -1 ∧ W' = W))) := by
  intro l G d hd as h z Q hs
  match as, hs with
  | [.ref b, .int c, .int w], hs =>
    obtain ⟨W, M, hx, hp, hs⟩ := hs
    replace hp : RelX W M := hp
    replace hs : ∀ v W' h', (((iscM M c = true ∧ isInB w 0 60 = true) ∧ SameX W W' ∧ ∀ S1, GrwsR (W.Ls 0) (M 0 16) (gN w) (thkF M) S1 → v = S1 18 (gN c)) ∨ (¬ (iscM M c = true ∧ isInB w 0 60 = true) ∧ v = -1 ∧ W' = W)) → IsX G b W' h' → FrX b h h' → Q (some (.int v)) h' := hs
    have hf : FrX b h h := FrX.rf
    refine Ct.of rfl (Nat.le_of_ble_eq_true rfl) rfl ?_
    have eI : iscM M c = capB (W.S 0) c := by
      unfold iscM capB
      rw [hp.cell]
      by_cases hcl : isCellB (W.S 0) c = true
      · obtain ⟨j, hj, rfl⟩ := isCellM_lt hp.sq (by rw [hp.cell]; exact hcl)
        rw [hcl, gN_nI (by omega)]
        have h9 := hp.cap hj
        unfold capB at h9
        rw [hcl] at h9
        rw [Bool.true_and, Bool.true_and, ← h9]
        rfl
      · rw [Bool.not_eq_true] at hcl
        rw [hcl, Bool.false_and, Bool.false_and]
    refine X.w wkX0_size (fcons (ceV c_goesOn moGoes ckX0_253 rfl rcGoes (by omega) rfl) (fcons (ceV c_takes moTakes ckX0_250 rfl rcTakes (by omega) rfl) (fcons (ceS c_isIn mo3 ckX0_50 (by omega) rfl) (fcons (ceV c_hasCap moW1 ckX0_168 rfl rcW1 (by omega) rfl) fnil)))) [23] 13 rfl ?_
    refine gF (by first | assumption | exact hx.obj | exact hx.bk | exact hx.rs | exact hx.sp | exact hx.tp | exact hx.w0.obj | exact hx.w0.arr _ rfl) ?_
    refine Exists.intro _ (Exists.intro _ (And.intro hx.w0 ?_))
    refine And.intro (fun b8 => ?_) (fun b8 => ?_)
    · simp only [cP, cN, bI_0, Bool.not_eq_false, lt_nle, Decidable.not_not] at b8
      exact And.intro (hs _ _ _ (Or.inr ⟨fun q => absurd (b8.symm.trans (eI.symm.trans q.1)) (by decide), rfl, rfl⟩) hx hf) rfl
    · simp only [cP, cN, bI_0, Bool.not_eq_false, lt_nle, Decidable.not_not] at b8
      refine And.intro (fun b18 => ?_) (fun b18 => ?_)
      · simp only [cP, cN, bI_0, Bool.not_eq_false, lt_nle, Decidable.not_not] at b18
        have hcap := b8
        have hw60 := b18
        obtain ⟨j, hj, rfl⟩ : ∃ j, j < 64 ∧ c = nI j := by
          have h9 := b8
          unfold capB at h9
          rw [Bool.and_eq_true] at h9
          exact isCellM_lt hp.sq (by rw [hp.cell]; exact h9.1)
        obtain ⟨kw, -, hkw, rfl⟩ := isInB_nI (a := 0) (b := 60) (by decide) b18 (by decide)
        have egw : gN (nI kw) = kw := gN_nI (by omega)
        have hwn : nI kw = nI (gN (nI kw)) := by rw [egw]
        have hg60 : gN (nI kw) ≤ 60 := by rw [egw]; exact hkw
        generalize nI kw = w at hs hw60 hwn hg60
        have hcm : ∀ (n : Nat) S1, GrwsR (W.Ls 0) (M 0 16) n (thkF M) S1 → capM S1 j = true := by
          intro n
          induction n with
          | zero =>
            intro S1 hG
            rw [show S1 = thkF M from hG]
            show capM M j = true
            rw [← hp.cap hj]; exact hcap
          | succ n ih =>
            intro S1 hG
            obtain ⟨S0, hG0, hG1, -⟩ := hG
            have h9 := ih S0 hG0
            unfold capM at h9 ⊢
            rw [hG1 1 rfl]; exact h9
        replace hcm := hcm (gN w)
        have loop : ∀ (n c : Nat) (i : Int32)  (W1 : XW) (h1 : AH) , c + n = gN w → i = nI c → (SameX W W1) → (W1.Ls 2 = W.Ls 0) → (∀ S1, GrwsR (W.Ls 0) (M 0 16) c (thkF M) S1 → RG (W1.S 2) S1 (nI c) (fz0 M c) ∧ DmpO S1) → (IsX G b W1 h1) → (FrX b h h1) → X l G mX0_size (rmK d 0 0) (TGm G (fun v h' z' => Q v h' ∧ z' = z) 0 0) 0 0 36 [(0, .ref b), (1, .int (nI j)), (2, .int w), (3, .int i)] [] h1 z := by
          intro  n
          induction n using Nat.strongRecOn with
          | _ n ih =>
          intro c i  W1 h1 hc hi hS hL hR hx hf
          subst hi
          refine X.w wkX0_size (fcons (ceV c_goesOn moGoes ckX0_253 rfl rcGoes (by omega) rfl) (fcons (ceV c_takes moTakes ckX0_250 rfl rcTakes (by omega) rfl) (fcons (ceS c_isIn mo3 ckX0_50 (by omega) rfl) (fcons (ceV c_hasCap moW1 ckX0_168 rfl rcW1 (by omega) rfl) fnil)))) [36] 10 rfl ?_
          refine And.intro (fun b38 => ?_) (fun b38 => ?_)
          · simp only [cP, cN, bI_0, Bool.not_eq_false, lt_nle, Decidable.not_not] at b38
            have hc2 : gN w ≤ c := (le64 (by omega) (by omega)).mp (hwn ▸ b38)
            obtain rfl : c = gN w := by omega
            refine gF (by first | assumption | exact hx.w2.obj | exact hx.w2.arr _ rfl | exact hx.obj | exact hx.bk | exact hx.rs | exact hx.sp | exact hx.tp | exact hx.w0.obj | exact hx.w0.arr _ rfl) ?_
            refine gF (by first | assumption | exact hx.w2.obj | exact hx.w2.arr _ rfl | exact hx.obj | exact hx.bk | exact hx.rs | exact hx.sp | exact hx.tp | exact hx.w0.obj | exact hx.w0.arr _ rfl) ?_
            refine gA (by first | assumption | exact hx.w2.obj | exact hx.w2.arr _ rfl | exact hx.obj | exact hx.bk | exact hx.rs | exact hx.sp | exact hx.tp | exact hx.w0.obj | exact hx.w0.arr _ rfl) (by first | exact ixN (by omega) (by decide) | exact ixz (by omega) (by decide)) ?_
            refine And.intro (hs _ _ _ (Or.inl ⟨⟨by rw [eI]; exact hcap, hw60⟩, hS, fun S1 hG => ?_⟩) hx hf) rfl
            obtain ⟨r1, r2⟩ := hR S1 hG
            rw [gN_nI (by omega)]
            refine ((r1.2.2.1 j hj ?_).1).symm
            rw [hcm S1 hG]
          · simp only [cP, cN, bI_0, Bool.not_eq_false, lt_nle, Decidable.not_not] at b38
            have hc2 : c < gN w := nle64 (k := gN w) (hwn ▸ b38) (by omega) (by omega)
            refine gF (by first | assumption | exact hx.w2.obj | exact hx.w2.arr _ rfl | exact hx.obj | exact hx.bk | exact hx.rs | exact hx.sp | exact hx.tp | exact hx.w0.obj | exact hx.w0.arr _ rfl) ?_
            refine Exists.intro _ (Exists.intro _ (Exists.intro _ (And.intro hx.w2 (And.intro (hx.lawF (j := 2) (by decide)) ?_))))
            intro x45 h45 hw45 hf45
            have hf := hf.w (j := 2) (by decide) hf45
            have hx := hx.wood (j := 2) (by decide) hw45 hf45
            refine ih (n - 1) (by omega) (c + 1) _ _ _ (by omega) (nI_1 c) hS.uS hL ?_ hx hf
            intro S1 hG
            obtain ⟨S0, hG0, hG1⟩ := hG
            obtain ⟨r1, r2⟩ := hR S0 hG0
            rw [hL]
            have h9 := r1.step (x := x45) (by omega) r2 hp.wf hG1
            rw [uS_s]
            refine ⟨?_, h9.2⟩
            show RG _ S1 (nI (c + 1)) 0
            exact h9.1
        refine X.w wkX0_size (fcons (ceV c_goesOn moGoes ckX0_253 rfl rcGoes (by omega) rfl) (fcons (ceV c_takes moTakes ckX0_250 rfl rcTakes (by omega) rfl) (fcons (ceS c_isIn mo3 ckX0_50 (by omega) rfl) (fcons (ceV c_hasCap moW1 ckX0_168 rfl rcW1 (by omega) rfl) fnil)))) [36] 9 rfl ?_
        refine gF (by first | assumption | exact hx.w2.obj | exact hx.obj | exact hx.bk | exact hx.rs | exact hx.sp | exact hx.tp | exact hx.w0.obj | exact hx.w0.arr _ rfl) ?_
        refine gF (by first | assumption | exact hx.w2.obj | exact hx.obj | exact hx.bk | exact hx.rs | exact hx.sp | exact hx.tp | exact hx.w0.obj | exact hx.w0.arr _ rfl) ?_
        refine Exists.intro _ (Exists.intro _ (Exists.intro _ (Exists.intro _ (Exists.intro _ (Exists.intro _ (Exists.intro _ (And.intro (hx.wd 2 (by decide)) (And.intro (hx.wd 0 (by decide)) (And.intro (ap_w (by decide)) (And.intro hp.bw.1.1 (And.intro hp.bw.1.2 (And.intro hp.bw.2.1.1 (And.intro hp.bw.2.1.2 (And.intro hp.bw.2.2.1 (And.intro hp.bw.2.2.2 ?_)))))))))))))))
        intro h31 hw31 hf31
        have hf := hf.w (j := 2) (by decide) hf31
        have hx := hx.woodL (j := 2) (by decide) hw31 hf31 (hx.lw 0 (by decide))
        exact loop (gN w) 0 _ _ _ (by omega) rfl (SameX.tk (W := W)) tk_Ls (fun S1 hG => by rw [show S1 = thkF M from hG]; exact ⟨hp.rg2, hp.dmp⟩) hx hf
      · simp only [cP, cN, bI_0, Bool.not_eq_false, lt_nle, Decidable.not_not] at b18
        exact And.intro (hs _ _ _ (Or.inr ⟨fun q => absurd (b18.symm.trans q.2) (by decide), rfl, rfl⟩) hx hf) rfl
def szX (S : SS) : Nat → Int32 := foldN (fun c => capB S (nI c)) (fun c x => x + S 3 c) 0
theorem RG.sz {S M : SS} {y fz : Int32} (r : RG S M y fz) : szsM M = szX S 64 := by
  unfold szsM szX
  refine foldN_congr (fun k hk => r.1 k hk) (fun k hk h x => ?_)
  show x + M 18 k = x + S 3 k
  rw [(r.2.2.1 k hk h).1]
theorem x_full : CtS mX0_full (DEP + 12) (xW1 (fun (M : SS) u W => RelX W M) (fun (M : SS) u W v W' => (u < 0 ∧ v = -1 ∧ W' = W) ∨ (¬ u < 0 ∧ SameX W W' ∧ ∀ r S', FulR (W.Ls 0) (M 0 16) u 61 0 (thkF M) r S' → v = r))) := by
  intro l G d hd as h z Q hs
  match as, hs with
  | [.ref b, .int u], hs =>
    obtain ⟨W, M, hx, hp, hs⟩ := hs
    replace hp : RelX W M := hp
    replace hs : ∀ v W' h', ((u < 0 ∧ v = -1 ∧ W' = W) ∨ (¬ u < 0 ∧ SameX W W' ∧ ∀ r S', FulR (W.Ls 0) (M 0 16) u 61 0 (thkF M) r S' → v = r)) → IsX G b W' h' → FrX b h h' → Q (some (.int v)) h' := hs
    have hf : FrX b h h := FrX.rf
    refine Ct.of rfl (Nat.le_of_ble_eq_true rfl) rfl ?_
    refine X.w wkX0_full (fcons (ceV c_goesOn moGoes ckX0_253 rfl rcGoes (by omega) rfl) (fcons (ceV c_hasCap moW1 ckX0_168 rfl rcW1 (by omega) rfl) (fcons (ceV c_takes moTakes ckX0_250 rfl rcTakes (by omega) rfl) fnil))) [6] 5 rfl ?_
    refine And.intro (fun b1 => ?_) (fun b1 => ?_)
    · simp only [cP, cN, bI_0, Bool.not_eq_false, lt_nle, Decidable.not_not] at b1
      have hu0 : ¬ u < 0 := by rw [Int32.not_lt]; exact b1
      have loop : ∀ (n c : Nat) (i : Int32)  (W1 : XW) (h1 : AH) , c + n = 61 → i = nI c → (SameX W W1) → (W1.Ls 2 = W.Ls 0) → (∀ r S', FulR (W.Ls 0) (M 0 16) u 61 0 (thkF M) r S' → ∃ S1, RG (W1.S 2) S1 (nI c) (fz0 M c) ∧ DmpO S1 ∧ FulR (W.Ls 0) (M 0 16) u (61 - c) c S1 r S') → (IsX G b W1 h1) → (FrX b h h1) → X l G mX0_full (rmK d 0 0) (TGm G (fun v h' z' => Q v h' ∧ z' = z) 0 0) 0 0 19 [(0, .ref b), (1, .int u), (2, .int i)] [] h1 z := by
        intro  n
        induction n using Nat.strongRecOn with
        | _ n ih =>
        intro c i  W1 h1 hc hi hS hL hR hx hf
        subst hi
        refine X.w wkX0_full (fcons (ceV c_goesOn moGoes ckX0_253 rfl rcGoes (by omega) rfl) (fcons (ceV c_hasCap moW1 ckX0_168 rfl rcW1 (by omega) rfl) (fcons (ceV c_takes moTakes ckX0_250 rfl rcTakes (by omega) rfl) fnil))) [30] 9 rfl ?_
        refine And.intro (fun b22 => ?_) (fun b22 => ?_)
        · simp only [cP, cN, bI_0, Bool.not_eq_false, lt_nle, Decidable.not_not] at b22
          have hc2 : 61 ≤ c := by
            rcases Nat.lt_or_ge c 61 with q | q
            · exact absurd (show nI c ≤ 60 from (nI_leI (b := 60) (by omega) (by decide)).mpr (by omega)) b22
            · exact q
          obtain rfl : c = 61 := by omega
          refine And.intro (hs _ _ _ (Or.inr ⟨hu0, hS, fun r S' hF => ?_⟩) hx hf) rfl
          obtain ⟨S1, -, -, h9⟩ := hR r S' hF
          exact h9.1.symm
        · simp only [cP, cN, bI_0, Bool.not_eq_false, lt_nle, Decidable.not_not] at b22
          have hc2 : c < 61 := by
            have h9 := (nI_leI (b := 60) (by omega) (by decide)).mp b22
            omega
          have out : ∀ (v : Int32), v = szX (W1.S 2) 64 → X l G mX0_full (rmK d 0 0) (TGm G (fun v h' z' => Q v h' ∧ z' = z) 0 0) 0 0 72 [(0, .ref b), (1, .int u), (2, .int (nI c)), (3, .int v)] [] h1 z := by
            intro v hv
            have e61 : 61 - c = (60 - c) + 1 := by omega
            refine X.w wkX0_full (fcons (ceV c_goesOn moGoes ckX0_253 rfl rcGoes (by omega) rfl) (fcons (ceV c_hasCap moW1 ckX0_168 rfl rcW1 (by omega) rfl) (fcons (ceV c_takes moTakes ckX0_250 rfl rcTakes (by omega) rfl) fnil))) [19] 10 rfl ?_
            refine And.intro (fun b74 => ?_) (fun b74 => ?_)
            · simp only [cP, cN, bI_0, Bool.not_eq_false, lt_nle, Decidable.not_not] at b74
              refine gF (by first | assumption | exact hx.w2.obj | exact hx.w2.arr _ rfl | exact hx.obj | exact hx.bk | exact hx.rs | exact hx.sp | exact hx.tp | exact hx.w0.obj | exact hx.w0.arr _ rfl) ?_
              refine Exists.intro _ (Exists.intro _ (Exists.intro _ (And.intro hx.w2 (And.intro (hx.lawF (j := 2) (by decide)) ?_))))
              intro x83 h83 hw83 hf83
              have hf := hf.w (j := 2) (by decide) hf83
              have hx := hx.wood (j := 2) (by decide) hw83 hf83
              refine X.cut [(0, .ref b), (1, .int u), (2, .int (nI c + 1))] [(3, .int v)] rfl ?_
              refine ih (n - 1) (by omega) (c + 1) _ _ _ (by omega) (nI_1 c) hS.uS hL ?_ hx hf
              intro r S' hF
              obtain ⟨S1, r1, r2, h9⟩ := hR r S' hF
              rw [e61] at h9
              rcases h9 with ⟨h8, -⟩ | ⟨-, S2, h8, h7⟩
              · exact absurd (by rw [r1.sz, ← hv] at h8; exact h8) b74
              · have h6 := r1.step (x := x83) (by omega) r2 hp.wf h8
                refine ⟨S2, ?_, h6.2, by rw [show 61 - (c + 1) = 60 - c from by omega]; exact h7⟩
                rw [hL, uS_s]
                exact h6.1
            · simp only [cP, cN, bI_0, Bool.not_eq_false, lt_nle, Decidable.not_not] at b74
              refine And.intro (hs _ _ _ (Or.inr ⟨hu0, hS, fun r S' hF => ?_⟩) hx hf) rfl
              obtain ⟨S1, r1, -, h9⟩ := hR r S' hF
              rw [e61] at h9
              rcases h9 with ⟨-, h8, -⟩ | ⟨h8, -⟩
              · exact h8.symm
              · exact absurd (by rw [r1.sz, ← hv]; exact b74) h8
          have inn : ∀ (n e : Nat) (i : Int32) (v : Int32), e + n = 64 → i = nI e → (v = szX (W1.S 2) e) → X l G mX0_full (rmK d 0 0) (TGm G (fun v h' z' => Q v h' ∧ z' = z) 0 0) 0 0 30 [(0, .ref b), (1, .int u), (2, .int (nI c)), (3, .int v), (4, .int i)] [] h1 z := by
            intro  n
            induction n using Nat.strongRecOn with
            | _ n ih2 =>
            intro e i v  hc hi hv
            subst hi
            refine X.w wkX0_full (fcons (ceV c_goesOn moGoes ckX0_253 rfl rcGoes (by omega) rfl) (fcons (ceV c_hasCap moW1 ckX0_168 rfl rcW1 (by omega) rfl) (fcons (ceV c_takes moTakes ckX0_250 rfl rcTakes (by omega) rfl) fnil))) [30, 72] 21 rfl ?_
            refine And.intro (fun b34 => ?_) (fun b34 => ?_)
            · simp only [cP, cN, bI_0, Bool.not_eq_false, lt_nle, Decidable.not_not] at b34
              have hc4 : 64 ≤ e := (le64 (by omega) (by omega)).mp b34
              obtain rfl : e = 64 := by omega
              refine X.cut [(0, .ref b), (1, .int u), (2, .int (nI c)), (3, .int v)] [(4, .int (nI 64))] rfl ?_
              exact out v hv
            · simp only [cP, cN, bI_0, Bool.not_eq_false, lt_nle, Decidable.not_not] at b34
              have hc4 : e < 64 := nle64 b34 (by omega) (by omega)
              refine gF (by first | assumption | exact hx.w2.obj | exact hx.w2.arr _ rfl | exact hx.obj | exact hx.bk | exact hx.rs | exact hx.sp | exact hx.tp | exact hx.w0.obj | exact hx.w0.arr _ rfl) ?_
              refine Exists.intro _ (Exists.intro _ (And.intro hx.w2 ?_))
              refine And.intro (fun b47 => ?_) (fun b47 => ?_)
              · simp only [cP, cN, bI_0, Bool.not_eq_false, lt_nle, Decidable.not_not] at b47
                refine ih2 (n - 1) (by omega) (e + 1) _ _ (by omega) (nI_1 e) ?_
                rw [Int32.add_zero]
                exact foldN_sf hv b47
              · simp only [cP, cN, bI_0, Bool.not_eq_false, lt_nle, Decidable.not_not] at b47
                refine gF (by first | assumption | exact hx.w2.obj | exact hx.w2.arr _ rfl | exact hx.obj | exact hx.bk | exact hx.rs | exact hx.sp | exact hx.tp | exact hx.w0.obj | exact hx.w0.arr _ rfl) ?_
                refine gF (by first | assumption | exact hx.w2.obj | exact hx.w2.arr _ rfl | exact hx.obj | exact hx.bk | exact hx.rs | exact hx.sp | exact hx.tp | exact hx.w0.obj | exact hx.w0.arr _ rfl) ?_
                refine gA (by first | assumption | exact hx.w2.obj | exact hx.w2.arr _ rfl | exact hx.obj | exact hx.bk | exact hx.rs | exact hx.sp | exact hx.tp | exact hx.w0.obj | exact hx.w0.arr _ rfl) (by first | exact ixN (by omega) (by decide) | exact ixz (by omega) (by decide)) ?_
                exact ih2 (n - 1) (by omega) (e + 1) _ _ (by omega) (nI_1 e) (foldN_st hv b47 rfl)
          exact inn 64 0 _ _ (by decide) rfl rfl
      refine X.w wkX0_full (fcons (ceV c_goesOn moGoes ckX0_253 rfl rcGoes (by omega) rfl) (fcons (ceV c_hasCap moW1 ckX0_168 rfl rcW1 (by omega) rfl) (fcons (ceV c_takes moTakes ckX0_250 rfl rcTakes (by omega) rfl) fnil))) [19] 9 rfl ?_
      refine gF (by first | assumption | exact hx.w2.obj | exact hx.obj | exact hx.bk | exact hx.rs | exact hx.sp | exact hx.tp | exact hx.w0.obj | exact hx.w0.arr _ rfl) ?_
      refine gF (by first | assumption | exact hx.w2.obj | exact hx.obj | exact hx.bk | exact hx.rs | exact hx.sp | exact hx.tp | exact hx.w0.obj | exact hx.w0.arr _ rfl) ?_
      refine Exists.intro _ (Exists.intro _ (Exists.intro _ (Exists.intro _ (Exists.intro _ (Exists.intro _ (Exists.intro _ (And.intro (hx.wd 2 (by decide)) (And.intro (hx.wd 0 (by decide)) (And.intro (ap_w (by decide)) (And.intro hp.bw.1.1 (And.intro hp.bw.1.2 (And.intro hp.bw.2.1.1 (And.intro hp.bw.2.1.2 (And.intro hp.bw.2.2.1 (And.intro hp.bw.2.2.2 ?_)))))))))))))))
      intro h14 hw14 hf14
      have hf := hf.w (j := 2) (by decide) hf14
      have hx := hx.woodL (j := 2) (by decide) hw14 hf14 (hx.lw 0 (by decide))
      exact loop 61 0 _ _ _ (by decide) rfl (SameX.tk (W := W)) tk_Ls (fun r S' hF => ⟨thkF M, hp.rg2, hp.dmp, hF⟩) hx hf
    · simp only [cP, cN, bI_0, Bool.not_eq_false, lt_nle, Decidable.not_not] at b1
      exact And.intro (hs _ _ _ (Or.inl ⟨by rw [lt_nle]; exact b1, rfl, rfl⟩) hx hf) rfl
