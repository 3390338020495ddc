set_option maxRecDepth 100000
/-! THE READER: one -/
theorem NT.not {h2 : AH} {z z2 tm : Nat} {cd : Code9} (w2 : NT h2 (z + 1) z2 tm cd) (hz2 : z + 1 ≤ z2) : NT (ahU h2 z (.inr (9, [.ref tm]))) z z2 z (cd ++ [(9, 0)]) := by
  have g2 : IsTm (cutz z z2 (ahU h2 z (.inr (9, [.ref tm])))) cd.length tm cd := by
    refine IsTm.mh (fun a e q => ?_) w2
    unfold cutz at q ⊢
    by_cases g : z + 1 ≤ a ∧ a < z2
    · rw [if_pos g] at q
      rw [if_pos (by omega), ahU_n (by omega)]
      exact q
    · rw [if_neg g] at q
      cases q
  unfold NT
  rw [show (cd ++ [((9 : Nat), (0 : Int32))] : Code9).length = cd.length + 1 from by simp]
  refine Or.inr (Or.inr (Or.inl ⟨tm, cd, ?_, g2, rfl⟩))
  unfold cutz
  rw [if_pos (by omega), ahU_s]
theorem r_one {f o D : Nat} (hD : 13 ≤ D) (ho8 : o ≤ 8) (hnot : o < 8 → ∀ f1, f1 < f → PCo mX4_one f1 0 1 (o + 1) D) (hany : o < 8 → ∀ f1, f1 < f → PCo mX4_any f1 3 3 (o + 1) D) : PCo mX4_one f 0 1 o (D + 1) := by
  intro l G d r z k c F h P PX hl hd hr hk hz ho hfu hp
  match f, hfu, hnot, hany, hp with
  | 0, hfu, _, _, _ => exact absurd hfu (by omega)
  | f + 1, hfu, hnot, hany, hp =>
  have hkn : k ≤ c.2.1 := hk.2.2.2.2
  obtain ⟨R, hR⟩ : ∃ R, R = pC c.2.2.1 c.2.1 (f + 1) 0 o [] k := ⟨_, rfl⟩
  rw [← hR] at hp ⊢
  have hR2 := hR
  unfold pC at hR2
  refine CtX.of rfl (Nat.le_of_ble_eq_true rfl) rfl ?_
  by_cases h6 : wrd c.2.2.1 c.2.1 k 4 = true
  · rw [if_pos h6] at hR2
    have ha := wrd_adv hkn h6
    have e6 : F 2 = 6 := hk.tc.not_.mpr h6
    have hone : 1 ≤ cC c.2.1 k R ∧ 8 ≤ cS c.2.1 k R := by
      by_cases e8 : o = 8
      · rw [if_pos e8] at hR2
        rw [hR2]
        exact ⟨by show 1 ≤ 2 * (c.2.1 - k) + 2; omega, by show 8 ≤ 12 * (c.2.1 - k) + 12; omega⟩
      · have := cC_ge (n := c.2.1) (k0 := k) (j := k + 1) (R := R) (by omega) (fun d kf q => (pC_ge (f + 1) 0 o [] k hkn d kf (hR.symm.trans q)).2.2 (Or.inl rfl))
        exact ⟨by omega, by omega⟩
    refine X.walk wkX4_one fnil (RetOk.x (Nat.zero_le _) (Nat.zero_le _)) ⟨Nat.zero_le _, Nat.zero_le _⟩ [9, 31, 34] 12 rfl ?_
    refine gF hr.obj ?_
    refine And.intro (fun b6 => ?_) (fun b6 => ?_)
    rotate_left 1
    · simp only [cP, cN, bI_0, Bool.not_eq_false, lt_nle, Decidable.not_not] at b6
      exact absurd e6 b6
    refine gF hr.obj ?_
    refine And.intro (fun b24 => ?_) (fun b24 => ?_)
    · simp only [cP, cN, bI_0, Bool.not_eq_false, lt_nle, Decidable.not_not] at b24
      exact absurd e6 b24
    refine X.callVX (d' := d - 1) (As := []) (rest := []) ckX4_142 q612 pkX4_one rfl (r_opens (d := d - 1) (P := fun v h' z' => v = none ∧ z' = z ∧ ¬ o = 8 ∧ ∃ F', AtT c F' (tN c.2.2.1 c.2.1 k) ∧ F' 4 = nI (o + 1) ∧ IsRd G r c F' h' ∧ FrR r h h') (PX := fun q h' z' => o = 8 ∧ FlR r z h (3, tS c.2.2.1 c.2.1 k) q h') hl (by omega) hr hk ho ho8 (fun q F' h' g1 g2 g3 g4 => ⟨rfl, rfl, q, F', g1, g2, g3, g4⟩) (fun q fs hfs => ⟨q, FrN.al (Nat.le_refl _), fs, hfs, ahU_s⟩)) hr.obj rfl rfl rfl (Fit.K (by omega) (by decide) (by omega) (by omega)) (Nat.le_of_ble_eq_true rfl) ?_ ?_
    rotate_left 1
    · intro q h2 z2 fs hq hfs
      obtain ⟨e8, hfl⟩ := hq
      rw [if_pos e8] at hR2
      exact XThr.out (hp.2 _ hR2 q h2 z2 hfl) hfs (by omega) (by omega)
    intro v h2 z2 hq
    obtain ⟨rfl, rfl, n8, F', g1, g2, g3, g4⟩ := hq
    rw [if_neg n8] at hR2
    have hfit : 2 + cC c.2.1 (tN c.2.2.1 c.2.1 k) (pC c.2.2.1 c.2.1 f 0 (o + 1) [] (tN c.2.2.1 c.2.1 k)) ≤ cC c.2.1 k R ∧ 9 + cS c.2.1 (tN c.2.2.1 c.2.1 k) (pC c.2.2.1 c.2.1 f 0 (o + 1) [] (tN c.2.2.1 c.2.1 k)) ≤ cS c.2.1 k R := by
      cases hu : pC c.2.2.1 c.2.1 f 0 (o + 1) [] (tN c.2.2.1 c.2.1 k) with
      | inl e =>
        rw [hu] at hR2
        rw [hR2]
        exact ⟨by show 2 + (2 * (c.2.1 - tN c.2.2.1 c.2.1 k) + 2) ≤ 2 * (c.2.1 - k) + 2; omega, by show 9 + (12 * (c.2.1 - tN c.2.2.1 c.2.1 k) + 12) ≤ 12 * (c.2.1 - k) + 12; omega⟩
      | inr q =>
        rw [hu] at hR2
        obtain ⟨c2, k3⟩ := q
        have hg := pC_ge (t := c.2.2.1) _ _ _ _ _ ha.2 c2 k3 hu
        rw [hR2]
        exact ⟨by show 2 + 2 * (k3 - tN c.2.2.1 c.2.1 k) ≤ 2 * (k3 - k); omega, by show 9 + 12 * (k3 - tN c.2.2.1 c.2.1 k) ≤ 12 * (k3 - k); omega⟩
    refine X.walk wkX4_one fnil (RetOk.x (by omega) (by omega)) ⟨by show 0 + 1 ≤ cC c.2.1 k R; omega, by show 0 + 8 ≤ cS c.2.1 k R; omega⟩ [41, 55] 2 rfl ?_
    refine And.intro (fun b38 => absurd (show (1 : Int32) = 0 from b38) (by decide)) (fun b38 => ?_)
    refine X.newO (ci := 9) (fs := [.null]) tyX10 pkX4_one rfl in_X10 tyX10_ok q616 q617 q111 rfl (fun j hj => by match j, hj with | 0, _ => rfl) (by show 0 + 1 + 1 ≤ cC c.2.1 k R; omega) (by show 0 + 8 + 1 ≤ cS c.2.1 k R; omega) ?_
    intro h8 e8
    have hr8 : IsRd G r c F' h8 := by rw [e8]; exact g3.al hz
    refine X.walk wkX4_one fnil (RetOk.x (by omega) (by omega)) ⟨by show 0 + 1 + 1 ≤ cC c.2.1 k R; omega, by show 0 + 8 + 1 ≤ cS c.2.1 k R; omega⟩ [46] 2 rfl ?_
    refine X.callVX (d' := d - 1) (As := []) (rest := [.ref z2, .ref z2]) ckX4_139 q608 pkX4_one rfl (hnot (by omega) f (Nat.lt_succ_self f) l G (d - 1) r (z2 + 1) (tN c.2.2.1 c.2.1 k) c F' h8 (fun v h' z' => ∃ cd k3, pC c.2.2.1 c.2.1 f 0 (o + 1) [] (tN c.2.2.1 c.2.1 k) = .inr (cd, k3) ∧ ∃ tm2 F3, v = some (.ref tm2) ∧ TmR G r c F' (z2 + 1) h8 cd k3 tm2 F3 h' z') (fun q h' z' => ∃ e, pC c.2.2.1 c.2.1 f 0 (o + 1) [] (tN c.2.2.1 c.2.1 k) = .inl e ∧ FlR r (z2 + 1) h8 e q h') hl (by omega) hr8 g1 (by omega) g2 (by omega) ⟨fun cd k2 e tm2 F2 h' z' q => ⟨cd, k2, e, tm2, F2, rfl, q⟩, fun e q a h' z' q2 => ⟨e, q, q2⟩⟩) hr8.obj rfl rfl rfl (Fit.K (by omega) (by decide) (by omega) (by omega)) (Nat.le_of_ble_eq_true rfl) ?_ ?_
    rotate_left 1
    · intro q h3 z3 fs hq hfs
      obtain ⟨e, hu, hfl⟩ := hq
      have hRe : R = .inl e := by rw [hu] at hR2; exact hR2
      refine XThr.out ?_ hfs (by omega) (by omega)
      refine hp.2 e hRe q h3 z3 (hfl.up ?_ (by omega))
      rw [e8]
      exact FrN.tr g4.n (FrN.al (Nat.le_refl _))
    intro v h3 z3 hq
    obtain ⟨cd, k3, hu, tm2, F3, rfl, w2⟩ := hq
    rw [hu] at hR2 hfit ⊢
    have ho2 : h3 z2 = some (.inr (9, [.null])) := by rw [w2.2.2.2.1 z2 (by omega) (by omega), e8, ahU_s]
    have hzN : G.2.2.1.size ≤ z2 := by have := hr.N; omega
    refine X.callI (As := [.ref tm2]) (rest := [.ref z2]) ckX4_147 pkX4_one rfl (c_notI (d := d - 1) (P := fun v h' z' => v = none ∧ h' = ahU h3 z2 (.inr (9, [.ref tm2])) ∧ z' = z3) (by omega) hzN ho2 (fun h' e => ⟨rfl, e, rfl⟩)) rfl rfl (Fit.K (by omega) (by decide) (by omega) (by omega)) (Nat.le_of_ble_eq_true rfl) ?_
    intro v9 h17 z17 hq
    obtain ⟨rfl, rfl, rfl⟩ := hq
    have hr17 : IsRd G r c F3 (ahU h3 z2 (.inr (9, [.ref tm2]))) := w2.1.al hz
    refine X.walk wkX4_one fnil (RetOk.x (by omega) (by omega)) ⟨by show 0 + 1 + 1 + _ + 0 ≤ cC c.2.1 k R; omega, by show 0 + 8 + 1 + _ + 0 ≤ cS c.2.1 k R; omega⟩ [64] 12 rfl ?_
    refine And.intro (fun b61 => ?_) (fun b61 => absurd (show (1 : Int32) = 0 from b61) (by decide))
    refine gF hr17.obj ?_
    refine pF0 (okV_W rfl) hr17.obj (Nat.le_of_ble_eq_true rfl) hr17.N ?_
    intro h77 e77
    have hr77 := hr17.u e77 rfl
    have hf77 : FrR r (ahU h3 z2 (.inr (9, [.ref tm2]))) h77 := FrR.rf.u e77
    refine hp.1 _ _ hR2 z2 _ h77 _ ⟨hr77, w2.2.1, ?_, ?_, by have := w2.2.2.2.2.1; omega, ?_⟩
    · show F3 4 - 1 = F 4
      rw [w2.2.2.1, g2, ho, show (1 : Int32) = nI 1 from rfl, pk_sub (by omega), Nat.add_sub_cancel]
    · refine FrN.tr (FrN.tr (g4.n (z := z2)) ?_) (FrN.tr (FrN.tr (w2.2.2.2.1.le (by omega)) (FrN.al (Nat.le_refl _))) hf77.n)
      rw [e8]
      exact FrN.al (Nat.le_refl _)
    · exact (w2.2.2.2.2.2.not w2.2.2.2.2.1).fr (hf77.n) hz.1 (Nat.le_refl _) (Nat.le_refl _)
  · rw [if_neg h6] at hR2
    by_cases h40 : sgn c.2.2.1 c.2.1 k 40 = true
    · rw [if_pos h40] at hR2
      have ha := sgn_adv hkn h40
      have e40 : F 2 = 40 := (hk.tc.sg (c := 40) rfl).mpr h40
      have hone : 1 ≤ cC c.2.1 k R ∧ 8 ≤ cS c.2.1 k R := by
        by_cases e8 : o = 8
        · rw [if_pos e8] at hR2
          rw [hR2]
          exact ⟨by show 1 ≤ 2 * (c.2.1 - k) + 2; omega, by show 8 ≤ 12 * (c.2.1 - k) + 12; omega⟩
        · have := cC_ge (n := c.2.1) (k0 := k) (j := k + 1) (R := R) (by omega) (fun d kf q => (pC_ge (f + 1) 0 o [] k hkn d kf (hR.symm.trans q)).2.2 (Or.inl rfl))
          exact ⟨by omega, by omega⟩
      refine X.walk wkX4_one fnil (RetOk.x (Nat.zero_le _) (Nat.zero_le _)) ⟨Nat.zero_le _, Nat.zero_le _⟩ [82, 27, 34] 15 rfl ?_
      refine gF hr.obj ?_
      refine And.intro (fun b6 => ?_) (fun b6 => ?_)
      · simp only [cP, cN, bI_0, Bool.not_eq_false, lt_nle, Decidable.not_not] at b6
        exact absurd (hk.tc.not_.mp b6) h6
      refine gF hr.obj ?_
      refine And.intro (fun b15 => ?_) (fun b15 => ?_)
      · simp only [cP, cN, bI_0, Bool.not_eq_false, lt_nle, Decidable.not_not] at b15
        exact absurd e40 b15
      refine gF hr.obj ?_
      refine And.intro (fun b24 => ?_) (fun b24 => ?_)
      rotate_left 1
      · simp only [cP, cN, bI_0, Bool.not_eq_false, lt_nle, Decidable.not_not] at b24
        exact absurd (hk.tc.not_.mp b24) h6
      refine X.callVX (d' := d - 1) (As := []) (rest := []) ckX4_142 q612 pkX4_one rfl (r_opens (d := d - 1) (P := fun v h' z' => v = none ∧ z' = z ∧ ¬ o = 8 ∧ ∃ F', AtT c F' (tN c.2.2.1 c.2.1 k) ∧ F' 4 = nI (o + 1) ∧ IsRd G r c F' h' ∧ FrR r h h') (PX := fun q h' z' => o = 8 ∧ FlR r z h (3, tS c.2.2.1 c.2.1 k) q h') hl (by omega) hr hk ho ho8 (fun q F' h' g1 g2 g3 g4 => ⟨rfl, rfl, q, F', g1, g2, g3, g4⟩) (fun q fs hfs => ⟨q, FrN.al (Nat.le_refl _), fs, hfs, ahU_s⟩)) hr.obj rfl rfl rfl (Fit.K (by omega) (by decide) (by omega) (by omega)) (Nat.le_of_ble_eq_true rfl) ?_ ?_
      rotate_left 1
      · intro q h2 z2 fs hq hfs
        obtain ⟨e8, hfl⟩ := hq
        rw [if_pos e8] at hR2
        exact XThr.out (hp.2 _ hR2 q h2 z2 hfl) hfs (by omega) (by omega)
      intro v h2 z2 hq
      obtain ⟨rfl, rfl, n8, F', g1, g2, g3, g4⟩ := hq
      rw [if_neg n8] at hR2
      have hfit : 1 + cC c.2.1 (tN c.2.2.1 c.2.1 k) (pC c.2.2.1 c.2.1 f 3 (o + 1) [] (tN c.2.2.1 c.2.1 k)) ≤ cC c.2.1 k R ∧ 8 + cS c.2.1 (tN c.2.2.1 c.2.1 k) (pC c.2.2.1 c.2.1 f 3 (o + 1) [] (tN c.2.2.1 c.2.1 k)) ≤ cS c.2.1 k R ∧ (∀ c2 k3, pC c.2.2.1 c.2.1 f 3 (o + 1) [] (tN c.2.2.1 c.2.1 k) = .inr (c2, k3) → 1 + 2 * (k3 - tN c.2.2.1 c.2.1 k) + 1 ≤ cC c.2.1 k R ∧ 8 + 12 * (k3 - tN c.2.2.1 c.2.1 k) + 8 ≤ cS c.2.1 k R) := by
        cases hu : pC c.2.2.1 c.2.1 f 3 (o + 1) [] (tN c.2.2.1 c.2.1 k) with
        | inl e =>
          rw [hu] at hR2
          rw [hR2]
          exact ⟨by show 1 + (2 * (c.2.1 - tN c.2.2.1 c.2.1 k) + 2) ≤ 2 * (c.2.1 - k) + 2; omega, by show 8 + (12 * (c.2.1 - tN c.2.2.1 c.2.1 k) + 12) ≤ 12 * (c.2.1 - k) + 12; omega, fun _ _ q => by cases q⟩
        | inr q =>
          rw [hu] at hR2
          obtain ⟨c2, k3⟩ := q
          have hg := pC_ge (t := c.2.2.1) _ _ _ _ _ ha.2 c2 k3 hu
          have g9 : 1 + 2 * (k3 - tN c.2.2.1 c.2.1 k) + 1 ≤ cC c.2.1 k R ∧ 8 + 12 * (k3 - tN c.2.2.1 c.2.1 k) + 8 ≤ cS c.2.1 k R := by
            dsimp only at hR2
            by_cases h41 : sgn c.2.2.1 c.2.1 k3 41 = true
            · rw [if_pos h41] at hR2
              have hb := sgn_adv hg.2.1 h41
              rw [hR2]
              exact ⟨by show _ ≤ 2 * (tN c.2.2.1 c.2.1 k3 - k); omega, by show _ ≤ 12 * (tN c.2.2.1 c.2.1 k3 - k); omega⟩
            · rw [if_neg h41] at hR2
              rw [hR2]
              exact ⟨by show _ ≤ 2 * (c.2.1 - k) + 2; omega, by show _ ≤ 12 * (c.2.1 - k) + 12; omega⟩
          exact ⟨by show 1 + 2 * (k3 - tN c.2.2.1 c.2.1 k) ≤ _; omega, by show 8 + 12 * (k3 - tN c.2.2.1 c.2.1 k) ≤ _; omega, fun _ _ q => by cases q; exact g9⟩
      refine X.walk wkX4_one fnil (RetOk.x (by omega) (by omega)) ⟨by show 0 + 1 ≤ cC c.2.1 k R; omega, by show 0 + 8 ≤ cS c.2.1 k R; omega⟩ [41, 56] 3 rfl ?_
      refine And.intro (fun b38 => ?_) (fun b38 => absurd rfl (show ¬ (0 : Int32) = 0 from b38))
      refine X.callVX (d' := d - 1) (As := []) (rest := []) ckX4_150 q600 pkX4_one rfl (hany (by omega) f (Nat.lt_succ_self f) l G (d - 1) r z2 (tN c.2.2.1 c.2.1 k) c F' h2 (fun v h' z' => ∃ cd k3, pC c.2.2.1 c.2.1 f 3 (o + 1) [] (tN c.2.2.1 c.2.1 k) = .inr (cd, k3) ∧ ∃ tm2 F3, v = some (.ref tm2) ∧ TmR G r c F' z2 h2 cd k3 tm2 F3 h' z') (fun q h' z' => ∃ e, pC c.2.2.1 c.2.1 f 3 (o + 1) [] (tN c.2.2.1 c.2.1 k) = .inl e ∧ FlR r z2 h2 e q h') hl (by omega) g3 g1 hz g2 (by omega) ⟨fun cd k2 e tm2 F2 h' z' q => ⟨cd, k2, e, tm2, F2, rfl, q⟩, fun e q a h' z' q2 => ⟨e, q, q2⟩⟩) g3.obj rfl rfl rfl (Fit.K (by omega) (by decide) (by omega) (by omega)) (Nat.le_of_ble_eq_true rfl) ?_ ?_
      rotate_left 1
      · intro q h3 z3 fs hq hfs
        obtain ⟨e, hu, hfl⟩ := hq
        have hRe : R = .inl e := by rw [hu] at hR2; exact hR2
        exact XThr.out (hp.2 e hRe q h3 z3 (hfl.up g4.n (Nat.le_refl _))) hfs (by omega) (by omega)
      intro v h3 z3 hq
      obtain ⟨cd, k3, hu, tm2, F3, rfl, w2⟩ := hq
      have hft := hfit.2.2 cd k3 hu
      rw [hu] at hR2 ⊢
      dsimp only at hR2
      have hzz := w2.2.2.2.2.1
      refine X.walk wkX4_one fnil (RetOk.x (by show 0 + 1 + 2 * (k3 - tN c.2.2.1 c.2.1 k) ≤ _; omega) (by show 0 + 8 + 12 * (k3 - tN c.2.2.1 c.2.1 k) ≤ _; omega)) ⟨by show 0 + 1 + 2 * (k3 - tN c.2.2.1 c.2.1 k) ≤ cC c.2.1 k R; omega, by show 0 + 8 + 12 * (k3 - tN c.2.2.1 c.2.1 k) ≤ cS c.2.1 k R; omega⟩ [70, 67] 5 rfl ?_
      refine And.intro (fun b61 => absurd rfl (show ¬ (0 : Int32) = 0 from b61)) (fun b61 => ?_)
      refine X.callVX (d' := d - 1) (As := [.int 41]) (rest := []) ckX4_153 q626 pkX4_one rfl (r_must (d := d - 1) (P := fun v h' z' => v = none ∧ z' = z3 ∧ F3 2 = 41 ∧ ∃ F4, AtT c F4 (tN c.2.2.1 c.2.1 k3) ∧ F4 4 = F3 4 ∧ IsRd G r c F4 h' ∧ FrR r h3 h') (PX := fun q h' z' => ¬ F3 2 = 41 ∧ FlR r z3 h3 (1, tS c.2.2.1 c.2.1 k3) q h') hl (by omega) w2.1 w2.2.1 (fun q F' h' g1 g2 g3 g4 => ⟨rfl, rfl, q, F', g1, g2, g3, g4⟩) (fun q fs hfs => ⟨q, FrN.al (Nat.le_refl _), fs, hfs, ahU_s⟩)) w2.1.obj rfl rfl rfl (Fit.K (by omega) (by decide) (by show 0 + 1 + 2 * (k3 - tN c.2.2.1 c.2.1 k) + 1 ≤ _; omega) (by show 0 + 8 + 12 * (k3 - tN c.2.2.1 c.2.1 k) + 8 ≤ _; omega)) (Nat.le_of_ble_eq_true rfl) ?_ ?_
      rotate_left 1
      · intro q h4 z4 fs hq hfs
        obtain ⟨h41, hfl⟩ := hq
        rw [if_neg (show ¬ sgn c.2.2.1 c.2.1 k3 41 = true from fun q => h41 ((w2.2.1.tc.sg (c := 41) rfl).mpr q))] at hR2
        exact XThr.out (hp.2 _ hR2 q h4 z4 (hfl.up (g4.n.tr w2.2.2.2.1) hzz)) hfs (by show 0 + 1 + 2 * (k3 - tN c.2.2.1 c.2.1 k) + 1 ≤ _; omega) (by show 0 + 8 + 12 * (k3 - tN c.2.2.1 c.2.1 k) + 8 ≤ _; omega)
      intro v h4 z4 hq
      obtain ⟨rfl, rfl, h41, F4, a1, a2, a3, a4⟩ := hq
      rw [if_pos (show sgn c.2.2.1 c.2.1 k3 41 = true from (w2.2.1.tc.sg (c := 41) rfl).mp h41)] at hR2
      refine X.walk wkX4_one fnil (RetOk.x (by show 0 + 1 + 2 * (k3 - tN c.2.2.1 c.2.1 k) + 1 ≤ _; omega) (by show 0 + 8 + 12 * (k3 - tN c.2.2.1 c.2.1 k) + 8 ≤ _; omega)) ⟨by show 0 + 1 + 2 * (k3 - tN c.2.2.1 c.2.1 k) + 1 ≤ cC c.2.1 k R; omega, by show 0 + 8 + 12 * (k3 - tN c.2.2.1 c.2.1 k) + 8 ≤ cS c.2.1 k R; omega⟩ [] 8 rfl ?_
      refine gF a3.obj ?_
      refine pF0 (okV_W rfl) a3.obj (Nat.le_of_ble_eq_true rfl) a3.N ?_
      intro h77 e77
      have hr77 := a3.u e77 rfl
      have hf77 : FrR r h3 h77 := a4.tr (FrR.rf.u e77)
      refine hp.1 _ _ hR2 tm2 _ h77 _ ⟨hr77, a1, ?_, ?_, hzz, ?_⟩
      · show F4 4 - 1 = F 4
        rw [a2, w2.2.2.1, g2, ho, show (1 : Int32) = nI 1 from rfl, pk_sub (by omega), Nat.add_sub_cancel]
      · exact FrN.tr (FrN.tr (g4.n) w2.2.2.2.1) hf77.n
      · exact w2.2.2.2.2.2.fr (hf77.n) hz.1 (Nat.le_refl _) (Nat.le_refl _)
    · rw [if_neg h40] at hR2
      refine X.walk wkX4_one fnil (RetOk.x (Nat.zero_le _) (Nat.zero_le _)) ⟨Nat.zero_le _, Nat.zero_le _⟩ [18, 82] 9 rfl ?_
      refine gF hr.obj ?_
      refine And.intro (fun b6 => ?_) (fun b6 => ?_)
      · simp only [cP, cN, bI_0, Bool.not_eq_false, lt_nle, Decidable.not_not] at b6
        exact absurd (hk.tc.not_.mp b6) h6
      · refine gF hr.obj ?_
        refine And.intro (fun b15 => ?_) (fun b15 => ?_)
        · exact r_oneC hl (by omega) hr hk hz hR2 hp
        · simp only [cP, cN, bI_0, Bool.not_eq_false, lt_nle, Decidable.not_not] at b15
          exact absurd ((hk.tc.sg (c := 40) rfl).mp b15) h40
