set_option maxRecDepth 100000
/-! THE READER: all, any -/
theorem r_all {f o D : Nat} (hD : 9 ≤ D) (hsub : ∀ f1, f1 < f → PCo mX4_one f1 0 1 o D) : PCo mX4_all f 4 2 o (D + 1) := by
  intro l G d r z k c F h P PX hl hd hr hk hz ho hfu hp
  match f, hfu, hsub, hp with
  | 0, hfu, _, _ => exact absurd hfu (by omega)
  | f + 1, hfu, hsub, hp =>
  have hkn : k ≤ c.2.1 := hk.2.2.2.2
  obtain ⟨R, hR⟩ : ∃ R, R = pC c.2.2.1 c.2.1 (f + 1) 4 o [] k := ⟨_, rfl⟩
  rw [← hR] at hp ⊢
  have hR2 := hR
  unfold pC at hR2
  refine CtX.of rfl (Nat.le_of_ble_eq_true rfl) rfl ?_
  refine X.walk wkX4_all fnil RetOk.no ⟨Nat.zero_le _, Nat.zero_le _⟩ [1] 1 rfl ?_
  have hfit : 0 + cC c.2.1 k (pC c.2.2.1 c.2.1 f 0 o [] k) ≤ cC c.2.1 k R ∧ 0 + cS c.2.1 k (pC c.2.2.1 c.2.1 f 0 o [] k) ≤ cS c.2.1 k R := by
    cases hu : pC c.2.2.1 c.2.1 f 0 o [] k with
    | inl e =>
      rw [hu] at hR2
      rw [hR2, Nat.zero_add, Nat.zero_add]
      exact ⟨Nat.le_refl _, Nat.le_refl _⟩
    | inr q =>
      rw [hu] at hR2
      obtain ⟨c2, k3⟩ := q
      have hg := pC_ge (t := c.2.2.1) _ _ _ _ _ hkn c2 k3 hu
      have := cC_ge (n := c.2.1) (k0 := k) (j := k3) (R := R) hg.2.1 (fun d kf q => (pC_ge _ _ _ _ _ hg.2.1 d kf (hR2.symm.trans q)).1)
      exact ⟨by show 0 + 2 * (k3 - k) ≤ _; omega, by show 0 + 12 * (k3 - k) ≤ _; omega⟩
  refine X.callVX (d' := d - 1) (As := []) (rest := []) ckX4_139 q608 pkX4_all rfl (hsub f (Nat.lt_succ_self f) l G (d - 1) r z k c F h (fun v h' z' => ∃ cd k2, pC c.2.2.1 c.2.1 f 0 o [] k = .inr (cd, k2) ∧ ∃ tm2 F2, v = some (.ref tm2) ∧ TmR G r c F z h cd k2 tm2 F2 h' z') (fun q h' z' => ∃ e, pC c.2.2.1 c.2.1 f 0 o [] k = .inl e ∧ FlR r z h e q h') hl (by omega) hr hk hz ho (by omega) ⟨fun cd k2 e tm2 F2 h' z' q => ⟨cd, k2, e, tm2, F2, rfl, q⟩, fun e q a h' z' q2 => ⟨e, q, q2⟩⟩) hr.obj rfl rfl rfl (Fit.K (by omega) (by decide) hfit.1 hfit.2) (Nat.le_of_ble_eq_true rfl) ?_ ?_
  · intro v h2 z2 hq
    obtain ⟨cd, k2, hu, tm2, F2, rfl, w2⟩ := hq
    rw [hu] at hR2 hfit ⊢
    have hg := pC_ge (t := c.2.2.1) _ _ _ _ _ hkn cd k2 hu
    refine X.walk wkX4_all fnil RetOk.no ⟨hfit.1, hfit.2⟩ [5] 1 rfl ?_
    have h9 := hg.2.2 (by omega)
    exact r_allL (D := D) (by omega) (by omega) ho hl hz hp f (fun f1 h1 => hsub f1 (by omega)) k2 cd tm2 F2 h2 z2 _ _ hR2.symm (by omega) (by omega) (by show 0 + 2 * (k2 - k) ≤ _; omega) (by show 0 + 12 * (k2 - k) ≤ _; omega) w2
  · intro q h2 z2 fs hq hfs
    obtain ⟨e, hu, hfl⟩ := hq
    have hRe : R = .inl e := by rw [hu] at hR2; exact hR2
    exact XThr.out (hp.2 e hRe q h2 z2 hfl) hfs hfit.1 hfit.2
theorem r_any {f o D : Nat} (hD : 9 ≤ D) (hsub : ∀ f1, f1 < f → PCo mX4_all f1 4 2 o D) : PCo mX4_any f 3 3 o (D + 1) := by
  intro l G d r z k c F h P PX hl hd hr hk hz ho hfu hp
  match f, hfu, hsub, hp with
  | 0, hfu, _, _ => exact absurd hfu (by omega)
  | f + 1, hfu, hsub, hp =>
  have hkn : k ≤ c.2.1 := hk.2.2.2.2
  obtain ⟨R, hR⟩ : ∃ R, R = pC c.2.2.1 c.2.1 (f + 1) 3 o [] k := ⟨_, rfl⟩
  rw [← hR] at hp ⊢
  have hR2 := hR
  unfold pC at hR2
  refine CtX.of rfl (Nat.le_of_ble_eq_true rfl) rfl ?_
  refine X.walk wkX4_any fnil RetOk.no ⟨Nat.zero_le _, Nat.zero_le _⟩ [1] 1 rfl ?_
  have hfit : 0 + cC c.2.1 k (pC c.2.2.1 c.2.1 f 4 o [] k) ≤ cC c.2.1 k R ∧ 0 + cS c.2.1 k (pC c.2.2.1 c.2.1 f 4 o [] k) ≤ cS c.2.1 k R := by
    cases hu : pC c.2.2.1 c.2.1 f 4 o [] k with
    | inl e =>
      rw [hu] at hR2
      rw [hR2, Nat.zero_add, Nat.zero_add]
      exact ⟨Nat.le_refl _, Nat.le_refl _⟩
    | inr q =>
      rw [hu] at hR2
      obtain ⟨c2, k3⟩ := q
      have hg := pC_ge (t := c.2.2.1) _ _ _ _ _ hkn c2 k3 hu
      have := cC_ge (n := c.2.1) (k0 := k) (j := k3) (R := R) hg.2.1 (fun d kf q => (pC_ge _ _ _ _ _ hg.2.1 d kf (hR2.symm.trans q)).1)
      exact ⟨by show 0 + 2 * (k3 - k) ≤ _; omega, by show 0 + 12 * (k3 - k) ≤ _; omega⟩
  refine X.callVX (d' := d - 1) (As := []) (rest := []) ckX4_136 q604 pkX4_any rfl (hsub f (Nat.lt_succ_self f) l G (d - 1) r z k c F h (fun v h' z' => ∃ cd k2, pC c.2.2.1 c.2.1 f 4 o [] k = .inr (cd, k2) ∧ ∃ tm2 F2, v = some (.ref tm2) ∧ TmR G r c F z h cd k2 tm2 F2 h' z') (fun q h' z' => ∃ e, pC c.2.2.1 c.2.1 f 4 o [] k = .inl e ∧ FlR r z h e q h') hl (by omega) hr hk hz ho (by omega) ⟨fun cd k2 e tm2 F2 h' z' q => ⟨cd, k2, e, tm2, F2, rfl, q⟩, fun e q a h' z' q2 => ⟨e, q, q2⟩⟩) hr.obj rfl rfl rfl (Fit.K (by omega) (by decide) hfit.1 hfit.2) (Nat.le_of_ble_eq_true rfl) ?_ ?_
  · intro v h2 z2 hq
    obtain ⟨cd, k2, hu, tm2, F2, rfl, w2⟩ := hq
    rw [hu] at hR2 hfit ⊢
    have hg := pC_ge (t := c.2.2.1) _ _ _ _ _ hkn cd k2 hu
    refine X.walk wkX4_any fnil RetOk.no ⟨hfit.1, hfit.2⟩ [5] 1 rfl ?_
    have h9 := hg.2.2 (by omega)
    exact r_anyL (D := D) (by omega) (by omega) ho hl hz hp f (fun f1 h1 => hsub f1 (by omega)) k2 cd tm2 F2 h2 z2 _ _ hR2.symm (by omega) (by omega) (by show 0 + 2 * (k2 - k) ≤ _; omega) (by show 0 + 12 * (k2 - k) ≤ _; omega) w2
  · intro q h2 z2 fs hq hfs
    obtain ⟨e, hu, hfl⟩ := hq
    have hRe : R = .inl e := by rw [hu] at hR2; exact hR2
    exact XThr.out (hp.2 e hRe q h2 z2 hfl) hfs hfit.1 hfit.2
