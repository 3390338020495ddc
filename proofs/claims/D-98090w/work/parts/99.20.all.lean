set_option maxRecDepth 100000
/-! THE READER: all, any (loops) -/
theorem r_allL {l : Launch} {G : GG} {d r z0 k0 : Nat} {c : RC} {F0 : Nat → Int32} {h0 : AH} {P : Option Value → AH → Nat → Prop} {PX : Nat → AH → Nat → Prop} {R : PR} {o D : Nat} (hD : D + 1 ≤ d) (hd2 : 10 ≤ d) (ho : F0 4 = nI o) (hl : l.stackTraces = false) (hz0 : r < z0 ∧ c.1 + 1 < z0) (hp : PRd G r c F0 z0 h0 R P PX) : ∀ (f : Nat), (∀ f1, f1 < f → PCo mX4_one f1 0 1 o D) → ∀ (k : Nat) (acc : Code9) (tm : Nat) (F : Nat → Int32) (h : AH) (z cs ss : Nat), pC c.2.2.1 c.2.1 f 1 o acc k = R → 4 * (c.2.1 - k) + 1 ≤ f → k0 ≤ k → cs ≤ 2 * (k - k0) → ss ≤ 12 * (k - k0) → TmR G r c F0 z0 h0 acc k tm F h z → X l G mX4_all (rmK d (cC c.2.1 k0 R) (cS c.2.1 k0 R)) (TGx G P PX (cC c.2.1 k0 R) (cS c.2.1 k0 R)) cs ss 5 [(0, .ref r), (1, .ref tm)] [] h z := by
  intro f
  induction f with
  | zero => intro _ k acc tm F h z cs ss _ hf; exact absurd hf (by omega)
  | succ f ih =>
  intro hsub k acc tm F h z cs ss hR hf hk0 hcs hss w
  have hr := w.1
  have hk := w.2.1
  have hzz : z0 ≤ z := w.2.2.2.2.1
  have hkn : k ≤ c.2.1 := hk.2.2.2.2
  have hge : 2 * (k - k0) ≤ cC c.2.1 k0 R ∧ 12 * (k - k0) ≤ cS c.2.1 k0 R := cC_ge hkn (fun d kf q => (pC_ge _ _ _ _ _ hkn d kf (hR.trans q)).1)
  unfold pC at hR
  by_cases hs : wrd c.2.2.1 c.2.1 k 3 = true
  · rw [if_pos hs] at hR
    have ha : k < tN c.2.2.1 c.2.1 k ∧ tN c.2.2.1 c.2.1 k ≤ c.2.1 := wrd_adv hkn hs
    have eF : F 2 = 5 := hk.tc.and_.mpr hs
    have hop : op2 10 ∧ opHow 10 = F 2 ∧ ¬ 10 = 5 := ⟨by unfold op2; omega, eF.symm, by decide⟩
    have hfit : cs + 1 + cC c.2.1 (tN c.2.2.1 c.2.1 k) (pC c.2.2.1 c.2.1 f 0 o [] (tN c.2.2.1 c.2.1 k)) ≤ cC c.2.1 k0 R ∧ ss + 3 + cS c.2.1 (tN c.2.2.1 c.2.1 k) (pC c.2.2.1 c.2.1 f 0 o [] (tN c.2.2.1 c.2.1 k)) ≤ cS c.2.1 k0 R := by
      cases hu : pC c.2.2.1 c.2.1 f 0 o [] (tN c.2.2.1 c.2.1 k) with
      | inl e =>
        rw [hu] at hR
        rw [← hR]
        exact ⟨by show cs + 1 + (2 * (c.2.1 - tN c.2.2.1 c.2.1 k) + 2) ≤ 2 * (c.2.1 - k0) + 2; omega, by show ss + 3 + (12 * (c.2.1 - tN c.2.2.1 c.2.1 k) + 12) ≤ 12 * (c.2.1 - k0) + 12; omega⟩
      | inr q =>
        rw [hu] at hR
        obtain ⟨c2, k3⟩ := q
        have hg := pC_ge (t := c.2.2.1) _ _ _ _ _ ha.2 c2 k3 hu
        have := cC_ge (n := c.2.1) (k0 := k0) (j := k3) (R := R) hg.2.1 (fun d kf q => (pC_ge _ _ _ _ _ hg.2.1 d kf (hR.trans q)).1)
        exact ⟨by show cs + 1 + 2 * (k3 - tN c.2.2.1 c.2.1 k) ≤ _; omega, by show ss + 3 + 12 * (k3 - tN c.2.2.1 c.2.1 k) ≤ _; omega⟩
    have k32 : ∀ F' h', AtT c F' (tN c.2.2.1 c.2.1 k) → F' 4 = F 4 → IsRd G r c F' h' → FrR r h h' → X l G mX4_all (rmK d (cC c.2.1 k0 R) (cS c.2.1 k0 R)) (TGx G P PX (cC c.2.1 k0 R) (cS c.2.1 k0 R)) cs ss 17 [(0, .ref r), (1, .ref tm)] [] h' z := by
      intro F' h' g1 g2 g3 g4
      refine X.newO (ci := 8) (fs := [.null, .null, .int 0]) tyX9 pkX4_all rfl in_X9 tyX9_ok q584 q585 q110 rfl (fun j hj => by match j, hj with | 0, _ => rfl | 1, _ => rfl | 2, _ => rfl) (by show cs + 1 ≤ cC c.2.1 k0 R; omega) (by show ss + 3 ≤ cS c.2.1 k0 R; omega) ?_
      intro h8 e8
      have hr8 : IsRd G r c F' h8 := by rw [e8]; exact g3.al (by omega)
      refine X.walk wkX4_all fnil (RetOk.x (by omega) (by omega)) ⟨by show cs + 1 ≤ cC c.2.1 k0 R; omega, by show ss + 3 ≤ cS c.2.1 k0 R; omega⟩ [24] 4 rfl ?_
      refine X.callVX (d' := d - 1) (As := []) (rest := [.int 5, .ref tm, .ref z, .ref z]) ckX4_139 q608 pkX4_all rfl (hsub f (by omega) l G (d - 1) r (z + 1) (tN c.2.2.1 c.2.1 k) c F' h8 (fun v h' z' => ∃ cd k2, pC c.2.2.1 c.2.1 f 0 o [] (tN c.2.2.1 c.2.1 k) = .inr (cd, k2) ∧ ∃ tm2 F2, v = some (.ref tm2) ∧ TmR G r c F' (z + 1) h8 cd k2 tm2 F2 h' z') (fun q h' z' => ∃ e, pC c.2.2.1 c.2.1 f 0 o [] (tN c.2.2.1 c.2.1 k) = .inl e ∧ FlR r (z + 1) h8 e q h') hl (by omega) hr8 g1 (by omega) (g2.trans (w.2.2.1.trans ho)) (by omega) ⟨fun cd k2 e tm2 F2 h' z' q => ⟨cd, k2, e, tm2, F2, rfl, q⟩, fun e q a h' z' q2 => ⟨e, q, q2⟩⟩) hr8.obj rfl rfl rfl (Fit.K (by omega) (by decide) hfit.1 hfit.2) (Nat.le_of_ble_eq_true rfl) ?_ ?_
      · intro v h2 z2 hq
        obtain ⟨cd, k2, hu, tm2, F2, rfl, w2⟩ := hq
        rw [hu] at hR hfit ⊢
        have hg := pC_ge (t := c.2.2.1) _ _ _ _ _ ha.2 cd k2 hu
        have ho2 : h2 z = some (.inr (8, [.null, .null, .int 0])) := by rw [w2.2.2.2.1 z (by omega) (by omega), e8, ahU_s]
        have hzN : G.2.2.1.size ≤ z := by have := hr.N; omega
        refine X.callI (As := [.ref tm, .int 5, .ref tm2]) (rest := [.ref z]) ckX4_118 pkX4_all rfl (c_joiI (d := d - 1) (P := fun v h' z' => v = none ∧ h' = ahU h2 z (.inr (8, [.ref tm, .ref tm2, .int 5])) ∧ z' = z2) (by omega) hzN ho2 (fun h' e => ⟨rfl, e, rfl⟩)) rfl rfl (Fit.K (by omega) (by decide) hfit.1 hfit.2) (Nat.le_of_ble_eq_true rfl) ?_
        intro v9 h17 z17 hq
        obtain ⟨rfl, rfl, rfl⟩ := hq
        refine X.walk wkX4_all fnil RetOk.no ⟨hfit.1, hfit.2⟩ [5] 2 rfl ?_
        rw [e8] at w2
        have w3 := w.join hz0 g4 g2 w2 hop.1 (fun q => absurd q hop.2.2)
        rw [hop.2.1, eF] at w3
        have k9 := ih (fun f1 hf1 => hsub f1 (by omega)) k2 _ z F2 _ _ (cs + 1 + cC c.2.1 (tN c.2.2.1 c.2.1 k) (.inr (cd, k2)) + 0) (ss + 3 + cS c.2.1 (tN c.2.2.1 c.2.1 k) (.inr (cd, k2)) + 0) hR (by omega) (by omega) (by show cs + 1 + 2 * (k2 - tN c.2.2.1 c.2.1 k) + 0 ≤ _; omega) (by show ss + 3 + 12 * (k2 - tN c.2.2.1 c.2.1 k) + 0 ≤ _; omega) w3
        exact X.sub k9 (fun q hq => by
          rcases List.mem_cons.mp hq with rfl | hq
          · exact List.mem_cons_self
          · rcases List.mem_cons.mp hq with rfl | hq
            · exact List.mem_cons_of_mem _ List.mem_cons_self
            · exact absurd hq List.not_mem_nil)
      · intro q h2 z2 fs hq hfs
        obtain ⟨e, hu, hfl⟩ := hq
        have hRe : R = .inl e := by rw [hu] at hR; exact hR.symm
        refine XThr.out ?_ hfs hfit.1 hfit.2
        refine hp.2 e hRe q h2 z2 (hfl.up ?_ (by omega))
        rw [e8]
        exact FrN.tr (w.2.2.2.1.tr (g4.n)) (FrN.al hzz)
    refine X.walk wkX4_all (fcons (ceV r_next rmV0 ckX4_106 rfl rrV0 (by omega) rfl) fnil) (RetOk.x (by omega) (by omega)) ⟨by show cs ≤ cC c.2.1 k0 R; omega, by show ss ≤ cS c.2.1 k0 R; omega⟩ [17, 34] 8 rfl ?_
    refine gF hr.obj ?_
    refine And.intro (fun b10 => ?_) (fun b10 => ?_)
    · simp only [cP, cN, bI_0, Bool.not_eq_false, lt_nle, Decidable.not_not] at b10
      exact absurd eF b10
    · refine Exists.intro _ (Exists.intro _ (Exists.intro _ (And.intro hr (And.intro hk.nx ?_))))
      intro F' h' p g3 g4
      obtain ⟨g1, g2⟩ := AtT.of p hk.nx.2
      exact k32 F' h' g1 g2 g3 g4
  · rw [if_neg hs] at hR
    refine X.walk wkX4_all fnil (RetOk.x (by omega) (by omega)) ⟨by show cs ≤ cC c.2.1 k0 R; omega, by show ss ≤ cS c.2.1 k0 R; omega⟩ [13] 7 rfl ?_
    refine gF hr.obj ?_
    refine And.intro (fun b10 => ?_) (fun b10 => ?_)
    · exact hp.1 acc k hR.symm tm F h z w
    · simp only [cP, cN, bI_0, Bool.not_eq_false, lt_nle, Decidable.not_not] at b10
      exact absurd (hk.tc.and_.mp b10) hs
theorem r_anyL {l : Launch} {G : GG} {d r z0 k0 : Nat} {c : RC} {F0 : Nat → Int32} {h0 : AH} {P : Option Value → AH → Nat → Prop} {PX : Nat → AH → Nat → Prop} {R : PR} {o D : Nat} (hD : D + 1 ≤ d) (hd2 : 10 ≤ d) (ho : F0 4 = nI o) (hl : l.stackTraces = false) (hz0 : r < z0 ∧ c.1 + 1 < z0) (hp : PRd G r c F0 z0 h0 R P PX) : ∀ (f : Nat), (∀ f1, f1 < f → PCo mX4_all f1 4 2 o D) → ∀ (k : Nat) (acc : Code9) (tm : Nat) (F : Nat → Int32) (h : AH) (z cs ss : Nat), pC c.2.2.1 c.2.1 f 2 o acc k = R → 4 * (c.2.1 - k) + 1 ≤ f → k0 ≤ k → cs ≤ 2 * (k - k0) → ss ≤ 12 * (k - k0) → TmR G r c F0 z0 h0 acc k tm F h z → X l G mX4_any (rmK d (cC c.2.1 k0 R) (cS c.2.1 k0 R)) (TGx G P PX (cC c.2.1 k0 R) (cS c.2.1 k0 R)) cs ss 5 [(0, .ref r), (1, .ref tm)] [] h z := by
  intro f
  induction f with
  | zero => intro _ k acc tm F h z cs ss _ hf; exact absurd hf (by omega)
  | succ f ih =>
  intro hsub k acc tm F h z cs ss hR hf hk0 hcs hss w
  have hr := w.1
  have hk := w.2.1
  have hzz : z0 ≤ z := w.2.2.2.2.1
  have hkn : k ≤ c.2.1 := hk.2.2.2.2
  have hge : 2 * (k - k0) ≤ cC c.2.1 k0 R ∧ 12 * (k - k0) ≤ cS c.2.1 k0 R := cC_ge hkn (fun d kf q => (pC_ge _ _ _ _ _ hkn d kf (hR.trans q)).1)
  unfold pC at hR
  by_cases hs : wrd c.2.2.1 c.2.1 k 2 = true
  · rw [if_pos hs] at hR
    have ha : k < tN c.2.2.1 c.2.1 k ∧ tN c.2.2.1 c.2.1 k ≤ c.2.1 := wrd_adv hkn hs
    have eF : F 2 = 4 := hk.tc.or_.mpr hs
    have hop : op2 11 ∧ opHow 11 = F 2 ∧ ¬ 11 = 5 := ⟨by unfold op2; omega, eF.symm, by decide⟩
    have hfit : cs + 1 + cC c.2.1 (tN c.2.2.1 c.2.1 k) (pC c.2.2.1 c.2.1 f 4 o [] (tN c.2.2.1 c.2.1 k)) ≤ cC c.2.1 k0 R ∧ ss + 3 + cS c.2.1 (tN c.2.2.1 c.2.1 k) (pC c.2.2.1 c.2.1 f 4 o [] (tN c.2.2.1 c.2.1 k)) ≤ cS c.2.1 k0 R := by
      cases hu : pC c.2.2.1 c.2.1 f 4 o [] (tN c.2.2.1 c.2.1 k) with
      | inl e =>
        rw [hu] at hR
        rw [← hR]
        exact ⟨by show cs + 1 + (2 * (c.2.1 - tN c.2.2.1 c.2.1 k) + 2) ≤ 2 * (c.2.1 - k0) + 2; omega, by show ss + 3 + (12 * (c.2.1 - tN c.2.2.1 c.2.1 k) + 12) ≤ 12 * (c.2.1 - k0) + 12; omega⟩
      | inr q =>
        rw [hu] at hR
        obtain ⟨c2, k3⟩ := q
        have hg := pC_ge (t := c.2.2.1) _ _ _ _ _ ha.2 c2 k3 hu
        have := cC_ge (n := c.2.1) (k0 := k0) (j := k3) (R := R) hg.2.1 (fun d kf q => (pC_ge _ _ _ _ _ hg.2.1 d kf (hR.trans q)).1)
        exact ⟨by show cs + 1 + 2 * (k3 - tN c.2.2.1 c.2.1 k) ≤ _; omega, by show ss + 3 + 12 * (k3 - tN c.2.2.1 c.2.1 k) ≤ _; omega⟩
    have k32 : ∀ F' h', AtT c F' (tN c.2.2.1 c.2.1 k) → F' 4 = F 4 → IsRd G r c F' h' → FrR r h h' → X l G mX4_any (rmK d (cC c.2.1 k0 R) (cS c.2.1 k0 R)) (TGx G P PX (cC c.2.1 k0 R) (cS c.2.1 k0 R)) cs ss 17 [(0, .ref r), (1, .ref tm)] [] h' z := by
      intro F' h' g1 g2 g3 g4
      refine X.newO (ci := 8) (fs := [.null, .null, .int 0]) tyX9 pkX4_any rfl in_X9 tyX9_ok q584 q585 q110 rfl (fun j hj => by match j, hj with | 0, _ => rfl | 1, _ => rfl | 2, _ => rfl) (by show cs + 1 ≤ cC c.2.1 k0 R; omega) (by show ss + 3 ≤ cS c.2.1 k0 R; omega) ?_
      intro h8 e8
      have hr8 : IsRd G r c F' h8 := by rw [e8]; exact g3.al (by omega)
      refine X.walk wkX4_any fnil (RetOk.x (by omega) (by omega)) ⟨by show cs + 1 ≤ cC c.2.1 k0 R; omega, by show ss + 3 ≤ cS c.2.1 k0 R; omega⟩ [24] 4 rfl ?_
      refine X.callVX (d' := d - 1) (As := []) (rest := [.int 4, .ref tm, .ref z, .ref z]) ckX4_136 q604 pkX4_any rfl (hsub f (by omega) l G (d - 1) r (z + 1) (tN c.2.2.1 c.2.1 k) c F' h8 (fun v h' z' => ∃ cd k2, pC c.2.2.1 c.2.1 f 4 o [] (tN c.2.2.1 c.2.1 k) = .inr (cd, k2) ∧ ∃ tm2 F2, v = some (.ref tm2) ∧ TmR G r c F' (z + 1) h8 cd k2 tm2 F2 h' z') (fun q h' z' => ∃ e, pC c.2.2.1 c.2.1 f 4 o [] (tN c.2.2.1 c.2.1 k) = .inl e ∧ FlR r (z + 1) h8 e q h') hl (by omega) hr8 g1 (by omega) (g2.trans (w.2.2.1.trans ho)) (by omega) ⟨fun cd k2 e tm2 F2 h' z' q => ⟨cd, k2, e, tm2, F2, rfl, q⟩, fun e q a h' z' q2 => ⟨e, q, q2⟩⟩) hr8.obj rfl rfl rfl (Fit.K (by omega) (by decide) hfit.1 hfit.2) (Nat.le_of_ble_eq_true rfl) ?_ ?_
      · intro v h2 z2 hq
        obtain ⟨cd, k2, hu, tm2, F2, rfl, w2⟩ := hq
        rw [hu] at hR hfit ⊢
        have hg := pC_ge (t := c.2.2.1) _ _ _ _ _ ha.2 cd k2 hu
        have ho2 : h2 z = some (.inr (8, [.null, .null, .int 0])) := by rw [w2.2.2.2.1 z (by omega) (by omega), e8, ahU_s]
        have hzN : G.2.2.1.size ≤ z := by have := hr.N; omega
        refine X.callI (As := [.ref tm, .int 4, .ref tm2]) (rest := [.ref z]) ckX4_118 pkX4_any rfl (c_joiI (d := d - 1) (P := fun v h' z' => v = none ∧ h' = ahU h2 z (.inr (8, [.ref tm, .ref tm2, .int 4])) ∧ z' = z2) (by omega) hzN ho2 (fun h' e => ⟨rfl, e, rfl⟩)) rfl rfl (Fit.K (by omega) (by decide) hfit.1 hfit.2) (Nat.le_of_ble_eq_true rfl) ?_
        intro v9 h17 z17 hq
        obtain ⟨rfl, rfl, rfl⟩ := hq
        refine X.walk wkX4_any fnil RetOk.no ⟨hfit.1, hfit.2⟩ [5] 2 rfl ?_
        rw [e8] at w2
        have w3 := w.join hz0 g4 g2 w2 hop.1 (fun q => absurd q hop.2.2)
        rw [hop.2.1, eF] at w3
        have k9 := ih (fun f1 hf1 => hsub f1 (by omega)) k2 _ z F2 _ _ (cs + 1 + cC c.2.1 (tN c.2.2.1 c.2.1 k) (.inr (cd, k2)) + 0) (ss + 3 + cS c.2.1 (tN c.2.2.1 c.2.1 k) (.inr (cd, k2)) + 0) hR (by omega) (by omega) (by show cs + 1 + 2 * (k2 - tN c.2.2.1 c.2.1 k) + 0 ≤ _; omega) (by show ss + 3 + 12 * (k2 - tN c.2.2.1 c.2.1 k) + 0 ≤ _; omega) w3
        exact X.sub k9 (fun q hq => by
          rcases List.mem_cons.mp hq with rfl | hq
          · exact List.mem_cons_self
          · rcases List.mem_cons.mp hq with rfl | hq
            · exact List.mem_cons_of_mem _ List.mem_cons_self
            · exact absurd hq List.not_mem_nil)
      · intro q h2 z2 fs hq hfs
        obtain ⟨e, hu, hfl⟩ := hq
        have hRe : R = .inl e := by rw [hu] at hR; exact hR.symm
        refine XThr.out ?_ hfs hfit.1 hfit.2
        refine hp.2 e hRe q h2 z2 (hfl.up ?_ (by omega))
        rw [e8]
        exact FrN.tr (w.2.2.2.1.tr (g4.n)) (FrN.al hzz)
    refine X.walk wkX4_any (fcons (ceV r_next rmV0 ckX4_106 rfl rrV0 (by omega) rfl) fnil) (RetOk.x (by omega) (by omega)) ⟨by show cs ≤ cC c.2.1 k0 R; omega, by show ss ≤ cS c.2.1 k0 R; omega⟩ [17, 34] 8 rfl ?_
    refine gF hr.obj ?_
    refine And.intro (fun b10 => ?_) (fun b10 => ?_)
    · simp only [cP, cN, bI_0, Bool.not_eq_false, lt_nle, Decidable.not_not] at b10
      exact absurd eF b10
    · refine Exists.intro _ (Exists.intro _ (Exists.intro _ (And.intro hr (And.intro hk.nx ?_))))
      intro F' h' p g3 g4
      obtain ⟨g1, g2⟩ := AtT.of p hk.nx.2
      exact k32 F' h' g1 g2 g3 g4
  · rw [if_neg hs] at hR
    refine X.walk wkX4_any fnil (RetOk.x (by omega) (by omega)) ⟨by show cs ≤ cC c.2.1 k0 R; omega, by show ss ≤ cS c.2.1 k0 R; omega⟩ [13] 7 rfl ?_
    refine gF hr.obj ?_
    refine And.intro (fun b10 => ?_) (fun b10 => ?_)
    · exact hp.1 acc k hR.symm tm F h z w
    · simp only [cP, cN, bI_0, Bool.not_eq_false, lt_nle, Decidable.not_not] at b10
      exact absurd (hk.tc.or_.mp b10) hs
