set_option maxRecDepth 100000
/-! THE READER: a comparison -/
theorem pCmp_ge {t : Nat → Int32} {n k k1 : Nat} {c1 : Code9} (hu : pSum t n k = .inr (c1, k1)) (h1 : k1 ≤ n) : ∀ d kf, pCmp t n k = .inr (d, kf) → k1 ≤ kf := by
  intro d kf h
  unfold pCmp at h
  rw [hu] at h
  dsimp only at h
  split at h
  · rename_i hs
    have ha : k1 < tN t n k1 ∧ tN t n k1 ≤ n := hs.elim (sgn_adv h1) (fun q => q.elim (sgn_adv h1) (sgn_adv h1))
    cases hu2 : pSum t n (tN t n k1) with
    | inl e => rw [hu2] at h; cases h
    | inr q2 =>
      rw [hu2] at h
      obtain ⟨c2, k3⟩ := q2
      have hg2 := pSum_g ha.2 c2 k3 hu2
      cases h
      omega
  · cases h
theorem r_oneC {l : Launch} {G : GG} {d r z k : Nat} {c : RC} {F : Nat → Int32} {h : AH} {P : Option Value → AH → Nat → Prop} {PX : Nat → AH → Nat → Prop} {R : PR} (hl : l.stackTraces = false) (hd : 14 ≤ d) (hr : IsRd G r c F h) (hk : AtT c F k) (hz : r < z ∧ c.1 + 1 < z) (hR : R = pCmp c.2.2.1 c.2.1 k) (hp : PRd G r c F z h R P PX) : X l G mX4_one (rmK d (cC c.2.1 k R) (cS c.2.1 k R)) (TGx G P PX (cC c.2.1 k R) (cS c.2.1 k R)) 0 0 82 [(0, .ref r)] [] h z := by
  have hkn : k ≤ c.2.1 := hk.2.2.2.2
  have hR2 := hR
  unfold pCmp at hR2
  refine X.walk wkX4_one fnil RetOk.no ⟨Nat.zero_le _, Nat.zero_le _⟩ [83] 1 rfl ?_
  have hfit : 0 + cC c.2.1 k (pSum c.2.2.1 c.2.1 k) ≤ cC c.2.1 k R ∧ 0 + cS c.2.1 k (pSum c.2.2.1 c.2.1 k) ≤ cS c.2.1 k R := by
    cases hu : pSum c.2.2.1 c.2.1 k with
    | inl e =>
      rw [hu] at hR2
      rw [hR2, Nat.zero_add, Nat.zero_add]
      exact ⟨Nat.le_refl _, Nat.le_refl _⟩
    | inr q =>
      obtain ⟨c2, k3⟩ := q
      have hg := pSum_g (t := c.2.2.1) hkn c2 k3 hu
      have := cC_ge (n := c.2.1) (k0 := k) (j := k3) (R := R) hg.2.1 (fun d kf q => pCmp_ge hu hg.2.1 d kf (hR.symm.trans q))
      exact ⟨by show 0 + 2 * (k3 - k) ≤ _; omega, by show 0 + 12 * (k3 - k) ≤ _; omega⟩
  refine X.callVX (d' := d - 1) (As := []) (rest := []) ckX4_156 q545 pkX4_one rfl (r_sum2 l G (d - 1) r z k c F h (fun v h' z' => ∃ cd k2, pSum c.2.2.1 c.2.1 k = .inr (cd, k2) ∧ ∃ tm2 F2, v = some (.ref tm2) ∧ TmR G r c F z h cd k2 tm2 F2 h' z') (fun q h' z' => ∃ e, pSum c.2.2.1 c.2.1 k = .inl e ∧ FlR r z h e q h') hl (by omega) hr hk hz ⟨fun cd k2 e tm2 F2 h' z' q => ⟨cd, k2, e, tm2, F2, rfl, q⟩, fun e q a h' z' q2 => ⟨e, q, q2⟩⟩) hr.obj rfl rfl rfl (Fit.K (by omega) (by decide) hfit.1 hfit.2) (Nat.le_of_ble_eq_true rfl) ?_ ?_
  rotate_left 1
  · intro q h2 z2 fs hq hfs
    obtain ⟨e, hu, hfl⟩ := hq
    have hRe : R = .inl e := by rw [hu] at hR2; exact hR2
    exact XThr.out (hp.2 e hRe q h2 z2 hfl) hfs hfit.1 hfit.2
  intro v h2 z2 hq
  obtain ⟨acc, k2, hu, tm, F2, rfl, w⟩ := hq
  rw [hu] at hR2 hfit ⊢
  dsimp only at hR2
  have hg := pSum_g (t := c.2.2.1) hkn acc k2 hu
  have hr2 := w.1
  have hk2 := w.2.1
  have hzz : z ≤ z2 := w.2.2.2.2.1
  have hc0 : cC c.2.1 k (.inr (acc, k2)) = 2 * (k2 - k) := rfl
  have hs0 : cS c.2.1 k (.inr (acc, k2)) = 12 * (k2 - k) := rfl
  by_cases hs : sgn c.2.2.1 c.2.1 k2 60 = true ∨ sgn c.2.2.1 c.2.1 k2 61 = true ∨ sgn c.2.2.1 c.2.1 k2 62 = true
  · rw [if_pos hs] at hR2
    have ha : k2 < tN c.2.2.1 c.2.1 k2 ∧ tN c.2.2.1 c.2.1 k2 ≤ c.2.1 := hs.elim (sgn_adv hg.2.1) (fun q => q.elim (sgn_adv hg.2.1) (sgn_adv hg.2.1))
    obtain ⟨o, ho⟩ : ∃ o, o = (if tV c.2.2.1 c.2.1 k2 = 60 then 6 else if tV c.2.2.1 c.2.1 k2 = 61 then 7 else 8) := ⟨_, rfl⟩
    have hop : op2 o ∧ opHow o = F2 2 ∧ ¬ o = 5 := by
      rcases hs with hs | hs | hs
      · rw [ho, if_pos (sgn_K hs).2, (hk2.tc.sg (c := 60) rfl).mpr hs]
        exact ⟨by unfold op2; omega, rfl, by decide⟩
      · rw [ho, if_neg (by rw [(sgn_K hs).2]; decide), if_pos (sgn_K hs).2, (hk2.tc.sg (c := 61) rfl).mpr hs]
        exact ⟨by unfold op2; omega, rfl, by decide⟩
      · rw [ho, if_neg (by rw [(sgn_K hs).2]; decide), if_neg (by rw [(sgn_K hs).2]; decide), (hk2.tc.sg (c := 62) rfl).mpr hs]
        exact ⟨by unfold op2; omega, rfl, by decide⟩
    rw [← ho] at hR2
    have hfit2 : 2 * (k2 - k) + 1 + cC c.2.1 (tN c.2.2.1 c.2.1 k2) (pSum c.2.2.1 c.2.1 (tN c.2.2.1 c.2.1 k2)) ≤ cC c.2.1 k R ∧ 12 * (k2 - k) + 3 + cS c.2.1 (tN c.2.2.1 c.2.1 k2) (pSum c.2.2.1 c.2.1 (tN c.2.2.1 c.2.1 k2)) ≤ cS c.2.1 k R := by
      cases hu2 : pSum c.2.2.1 c.2.1 (tN c.2.2.1 c.2.1 k2) with
      | inl e =>
        rw [hu2] at hR2
        rw [hR2]
        exact ⟨by show 2 * (k2 - k) + 1 + (2 * (c.2.1 - tN c.2.2.1 c.2.1 k2) + 2) ≤ 2 * (c.2.1 - k) + 2; omega, by show 12 * (k2 - k) + 3 + (12 * (c.2.1 - tN c.2.2.1 c.2.1 k2) + 12) ≤ 12 * (c.2.1 - k) + 12; omega⟩
      | inr q =>
        rw [hu2] at hR2
        obtain ⟨c2, k3⟩ := q
        have hg2 := pSum_g (t := c.2.2.1) ha.2 c2 k3 hu2
        rw [hR2]
        exact ⟨by show 2 * (k2 - k) + 1 + 2 * (k3 - tN c.2.2.1 c.2.1 k2) ≤ 2 * (k3 - k); omega, by show 12 * (k2 - k) + 3 + 12 * (k3 - tN c.2.2.1 c.2.1 k2) ≤ 12 * (k3 - k); omega⟩
    have k127 : ∀ F' h', AtT c F' (tN c.2.2.1 c.2.1 k2) → F' 4 = F2 4 → IsRd G r c F' h' → FrR r h2 h' → X l G mX4_one (rmK d (cC c.2.1 k R) (cS c.2.1 k R)) (TGx G P PX (cC c.2.1 k R) (cS c.2.1 k R)) (2 * (k2 - k)) (12 * (k2 - k)) 127 [(0, .ref r), (1, .ref tm), (2, .int (F2 2))] [] h' z2 := by
      intro F' h' g1 g2 g3 g4
      refine X.newO (ci := 8) (fs := [.null, .null, .int 0]) tyX9 pkX4_one rfl in_X9 tyX9_ok q584 q585 q110 rfl (fun j hj => by match j, hj with | 0, _ => rfl | 1, _ => rfl | 2, _ => rfl) (by show 2 * (k2 - k) + 1 ≤ cC c.2.1 k R; omega) (by show 12 * (k2 - k) + 3 ≤ cS c.2.1 k R; omega) ?_
      intro h8 e8
      have hr8 : IsRd G r c F' h8 := by rw [e8]; exact g3.al (by omega)
      refine X.walk wkX4_one fnil (RetOk.x (by omega) (by omega)) ⟨by show 2 * (k2 - k) + 1 ≤ cC c.2.1 k R; omega, by show 12 * (k2 - k) + 3 ≤ cS c.2.1 k R; omega⟩ [134] 4 rfl ?_
      refine X.callVX (d' := d - 1) (As := []) (rest := [.int (F2 2), .ref tm, .ref z2, .ref z2]) ckX4_156 q545 pkX4_one rfl (r_sum2 l G (d - 1) r (z2 + 1) (tN c.2.2.1 c.2.1 k2) c F' h8 (fun v h' z' => ∃ cd k3, pSum c.2.2.1 c.2.1 (tN c.2.2.1 c.2.1 k2) = .inr (cd, k3) ∧ ∃ tm2 F3, v = some (.ref tm2) ∧ TmR G r c F' (z2 + 1) h8 cd k3 tm2 F3 h' z') (fun q h' z' => ∃ e, pSum c.2.2.1 c.2.1 (tN c.2.2.1 c.2.1 k2) = .inl e ∧ FlR r (z2 + 1) h8 e q h') hl (by omega) hr8 g1 (by omega) ⟨fun cd k2 e tm2 F2 h' z' q => ⟨cd, k2, e, tm2, F2, rfl, q⟩, fun e q a h' z' q2 => ⟨e, q, q2⟩⟩) hr8.obj rfl rfl rfl (Fit.K (by omega) (by decide) hfit2.1 hfit2.2) (Nat.le_of_ble_eq_true rfl) ?_ ?_
      · intro v h3 z3 hq
        obtain ⟨cd, k3, hu2, tm2, F3, rfl, w2⟩ := hq
        rw [hu2] at hR2 hfit2 ⊢
        have ho2 : h3 z2 = some (.inr (8, [.null, .null, .int 0])) := by rw [w2.2.2.2.1 z2 (by omega) (by omega), e8, ahU_s]
        have hzN : G.2.2.1.size ≤ z2 := by have := hr.N; omega
        refine X.callI (As := [.ref tm, .int (F2 2), .ref tm2]) (rest := [.ref z2]) ckX4_118 pkX4_one rfl (c_joiI (d := d - 1) (P := fun v h' z' => v = none ∧ h' = ahU h3 z2 (.inr (8, [.ref tm, .ref tm2, .int (F2 2)])) ∧ z' = z3) (by omega) hzN ho2 (fun h' e => ⟨rfl, e, rfl⟩)) rfl rfl (Fit.K (by omega) (by decide) hfit2.1 hfit2.2) (Nat.le_of_ble_eq_true rfl) ?_
        intro v9 h17 z17 hq
        obtain ⟨rfl, rfl, rfl⟩ := hq
        refine X.walk wkX4_one fnil (RetOk.x hfit2.1 hfit2.2) ⟨hfit2.1, hfit2.2⟩ [] 1 rfl ?_
        rw [e8] at w2
        have w3 := w.join hz g4 g2 w2 hop.1 (fun q => absurd q hop.2.2)
        rw [hop.2.1] at w3
        exact hp.1 _ _ hR2 z2 F3 _ _ w3
      · intro q h3 z3 fs hq hfs
        obtain ⟨e, hu2, hfl⟩ := hq
        have hRe : R = .inl e := by rw [hu2] at hR2; exact hR2
        refine XThr.out ?_ hfs hfit2.1 hfit2.2
        refine hp.2 e hRe q h3 z3 (hfl.up ?_ (by omega))
        rw [e8]
        exact FrN.tr (w.2.2.2.1.tr (g4.n)) (FrN.al hzz)
    rw [hc0, hs0, Nat.zero_add, Nat.zero_add]
    refine X.walk wkX4_one (fcons (ceV r_next rmV0 ckX4_106 rfl rrV0 (by omega) rfl) fnil) (RetOk.x (by omega) (by omega)) ⟨by show 2 * (k2 - k) ≤ cC c.2.1 k R; omega, by show 12 * (k2 - k) ≤ cS c.2.1 k R; omega⟩ [127, 110] 18 rfl ?_
    have nx : ∀ F' h', TkX F' F2 c.2.2.1 c.2.1 (tN c.2.2.1 c.2.1 k2) → IsRd G r c F' h' → FrR r h2 h' → X l G mX4_one (rmK d (cC c.2.1 k R) (cS c.2.1 k R)) (TGx G P PX (cC c.2.1 k R) (cS c.2.1 k R)) (2 * (k2 - k)) (12 * (k2 - k)) 127 [(0, .ref r), (1, .ref tm), (2, .int (F2 2))] [] h' z2 := fun F' h' p g3 g4 => by
      obtain ⟨g1, g2⟩ := AtT.of p hk2.nx.2
      exact k127 F' h' g1 g2 g3 g4
    refine gF hr2.obj ?_
    refine And.intro (fun b95 => ?_) (fun b95 => ?_)
    · exact Exists.intro _ (Exists.intro _ (Exists.intro _ (And.intro hr2 (And.intro hk2.nx nx))))
    · refine And.intro (fun b101 => ?_) (fun b101 => ?_)
      · exact Exists.intro _ (Exists.intro _ (Exists.intro _ (And.intro hr2 (And.intro hk2.nx nx))))
      · refine And.intro (fun b107 => ?_) (fun b107 => ?_)
        · exact Exists.intro _ (Exists.intro _ (Exists.intro _ (And.intro hr2 (And.intro hk2.nx nx))))
        · simp only [cP, cN, bI_0, Bool.not_eq_false, lt_nle, Decidable.not_not] at b95 b101 b107
          exact hs.elim (fun q => absurd ((hk2.tc.sg (c := 60) rfl).mpr q) b95) (fun q => q.elim (fun q => absurd ((hk2.tc.sg (c := 61) rfl).mpr q) b101) (fun q => absurd ((hk2.tc.sg (c := 62) rfl).mpr q) b107))
  · rw [if_neg hs] at hR2
    subst hR2
    rw [hc0, hs0, Nat.zero_add, Nat.zero_add]
    have hb1 : 2 * (k2 - k) + 1 ≤ cC c.2.1 k (.inl (1, tS c.2.2.1 c.2.1 k2)) := by show _ ≤ 2 * (c.2.1 - k) + 2; omega
    have hb2 : 12 * (k2 - k) + 8 ≤ cS c.2.1 k (.inl (1, tS c.2.2.1 c.2.1 k2)) := by show _ ≤ 12 * (c.2.1 - k) + 12; omega
    refine X.walk wkX4_one fnil (RetOk.x (by omega) (by omega)) ⟨Nat.le_of_succ_le hb1, by show 12 * (k2 - k) ≤ cS c.2.1 k (.inl (1, tS c.2.2.1 c.2.1 k2)); omega⟩ [123, 110] 14 rfl ?_
    refine gF hr2.obj ?_
    refine And.intro (fun b95 => ?_) (fun b95 => ?_)
    · simp only [cP, cN, bI_0, Bool.not_eq_false, lt_nle, Decidable.not_not] at b95
      exact absurd (Or.inl ((hk2.tc.sg (c := 60) rfl).mp b95)) hs
    · refine And.intro (fun b101 => ?_) (fun b101 => ?_)
      · simp only [cP, cN, bI_0, Bool.not_eq_false, lt_nle, Decidable.not_not] at b101
        exact absurd (Or.inr (Or.inl ((hk2.tc.sg (c := 61) rfl).mp b101))) hs
      · refine And.intro (fun b107 => ?_) (fun b107 => ?_)
        · simp only [cP, cN, bI_0, Bool.not_eq_false, lt_nle, Decidable.not_not] at b107
          exact absurd (Or.inr (Or.inr ((hk2.tc.sg (c := 62) rfl).mp b107))) hs
        · refine X.thrF hl rfl pkX4_one rfl rfl rfl rfl rfl rfl rfl rfl rfl hr2.obj rfl hb1 hb2 (by show 6 ≤ d; omega) (by show 300 ≤ 40 * d; omega) ?_
          intro fs hfs
          refine XThr.out ?_ ahU_s hb1 hb2
          rw [hk2.2.1]
          refine hp.2 _ rfl z2 _ _ ⟨w.2.2.2.1.tr (FrN.al hzz), fs, hfs, ahU_s⟩
