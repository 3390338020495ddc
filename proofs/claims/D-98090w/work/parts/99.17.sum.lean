set_option maxRecDepth 100000
/-! THE READER: terms joined; sum -/
theorem IsTm.le {h : AH} {n m a : Nat} {c : Code9} (w : IsTm h n a c) (hm : n ≤ m) : IsTm h m a c := by
  induction hm with
  | refl => exact w
  | step _ ih => exact ih.mono
theorem pSumL_ge {t : Nat → Int32} {n : Nat} : ∀ (f : Nat) (c : Code9) (k1 : Nat), k1 ≤ n → ∀ d k2, pSumL t n f c k1 = .inr (d, k2) → k1 ≤ k2 ∧ k2 ≤ n
  | 0, c, k1, h2, d, k2, h => by cases h; exact ⟨Nat.le_refl _, h2⟩
  | f + 1, c, k1, h2, d, k2, h => by
    unfold pSumL at h
    split at h
    · rename_i hs
      have ha : k1 < tN t n k1 ∧ tN t n k1 ≤ n := hs.elim (sgn_adv h2) (sgn_adv h2)
      cases hu : pProd t n (tN t n k1) with
      | inl e => rw [hu] at h; cases h
      | inr q =>
        rw [hu] at h
        obtain ⟨c2, k3⟩ := q
        have hg := pProd_g (t := t) ha.2 c2 k3 hu
        have := pSumL_ge f _ k3 hg.2.1 d k2 h
        omega
    · cases h
      exact ⟨Nat.le_refl _, h2⟩
/-- two terms joined at the new cell z -/
theorem NT.join {h1 h2 : AH} {z0 z z2 tm tm2 r o : Nat} {acc cd : Code9} (w1 : NT h1 z0 z tm acc) (hf : FrN r (z + 1) (ahU h1 z (.inr (8, [.null, .null, .int 0]))) h2) (hr : r < z0) (hz : z0 ≤ z) (w2 : NT h2 (z + 1) z2 tm2 cd) (hz2 : z + 1 ≤ z2) (ho : op2 o) (h5 : o = 5 → ∃ v, cd = [(0, v)] ∧ ¬ v = 0) : NT (ahU h2 z (.inr (8, [.ref tm, .ref tm2, .int (opHow o)]))) z0 z2 z (acc ++ cd ++ [(o, 0)]) := by
  have g1 : IsTm (cutz z0 z2 (ahU h2 z (.inr (8, [.ref tm, .ref tm2, .int (opHow o)])))) acc.length tm acc := by
    refine IsTm.mh (fun a e q => ?_) w1
    unfold cutz at q ⊢
    by_cases g : z0 ≤ a ∧ a < z
    · rw [if_pos g] at q
      rw [if_pos (by omega), ahU_n (by omega), hf a (by omega) (by omega), ahU_n (by omega)]
      exact q
    · rw [if_neg g] at q
      cases q
  have g2 : IsTm (cutz z0 z2 (ahU h2 z (.inr (8, [.ref tm, .ref tm2, .int (opHow o)])))) cd.length tm2 cd := by
    refine IsTm.mh (fun a e q => ?_) w2
    unfold cutz at q ⊢
    by_cases g : z + 1 ≤ a ∧ a < z2
    · rw [if_pos g] at q
      rw [if_pos (by omega), ahU_n (by omega)]
      exact q
    · rw [if_neg g] at q
      cases q
  unfold NT
  rw [show (acc ++ cd ++ [(o, (0 : Int32))]).length = (acc.length + cd.length) + 1 from by simp; omega]
  refine Or.inr (Or.inr (Or.inr ⟨tm, tm2, o, acc, cd, ?_, ho, h5, g1.le (by omega), g2.le (by omega), rfl⟩))
  unfold cutz
  rw [if_pos (by omega), ahU_s]
theorem TmR.join {G : GG} {r : Nat} {c : RC} {F0 F F' F2 : Nat → Int32} {z0 z z2 k2 tm tm2 k o : Nat} {h0 h h' h2 : AH} {acc cd : Code9} (w1 : TmR G r c F0 z0 h0 acc k tm F h z) (hz0 : r < z0 ∧ c.1 + 1 < z0) (hf' : FrR r h h') (h4 : F' 4 = F 4) (w2 : TmR G r c F' (z + 1) (ahU h' z (.inr (8, [.null, .null, .int 0]))) cd k2 tm2 F2 h2 z2) (ho : op2 o) (h5 : o = 5 → ∃ v, cd = [(0, v)] ∧ ¬ v = 0) : TmR G r c F0 z0 h0 (acc ++ cd ++ [(o, 0)]) k2 z F2 (ahU h2 z (.inr (8, [.ref tm, .ref tm2, .int (opHow o)]))) z2 := by
  obtain ⟨a1, a2, a3, a4, a5, a6⟩ := w1
  obtain ⟨b1, b2, b3, b4, b5, b6⟩ := w2
  refine ⟨b1.al (by omega), b2, b3.trans (h4.trans a3), ?_, by omega, ?_⟩
  · refine FrN.tr (FrN.tr a4 (FrN.tr (hf'.n (z := z0)) (FrN.al a5))) (FrN.tr (b4.le (by omega)) (FrN.al a5))
  · have w1' : NT h' z0 z tm acc := a6.fr (hf'.n (z := z)) hz0.1 (Nat.le_refl _) (Nat.le_refl _)
    exact w1'.join b4 hz0.1 a5 b6 b5 ho h5
theorem cC_ge {n k0 j : Nat} {R : PR} (hj : j ≤ n) (h : ∀ d kf, R = .inr (d, kf) → j ≤ kf) : 2 * (j - k0) ≤ cC n k0 R ∧ 12 * (j - k0) ≤ cS n k0 R := by
  cases R with
  | inl e => exact ⟨by show _ ≤ 2 * (n - k0) + 2; omega, by show _ ≤ 12 * (n - k0) + 12; omega⟩
  | inr q =>
    have := h q.1 q.2 rfl
    exact ⟨by show _ ≤ 2 * (q.2 - k0); omega, by show _ ≤ 12 * (q.2 - k0); omega⟩
theorem FlR.up {r z z1 : Nat} {h h1 h' : AH} {e : Int32 × Nat} {q : Nat} (w : FlR r z1 h1 e q h') (hf : FrN r z h h1) (hz : z ≤ z1) : FlR r z h e q h' := ⟨hf.tr (w.1.le hz), w.2⟩
theorem r_sumL (hpr : PCt mX4_product pProd 12) {l : Launch} {G : GG} {d r z0 k0 : Nat} {c : RC} {F0 : Nat → Int32} {h0 : AH} {P : Option Value → AH → Nat → Prop} {PX : Nat → AH → Nat → Prop} {R : PR} (hl : l.stackTraces = false) (hd : 13 ≤ d) (hz0 : r < z0 ∧ c.1 + 1 < z0) (hp : PRd G r c F0 z0 h0 R P PX) : ∀ (f k : Nat) (acc : Code9) (tm : Nat) (F : Nat → Int32) (h : AH) (z cs ss : Nat), pSumL c.2.2.1 c.2.1 f acc k = R → c.2.1 - k < f → k0 ≤ k → cs ≤ 2 * (k - k0) → ss ≤ 12 * (k - k0) → TmR G r c F0 z0 h0 acc k tm F h z → X l G mX4_sum (rmK d (cC c.2.1 k0 R) (cS c.2.1 k0 R)) (TGx G P PX (cC c.2.1 k0 R) (cS c.2.1 k0 R)) cs ss 5 [(0, .ref r), (1, .ref tm)] [] h z := by
  intro f
  induction f with
  | zero => intro k acc tm F h z cs ss _ hf; exact absurd hf (by omega)
  | succ f ih =>
  intro k acc tm F h z cs ss hR hf hk0 hcs hss w
  have hr := w.1
  have hk := w.2.1
  have hzz : z0 ≤ z := w.2.2.2.2.1
  have hkn : k ≤ c.2.1 := hk.2.2.2.2
  have hge : 2 * (k - k0) ≤ cC c.2.1 k0 R ∧ 12 * (k - k0) ≤ cS c.2.1 k0 R := cC_ge hkn (fun d kf q => (pSumL_ge _ _ _ hkn d kf (hR.trans q)).1)
  unfold pSumL at hR
  by_cases hs : sgn c.2.2.1 c.2.1 k 43 = true ∨ sgn c.2.2.1 c.2.1 k 45 = true
  · rw [if_pos hs] at hR
    have ha : k < tN c.2.2.1 c.2.1 k ∧ tN c.2.2.1 c.2.1 k ≤ c.2.1 := hs.elim (sgn_adv hkn) (sgn_adv hkn)
    have hop : op2 (if tV c.2.2.1 c.2.1 k = 43 then 2 else 3) ∧ opHow (if tV c.2.2.1 c.2.1 k = 43 then 2 else 3) = F 2 ∧ ¬ (if tV c.2.2.1 c.2.1 k = 43 then 2 else 3) = 5 := by
      rcases hs with hs | hs
      · have e1 := (hk.tc.sg (c := 43) rfl).mpr hs
        have e2 : tV c.2.2.1 c.2.1 k = 43 := by
          unfold sgn at hs
          rw [Bool.and_eq_true, decide_eq_true_eq, decide_eq_true_eq] at hs
          exact hs.2
        rw [if_pos e2, e1]
        exact ⟨Or.inl rfl, rfl, by decide⟩
      · have e1 := (hk.tc.sg (c := 45) rfl).mpr hs
        have e2 : tV c.2.2.1 c.2.1 k = 45 := by
          unfold sgn at hs
          rw [Bool.and_eq_true, decide_eq_true_eq, decide_eq_true_eq] at hs
          exact hs.2
        rw [if_neg (by rw [e2]; decide), e1]
        exact ⟨Or.inr (Or.inl rfl), rfl, by decide⟩
    obtain ⟨o, ho⟩ : ∃ o, o = (if tV c.2.2.1 c.2.1 k = 43 then 2 else 3) := ⟨_, rfl⟩
    rw [← ho] at hop hR
    have hfit : cs + 1 + cC c.2.1 (tN c.2.2.1 c.2.1 k) (pProd c.2.2.1 c.2.1 (tN c.2.2.1 c.2.1 k)) ≤ cC c.2.1 k0 R ∧ ss + 3 + cS c.2.1 (tN c.2.2.1 c.2.1 k) (pProd c.2.2.1 c.2.1 (tN c.2.2.1 c.2.1 k)) ≤ cS c.2.1 k0 R := by
      cases hu : pProd c.2.2.1 c.2.1 (tN c.2.2.1 c.2.1 k) with
      | inl e =>
        rw [hu] at hR
        rw [← hR]
        exact ⟨by show cs + 1 + (2 * (c.2.1 - tN c.2.2.1 c.2.1 k) + 2) ≤ 2 * (c.2.1 - k0) + 2; omega, by show ss + 3 + (12 * (c.2.1 - tN c.2.2.1 c.2.1 k) + 12) ≤ 12 * (c.2.1 - k0) + 12; omega⟩
      | inr q =>
        rw [hu] at hR
        obtain ⟨c2, k3⟩ := q
        have hg := pProd_g (t := c.2.2.1) ha.2 c2 k3 hu
        have := cC_ge (n := c.2.1) (k0 := k0) (j := k3) (R := R) hg.2.1 (fun d kf q => (pSumL_ge _ _ _ hg.2.1 d kf (hR.trans q)).1)
        exact ⟨by show cs + 1 + 2 * (k3 - tN c.2.2.1 c.2.1 k) ≤ _; omega, by show ss + 3 + 12 * (k3 - tN c.2.2.1 c.2.1 k) ≤ _; omega⟩
    have k32 : ∀ F' h', AtT c F' (tN c.2.2.1 c.2.1 k) → F' 4 = F 4 → IsRd G r c F' h' → FrR r h h' → X l G mX4_sum (rmK d (cC c.2.1 k0 R) (cS c.2.1 k0 R)) (TGx G P PX (cC c.2.1 k0 R) (cS c.2.1 k0 R)) cs ss 32 [(0, .ref r), (1, .ref tm), (2, .int (F 2))] [] h' z := by
      intro F' h' g1 g2 g3 g4
      refine X.newO (ci := 8) (fs := [.null, .null, .int 0]) tyX9 pkX4_sum rfl in_X9 tyX9_ok q584 q585 q110 rfl (fun j hj => by match j, hj with | 0, _ => rfl | 1, _ => rfl | 2, _ => rfl) (by show cs + 1 ≤ cC c.2.1 k0 R; omega) (by show ss + 3 ≤ cS c.2.1 k0 R; omega) ?_
      intro h8 e8
      have hr8 : IsRd G r c F' h8 := by rw [e8]; exact g3.al (by omega)
      refine X.walk wkX4_sum fnil (RetOk.x (by omega) (by omega)) ⟨by show cs + 1 ≤ cC c.2.1 k0 R; omega, by show ss + 3 ≤ cS c.2.1 k0 R; omega⟩ [39] 4 rfl ?_
      refine X.callVX (d' := d - 1) (As := []) (rest := [.int (F 2), .ref tm, .ref z, .ref z]) ckX4_112 q549 pkX4_sum rfl (hpr l G (d - 1) r (z + 1) (tN c.2.2.1 c.2.1 k) c F' h8 (fun v h' z' => ∃ cd k2, pProd c.2.2.1 c.2.1 (tN c.2.2.1 c.2.1 k) = .inr (cd, k2) ∧ ∃ tm2 F2, v = some (.ref tm2) ∧ TmR G r c F' (z + 1) h8 cd k2 tm2 F2 h' z') (fun q h' z' => ∃ e, pProd c.2.2.1 c.2.1 (tN c.2.2.1 c.2.1 k) = .inl e ∧ FlR r (z + 1) h8 e q h') hl (by omega) hr8 g1 (by omega) ⟨fun cd k2 e tm2 F2 h' z' q => ⟨cd, k2, e, tm2, F2, rfl, q⟩, fun e q a h' z' q2 => ⟨e, q, q2⟩⟩) hr8.obj rfl rfl rfl (Fit.K (by omega) (by decide) hfit.1 hfit.2) (Nat.le_of_ble_eq_true rfl) ?_ ?_
      · intro v h2 z2 hq
        obtain ⟨cd, k2, hu, tm2, F2, rfl, w2⟩ := hq
        rw [hu] at hR hfit ⊢
        have hg := pProd_g (t := c.2.2.1) ha.2 cd k2 hu
        have ho2 : h2 z = some (.inr (8, [.null, .null, .int 0])) := by rw [w2.2.2.2.1 z (by omega) (by omega), e8, ahU_s]
        have hzN : G.2.2.1.size ≤ z := by have := hr.N; omega
        refine X.callI (As := [.ref tm, .int (F 2), .ref tm2]) (rest := [.ref z]) ckX4_118 pkX4_sum rfl (c_joiI (d := d - 1) (P := fun v h' z' => v = none ∧ h' = ahU h2 z (.inr (8, [.ref tm, .ref tm2, .int (F 2)])) ∧ z' = z2) (by omega) hzN ho2 (fun h' e => ⟨rfl, e, rfl⟩)) rfl rfl (Fit.K (by omega) (by decide) hfit.1 hfit.2) (Nat.le_of_ble_eq_true rfl) ?_
        intro v9 h17 z17 hq
        obtain ⟨rfl, rfl, rfl⟩ := hq
        refine X.walk wkX4_sum fnil RetOk.no ⟨hfit.1, hfit.2⟩ [5] 2 rfl ?_
        rw [e8] at w2
        have w3 := w.join hz0 g4 g2 w2 hop.1 (fun q => absurd q hop.2.2)
        rw [hop.2.1] at w3
        have k9 := ih k2 _ z F2 _ _ (cs + 1 + cC c.2.1 (tN c.2.2.1 c.2.1 k) (.inr (cd, k2)) + 0) (ss + 3 + cS c.2.1 (tN c.2.2.1 c.2.1 k) (.inr (cd, k2)) + 0) hR (by omega) (by omega) (by show cs + 1 + 2 * (k2 - tN c.2.2.1 c.2.1 k) + 0 ≤ _; omega) (by show ss + 3 + 12 * (k2 - tN c.2.2.1 c.2.1 k) + 0 ≤ _; omega) w3
        exact X.sub k9 (fun q hq => by
          rcases List.mem_cons.mp hq with rfl | hq
          · exact List.mem_cons_self
          · rcases List.mem_cons.mp hq with rfl | hq
            · exact List.mem_cons_of_mem _ List.mem_cons_self
            · exact absurd hq List.not_mem_nil)
      · intro q h2 z2 fs hq hfs
        obtain ⟨e, hu, hfl⟩ := hq
        have hRe : R = .inl e := by rw [hu] at hR; exact hR.symm
        refine XThr.out ?_ hfs hfit.1 hfit.2
        refine hp.2 e hRe q h2 z2 (hfl.up ?_ (by omega))
        rw [e8]
        exact FrN.tr (w.2.2.2.1.tr (g4.n)) (FrN.al hzz)
    refine X.walk wkX4_sum (fcons (ceV r_next rmV0 ckX4_106 rfl rrV0 (by omega) rfl) fnil) (RetOk.x (by omega) (by omega)) ⟨by show cs ≤ cC c.2.1 k0 R; omega, by show ss ≤ cS c.2.1 k0 R; omega⟩ [32, 49] 14 rfl ?_
    refine gF hr.obj ?_
    refine And.intro (fun b11 => ?_) (fun b11 => ?_)
    · refine gF hr.obj ?_
      refine Exists.intro _ (Exists.intro _ (Exists.intro _ (And.intro hr (And.intro hk.nx ?_))))
      intro F' h' p g3 g4
      obtain ⟨g1, g2⟩ := AtT.of p hk.nx.2
      exact k32 F' h' g1 g2 g3 g4
    · refine gF hr.obj ?_
      refine And.intro (fun b20 => ?_) (fun b20 => ?_)
      · simp only [cP, cN, bI_0, Bool.not_eq_false, lt_nle, Decidable.not_not] at b11 b20
        exact hs.elim (fun q => absurd ((hk.tc.sg (c := 43) rfl).mpr q) b11) (fun q => absurd ((hk.tc.sg (c := 45) rfl).mpr q) b20)
      · refine gF hr.obj ?_
        refine Exists.intro _ (Exists.intro _ (Exists.intro _ (And.intro hr (And.intro hk.nx ?_))))
        intro F' h' p g3 g4
        obtain ⟨g1, g2⟩ := AtT.of p hk.nx.2
        exact k32 F' h' g1 g2 g3 g4
  · rw [if_neg hs] at hR
    refine X.walk wkX4_sum fnil (RetOk.x (by omega) (by omega)) ⟨by show cs ≤ cC c.2.1 k0 R; omega, by show ss ≤ cS c.2.1 k0 R; omega⟩ [23] 10 rfl ?_
    refine gF hr.obj ?_
    refine And.intro (fun b11 => ?_) (fun b11 => ?_)
    · simp only [cP, cN, bI_0, Bool.not_eq_false, lt_nle, Decidable.not_not] at b11
      exact absurd (Or.inl ((hk.tc.sg (c := 43) rfl).mp b11)) hs
    · refine gF hr.obj ?_
      refine And.intro (fun b20 => ?_) (fun b20 => ?_)
      · exact hp.1 acc k hR.symm tm F h z w
      · simp only [cP, cN, bI_0, Bool.not_eq_false, lt_nle, Decidable.not_not] at b20
        exact absurd (Or.inr ((hk.tc.sg (c := 45) rfl).mp b20)) hs
theorem r_sum (hpr : PCt mX4_product pProd 12) : PCt mX4_sum pSum 13 := by
  intro l G d r z k c F h P PX hl hd hr hk hz hp
  have hkn : k ≤ c.2.1 := hk.2.2.2.2
  obtain ⟨R, hR⟩ : ∃ R, R = pSum c.2.2.1 c.2.1 k := ⟨_, rfl⟩
  rw [← hR] at hp ⊢
  have hR2 := hR
  unfold pSum at hR2
  refine CtX.of rfl (Nat.le_of_ble_eq_true rfl) rfl ?_
  refine X.walk wkX4_sum fnil RetOk.no ⟨Nat.zero_le _, Nat.zero_le _⟩ [1] 1 rfl ?_
  have hfit : 0 + cC c.2.1 k (pProd c.2.2.1 c.2.1 k) ≤ cC c.2.1 k R ∧ 0 + cS c.2.1 k (pProd c.2.2.1 c.2.1 k) ≤ cS c.2.1 k R := by
    cases hu : pProd c.2.2.1 c.2.1 k with
    | inl e =>
      rw [hu] at hR2
      rw [hR2, Nat.zero_add, Nat.zero_add]
      exact ⟨Nat.le_refl _, Nat.le_refl _⟩
    | inr q =>
      rw [hu] at hR2
      obtain ⟨c2, k3⟩ := q
      have hg := pProd_g (t := c.2.2.1) hkn c2 k3 hu
      have := cC_ge (n := c.2.1) (k0 := k) (j := k3) (R := R) hg.2.1 (fun d kf q => (pSumL_ge _ _ _ hg.2.1 d kf (hR2.symm.trans q)).1)
      exact ⟨by show 0 + 2 * (k3 - k) ≤ _; omega, by show 0 + 12 * (k3 - k) ≤ _; omega⟩
  refine X.callVX (d' := d - 1) (As := []) (rest := []) ckX4_112 q549 pkX4_sum rfl (hpr l G (d - 1) r z k c F h (fun v h' z' => ∃ cd k2, pProd c.2.2.1 c.2.1 k = .inr (cd, k2) ∧ ∃ tm2 F2, v = some (.ref tm2) ∧ TmR G r c F z h cd k2 tm2 F2 h' z') (fun q h' z' => ∃ e, pProd c.2.2.1 c.2.1 k = .inl e ∧ FlR r z h e q h') hl (by omega) hr hk hz ⟨fun cd k2 e tm2 F2 h' z' q => ⟨cd, k2, e, tm2, F2, rfl, q⟩, fun e q a h' z' q2 => ⟨e, q, q2⟩⟩) hr.obj rfl rfl rfl (Fit.K (by omega) (by decide) hfit.1 hfit.2) (Nat.le_of_ble_eq_true rfl) ?_ ?_
  · intro v h2 z2 hq
    obtain ⟨cd, k2, hu, tm2, F2, rfl, w2⟩ := hq
    rw [hu] at hR2 hfit ⊢
    have hg := pProd_g (t := c.2.2.1) hkn cd k2 hu
    refine X.walk wkX4_sum fnil RetOk.no ⟨hfit.1, hfit.2⟩ [5] 1 rfl ?_
    exact r_sumL hpr hl hd hz hp (c.2.1 + 1) k2 cd tm2 F2 h2 z2 _ _ hR2.symm (by omega) (by omega) (by show 0 + 2 * (k2 - k) ≤ _; omega) (by show 0 + 12 * (k2 - k) ≤ _; omega) w2
  · intro q h2 z2 fs hq hfs
    obtain ⟨e, hu, hfl⟩ := hq
    have hRe : R = .inl e := by rw [hu] at hR2; exact hR2
    exact XThr.out (hp.2 e hRe q h2 z2 hfl) hfs hfit.1 hfit.2
