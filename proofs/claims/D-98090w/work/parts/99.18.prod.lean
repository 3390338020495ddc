set_option maxRecDepth 100000
/-! THE READER: product -/
theorem pProdL_ge {t : Nat → Int32} {n : Nat} : ∀ (f : Nat) (c : Code9) (k1 : Nat), k1 ≤ n → ∀ d k2, pProdL t n f c k1 = .inr (d, k2) → k1 ≤ k2 ∧ k2 ≤ n
  | 0, c, k1, h2, d, k2, h => by cases h; exact ⟨Nat.le_refl _, h2⟩
  | f + 1, c, k1, h2, d, k2, h => by
    unfold pProdL at h
    split at h
    · rename_i hs
      have ha : k1 < tN t n k1 ∧ tN t n k1 ≤ n := sgn_adv h2 hs
      cases hu : pUnit t n (tN t n k1) with
      | inl e => rw [hu] at h; cases h
      | inr q =>
        rw [hu] at h
        obtain ⟨c2, k3⟩ := q
        have hg := pUnit_g (t := t) ha.2 c2 k3 hu
        have := pProdL_ge f _ k3 hg.2.1 d k2 h
        omega
    · split at h
      · rename_i hs
        have ha : k1 < tN t n k1 ∧ tN t n k1 ≤ n := sgn_adv h2 hs
        split at h
        · rename_i h3
          split at h
          · cases h
          · have hb := tN_adv ha.2 (fun q => by rw [h3] at q; exact absurd q (by decide))
            have := pProdL_ge f _ _ hb.2 d k2 h
            omega
        · cases h
      · cases h
        exact ⟨Nat.le_refl _, h2⟩
theorem r_prodL {l : Launch} {G : GG} {d r z0 k0 : Nat} {c : RC} {F0 : Nat → Int32} {h0 : AH} {P : Option Value → AH → Nat → Prop} {PX : Nat → AH → Nat → Prop} {R : PR} (hl : l.stackTraces = false) (hd : 12 ≤ d) (hz0 : r < z0 ∧ c.1 + 1 < z0) (hp : PRd G r c F0 z0 h0 R P PX) : ∀ (f k : Nat) (acc : Code9) (tm : Nat) (F : Nat → Int32) (h : AH) (z cs ss : Nat), pProdL c.2.2.1 c.2.1 f acc k = R → c.2.1 - k < f → k0 ≤ k → cs ≤ 2 * (k - k0) → ss ≤ 12 * (k - k0) → TmR G r c F0 z0 h0 acc k tm F h z → X l G mX4_product (rmK d (cC c.2.1 k0 R) (cS c.2.1 k0 R)) (TGx G P PX (cC c.2.1 k0 R) (cS c.2.1 k0 R)) cs ss 5 [(0, .ref r), (1, .ref tm)] [] h z := by
  intro f
  induction f with
  | zero => intro k acc tm F h z cs ss _ hf; exact absurd hf (by omega)
  | succ f ih =>
  intro k acc tm F h z cs ss hR hf hk0 hcs hss w
  have hr := w.1
  have hk := w.2.1
  have hzz : z0 ≤ z := w.2.2.2.2.1
  have hkn : k ≤ c.2.1 := hk.2.2.2.2
  have hge : 2 * (k - k0) ≤ cC c.2.1 k0 R ∧ 12 * (k - k0) ≤ cS c.2.1 k0 R := cC_ge hkn (fun d kf q => (pProdL_ge _ _ _ hkn d kf (hR.trans q)).1)
  unfold pProdL at hR
  by_cases hs : sgn c.2.2.1 c.2.1 k 42 = true
  · rw [if_pos hs] at hR
    have ha : k < tN c.2.2.1 c.2.1 k ∧ tN c.2.2.1 c.2.1 k ≤ c.2.1 := sgn_adv hkn hs
    have e42 : F 2 = 42 := (hk.tc.sg (c := 42) rfl).mpr hs
    have hop : op2 4 ∧ opHow 4 = F 2 ∧ ¬ 4 = 5 := ⟨Or.inr (Or.inr (Or.inl rfl)), e42.symm, by decide⟩
    have hfit : cs + 1 + cC c.2.1 (tN c.2.2.1 c.2.1 k) (pUnit c.2.2.1 c.2.1 (tN c.2.2.1 c.2.1 k)) ≤ cC c.2.1 k0 R ∧ ss + 3 + cS c.2.1 (tN c.2.2.1 c.2.1 k) (pUnit c.2.2.1 c.2.1 (tN c.2.2.1 c.2.1 k)) ≤ cS c.2.1 k0 R := by
      cases hu : pUnit c.2.2.1 c.2.1 (tN c.2.2.1 c.2.1 k) with
      | inl e =>
        rw [hu] at hR
        rw [← hR]
        exact ⟨by show cs + 1 + (2 * (c.2.1 - tN c.2.2.1 c.2.1 k) + 2) ≤ 2 * (c.2.1 - k0) + 2; omega, by show ss + 3 + (12 * (c.2.1 - tN c.2.2.1 c.2.1 k) + 12) ≤ 12 * (c.2.1 - k0) + 12; omega⟩
      | inr q =>
        rw [hu] at hR
        obtain ⟨c2, k3⟩ := q
        have hg := pUnit_g (t := c.2.2.1) ha.2 c2 k3 hu
        have := cC_ge (n := c.2.1) (k0 := k0) (j := k3) (R := R) hg.2.1 (fun d kf q => (pProdL_ge _ _ _ hg.2.1 d kf (hR.trans q)).1)
        exact ⟨by show cs + 1 + 2 * (k3 - tN c.2.2.1 c.2.1 k) ≤ _; omega, by show ss + 3 + 12 * (k3 - tN c.2.2.1 c.2.1 k) ≤ _; omega⟩
    have k32 : ∀ F' h', AtT c F' (tN c.2.2.1 c.2.1 k) → F' 4 = F 4 → IsRd G r c F' h' → FrR r h h' → X l G mX4_product (rmK d (cC c.2.1 k0 R) (cS c.2.1 k0 R)) (TGx G P PX (cC c.2.1 k0 R) (cS c.2.1 k0 R)) cs ss 32 [(0, .ref r), (1, .ref tm), (2, .int (F 2))] [] h' z := by
      intro F' h' g1 g2 g3 g4
      refine X.newO (ci := 8) (fs := [.null, .null, .int 0]) tyX9 pkX4_product rfl in_X9 tyX9_ok q584 q585 q110 rfl (fun j hj => by match j, hj with | 0, _ => rfl | 1, _ => rfl | 2, _ => rfl) (by show cs + 1 ≤ cC c.2.1 k0 R; omega) (by show ss + 3 ≤ cS c.2.1 k0 R; omega) ?_
      intro h8 e8
      have hr8 : IsRd G r c F' h8 := by rw [e8]; exact g3.al (by omega)
      refine X.walk wkX4_product fnil (RetOk.x (by omega) (by omega)) ⟨by show cs + 1 ≤ cC c.2.1 k0 R; omega, by show ss + 3 ≤ cS c.2.1 k0 R; omega⟩ [44, 60] 7 rfl ?_
      refine And.intro (fun b41 => ?_) (fun b41 => ?_)
      rotate_left 1
      · simp only [cP, cN, bI_0, Bool.not_eq_false, lt_nle, Decidable.not_not] at b41
        rw [e42] at b41
        exact absurd b41 (by decide)
      refine X.callVX (d' := d - 1) (As := []) (rest := [.int (F 2), .ref tm, .ref z, .ref z]) ckX4_121 q553 pkX4_product rfl (r_unit l G (d - 1) r (z + 1) (tN c.2.2.1 c.2.1 k) c F' h8 (fun v h' z' => ∃ cd k2, pUnit c.2.2.1 c.2.1 (tN c.2.2.1 c.2.1 k) = .inr (cd, k2) ∧ ∃ tm2 F2, v = some (.ref tm2) ∧ TmR G r c F' (z + 1) h8 cd k2 tm2 F2 h' z') (fun q h' z' => ∃ e, pUnit c.2.2.1 c.2.1 (tN c.2.2.1 c.2.1 k) = .inl e ∧ FlR r (z + 1) h8 e q h') hl (by omega) hr8 g1 (by omega) ⟨fun cd k2 e tm2 F2 h' z' q => ⟨cd, k2, e, tm2, F2, rfl, q⟩, fun e q a h' z' q2 => ⟨e, q, q2⟩⟩) hr8.obj rfl rfl rfl (Fit.K (by omega) (by decide) hfit.1 hfit.2) (Nat.le_of_ble_eq_true rfl) ?_ ?_
      · intro v h2 z2 hq
        obtain ⟨cd, k2, hu, tm2, F2, rfl, w2⟩ := hq
        rw [hu] at hR hfit ⊢
        have hg := pUnit_g (t := c.2.2.1) ha.2 cd k2 hu
        have ho2 : h2 z = some (.inr (8, [.null, .null, .int 0])) := by rw [w2.2.2.2.1 z (by omega) (by omega), e8, ahU_s]
        have hzN : G.2.2.1.size ≤ z := by have := hr.N; omega
        refine X.callI (As := [.ref tm, .int (F 2), .ref tm2]) (rest := [.ref z]) ckX4_118 pkX4_product rfl (c_joiI (d := d - 1) (P := fun v h' z' => v = none ∧ h' = ahU h2 z (.inr (8, [.ref tm, .ref tm2, .int (F 2)])) ∧ z' = z2) (by omega) hzN ho2 (fun h' e => ⟨rfl, e, rfl⟩)) rfl rfl (Fit.K (by omega) (by decide) hfit.1 hfit.2) (Nat.le_of_ble_eq_true rfl) ?_
        intro v9 h17 z17 hq
        obtain ⟨rfl, rfl, rfl⟩ := hq
        refine X.walk wkX4_product fnil RetOk.no ⟨hfit.1, hfit.2⟩ [5] 2 rfl ?_
        rw [e8] at w2
        have w3 := w.join hz0 g4 g2 w2 hop.1 (fun q => absurd q hop.2.2)
        rw [hop.2.1] at w3
        have k9 := ih k2 _ z F2 _ _ (cs + 1 + cC c.2.1 (tN c.2.2.1 c.2.1 k) (.inr (cd, k2)) + 0) (ss + 3 + cS c.2.1 (tN c.2.2.1 c.2.1 k) (.inr (cd, k2)) + 0) hR (by omega) (by omega) (by show cs + 1 + 2 * (k2 - tN c.2.2.1 c.2.1 k) + 0 ≤ _; omega) (by show ss + 3 + 12 * (k2 - tN c.2.2.1 c.2.1 k) + 0 ≤ _; omega) w3
        exact X.sub k9 (fun q hq => by
          rcases List.mem_cons.mp hq with rfl | hq
          · exact List.mem_cons_self
          · rcases List.mem_cons.mp hq with rfl | hq
            · exact List.mem_cons_of_mem _ List.mem_cons_self
            · exact absurd hq List.not_mem_nil)
      · intro q h2 z2 fs hq hfs
        obtain ⟨e, hu, hfl⟩ := hq
        have hRe : R = .inl e := by rw [hu] at hR; exact hR.symm
        refine XThr.out ?_ hfs hfit.1 hfit.2
        refine hp.2 e hRe q h2 z2 (hfl.up ?_ (by omega))
        rw [e8]
        exact FrN.tr (w.2.2.2.1.tr (g4.n)) (FrN.al hzz)
    refine X.walk wkX4_product (fcons (ceV r_next rmV0 ckX4_106 rfl rrV0 (by omega) rfl) fnil) (RetOk.x (by omega) (by omega)) ⟨by show cs ≤ cC c.2.1 k0 R; omega, by show ss ≤ cS c.2.1 k0 R; omega⟩ [32, 70] 14 rfl ?_
    refine gF hr.obj ?_
    refine And.intro (fun b11 => ?_) (fun b11 => ?_)
    · refine gF hr.obj ?_
      refine Exists.intro _ (Exists.intro _ (Exists.intro _ (And.intro hr (And.intro hk.nx ?_))))
      intro F' h' p g3 g4
      obtain ⟨g1, g2⟩ := AtT.of p hk.nx.2
      exact k32 F' h' g1 g2 g3 g4
    · simp only [cP, cN, bI_0, Bool.not_eq_false, lt_nle, Decidable.not_not] at b11
      exact absurd e42 b11
  · rw [if_neg hs] at hR
    by_cases hs7 : sgn c.2.2.1 c.2.1 k 47 = true
    · rw [if_pos hs7] at hR
      have ha : k < tN c.2.2.1 c.2.1 k ∧ tN c.2.2.1 c.2.1 k ≤ c.2.1 := sgn_adv hkn hs7
      have e47 : F 2 = 47 := (hk.tc.sg (c := 47) rfl).mpr hs7
      obtain ⟨kk, hkk⟩ : ∃ kk, kk = tN c.2.2.1 c.2.1 k := ⟨_, rfl⟩
      have hfit : cs + 3 ≤ cC c.2.1 k0 R ∧ ss + 12 ≤ cS c.2.1 k0 R := by
        by_cases h3 : tK c.2.2.1 c.2.1 (tN c.2.2.1 c.2.1 k) = 3
        · rw [if_pos h3] at hR
          have hb := tN_adv ha.2 (fun q => by rw [h3] at q; exact absurd q (by decide))
          by_cases h0 : tV c.2.2.1 c.2.1 (tN c.2.2.1 c.2.1 k) = 0
          · rw [if_pos h0] at hR
            rw [← hR]
            exact ⟨by show cs + 3 ≤ 2 * (c.2.1 - k0) + 2; omega, by show ss + 12 ≤ 12 * (c.2.1 - k0) + 12; omega⟩
          · rw [if_neg h0] at hR
            have := cC_ge (n := c.2.1) (k0 := k0) (R := R) hb.2 (fun d kf q => (pProdL_ge _ _ _ hb.2 d kf (hR.trans q)).1)
            exact ⟨by omega, by omega⟩
        · rw [if_neg h3] at hR
          rw [← hR]
          exact ⟨by show cs + 3 ≤ 2 * (c.2.1 - k0) + 2; omega, by show ss + 12 ≤ 12 * (c.2.1 - k0) + 12; omega⟩
      have hzN : G.2.2.1.size ≤ z := by have := hr.N; omega
      have k32 : ∀ F' h', AtT c F' (tN c.2.2.1 c.2.1 k) → F' 4 = F 4 → IsRd G r c F' h' → FrR r h h' → X l G mX4_product (rmK d (cC c.2.1 k0 R) (cS c.2.1 k0 R)) (TGx G P PX (cC c.2.1 k0 R) (cS c.2.1 k0 R)) cs ss 32 [(0, .ref r), (1, .ref tm), (2, .int (F 2))] [] h' z := by
        intro F' h' g1 g2 g3 g4
        refine X.newO (ci := 8) (fs := [.null, .null, .int 0]) tyX9 pkX4_product rfl in_X9 tyX9_ok q584 q585 q110 rfl (fun j hj => by match j, hj with | 0, _ => rfl | 1, _ => rfl | 2, _ => rfl) (by show cs + 1 ≤ cC c.2.1 k0 R; omega) (by show ss + 3 ≤ cS c.2.1 k0 R; omega) ?_
        intro h8 e8
        have hr8 : IsRd G r c F' h8 := by rw [e8]; exact g3.al (by omega)
        refine X.walk wkX4_product fnil (RetOk.x (by omega) (by omega)) ⟨by show cs + 1 ≤ cC c.2.1 k0 R; omega, by show ss + 3 ≤ cS c.2.1 k0 R; omega⟩ [44, 59] 6 rfl ?_
        refine And.intro (fun b41 => ?_) (fun b41 => ?_)
        · simp only [cP, cN, bI_0, Bool.not_eq_false, lt_nle, Decidable.not_not] at b41
          exact absurd e47 b41
        refine X.newO (ci := 6) (fs := [.int 0]) tyX7 pkX4_product rfl in_X7 tyX7_ok q557 q558 q108 rfl (fun j hj => by match j, hj with | 0, _ => rfl) (by show cs + 1 + 1 ≤ cC c.2.1 k0 R; omega) (by show ss + 3 + 1 ≤ cS c.2.1 k0 R; omega) ?_
        intro h9 e9
        have hr9 : IsRd G r c F' h9 := by rw [e9]; exact hr8.al (by omega)
        refine X.walk wkX4_product fnil (RetOk.x (by omega) (by omega)) ⟨by show cs + 1 + 1 ≤ cC c.2.1 k0 R; omega, by show ss + 3 + 1 ≤ cS c.2.1 k0 R; omega⟩ [50] 3 rfl ?_
        refine X.callVX (d' := d - 1) (As := [.int 1]) (rest := [.ref (z + 1), .ref (z + 1), .int (F 2), .ref tm, .ref z, .ref z]) ckX4_126 q559 pkX4_product rfl (r_number (d := d - 1) (P := fun v h' z' => tK c.2.2.1 c.2.1 (tN c.2.2.1 c.2.1 k) = 3 ∧ 1 ≤ tV c.2.2.1 c.2.1 (tN c.2.2.1 c.2.1 k) ∧ v = some (.int (tV c.2.2.1 c.2.1 (tN c.2.2.1 c.2.1 k))) ∧ z' = z + 1 + 1 ∧ ∃ F2, AtT c F2 (tN c.2.2.1 c.2.1 (tN c.2.2.1 c.2.1 k)) ∧ F2 4 = F' 4 ∧ IsRd G r c F2 h' ∧ FrR r h9 h') (PX := fun q h' z' => ∃ e, R = .inl e ∧ FlR r (z + 1 + 1) h9 e q h') hl (by omega) hr9 g1 (fun a1 a2 F' h' g1 g2 g3 g4 => ⟨a1, a2, rfl, rfl, F', g1, g2, g3, g4⟩) (fun q fs hfs => ⟨_, by rw [if_neg q] at hR; exact hR.symm, FrN.al (Nat.le_refl _), fs, hfs, ahU_s⟩) (fun a1 a2 fs hfs => ?_)) hr9.obj rfl rfl rfl (Fit.K (by omega) (by decide) (by omega) (by omega)) (Nat.le_of_ble_eq_true rfl) ?_ ?_
        · obtain ⟨v, hv, ev⟩ := tV_nn ha.2 a1
          have v0 : tV c.2.2.1 c.2.1 (tN c.2.2.1 c.2.1 k) = 0 := by
            rw [ev, show (1 : Int32) = nI 1 from rfl, nI_leI (by decide) (by omega)] at a2
            rw [ev, show v = 0 from by omega]
            rfl
          exact ⟨_, by rw [if_pos a1, if_pos v0] at hR; exact hR.symm, FrN.al (Nat.le_refl _), fs, hfs, ahU_s⟩
        · intro v9 h14 z14 hq
          obtain ⟨a1, a2, rfl, rfl, F2, b1, b2, b3, b4⟩ := hq
          have v0 : ¬ tV c.2.2.1 c.2.1 (tN c.2.2.1 c.2.1 k) = 0 := fun q => by rw [q] at a2; exact absurd a2 (by decide)
          rw [if_pos a1, if_neg v0] at hR
          have hb := tN_adv ha.2 (fun q => by rw [a1] at q; exact absurd q (by decide))
          have o9 : h14 (z + 1) = some (.inr (6, [.int 0])) := by rw [b4 (z + 1) (by omega), e9, ahU_s]
          have o8 : h14 z = some (.inr (8, [.null, .null, .int 0])) := by rw [b4 z (by omega), e9, ahU_n (by omega), e8, ahU_s]
          refine X.callI (As := [.int (tV c.2.2.1 c.2.1 (tN c.2.2.1 c.2.1 k))]) (rest := [.ref (z + 1), .int (F 2), .ref tm, .ref z, .ref z]) ckX4_130 pkX4_product rfl (c_fixI (d := d - 1) (P := fun v h' z' => v = none ∧ h' = ahU h14 (z + 1) (.inr (6, [.int (tV c.2.2.1 c.2.1 (tN c.2.2.1 c.2.1 k))])) ∧ z' = z + 1 + 1) (by omega) (by omega) o9 (fun h' e => ⟨rfl, e, rfl⟩)) rfl rfl (Fit.K (by omega) (by decide) (by omega) (by omega)) (Nat.le_of_ble_eq_true rfl) ?_
          intro v9 h17 z17 hq
          obtain ⟨rfl, rfl, rfl⟩ := hq
          refine X.walk wkX4_product fnil RetOk.no ⟨by show cs + 1 + 1 + 1 + 0 ≤ cC c.2.1 k0 R; omega, by show ss + 3 + 1 + 8 + 0 ≤ cS c.2.1 k0 R; omega⟩ [63] 1 rfl ?_
          have w2 : TmR G r c F' (z + 1) (ahU h' z (.inr (8, [.null, .null, .int 0]))) [(0, tV c.2.2.1 c.2.1 (tN c.2.2.1 c.2.1 k))] (tN c.2.2.1 c.2.1 (tN c.2.2.1 c.2.1 k)) (z + 1) F2 (ahU h14 (z + 1) (.inr (6, [.int (tV c.2.2.1 c.2.1 (tN c.2.2.1 c.2.1 k))]))) (z + 1 + 1) := by
            refine ⟨b3.al (by omega), b1, b2, ?_, by omega, ?_⟩
            · rw [← e8]
              refine FrN.tr (FrN.tr (h1 := h9) ?_ b4.n) (FrN.al (Nat.le_refl _))
              rw [e9]
              exact FrN.al (Nat.le_refl _)
            · refine Or.inl ⟨_, ?_, rfl⟩
              unfold cutz
              rw [if_pos (by omega), ahU_s]
          refine X.callI (As := [.ref tm, .int (F 2), .ref (z + 1)]) (rest := [.ref z]) ckX4_118 pkX4_product rfl (c_joiI (d := d - 1) (P := fun v h' z' => v = none ∧ h' = ahU (ahU h14 (z + 1) (.inr (6, [.int (tV c.2.2.1 c.2.1 (tN c.2.2.1 c.2.1 k))]))) z (.inr (8, [.ref tm, .ref (z + 1), .int (F 2)])) ∧ z' = z + 1 + 1) (by omega) hzN (by rw [ahU_n (by omega)]; exact o8) (fun h' e => ⟨rfl, e, rfl⟩)) rfl rfl (Fit.K (by omega) (by decide) (by omega) (by omega)) (Nat.le_of_ble_eq_true rfl) ?_
          intro v9 h17 z17 hq
          obtain ⟨rfl, rfl, rfl⟩ := hq
          refine X.walk wkX4_product fnil RetOk.no ⟨by show cs + 1 + 1 + 1 + 0 + 0 ≤ cC c.2.1 k0 R; omega, by show ss + 3 + 1 + 8 + 0 + 0 ≤ cS c.2.1 k0 R; omega⟩ [5] 2 rfl ?_
          have w3 := w.join hz0 g4 g2 w2 (o := 5) (Or.inr (Or.inr (Or.inr (Or.inl rfl)))) (fun _ => ⟨_, rfl, v0⟩)
          rw [show opHow 5 = F 2 from e47.symm] at w3
          have k9 := ih _ _ z F2 _ _ (cs + 1 + 1 + 1 + 0 + 0) (ss + 3 + 1 + 8 + 0 + 0) hR (by omega) (by omega) (by omega) (by omega) w3
          exact X.sub k9 (fun q hq => by
            rcases List.mem_cons.mp hq with rfl | hq
            · exact List.mem_cons_self
            · rcases List.mem_cons.mp hq with rfl | hq
              · exact List.mem_cons_of_mem _ List.mem_cons_self
              · exact absurd hq List.not_mem_nil)
        · intro q h2 z2 fs hq hfs
          obtain ⟨e, hRe, hfl⟩ := hq
          refine XThr.out ?_ hfs (by omega) (by omega)
          refine hp.2 e hRe q h2 z2 (hfl.up ?_ (by omega))
          rw [e9, e8]
          exact FrN.tr (FrN.tr (w.2.2.2.1.tr (g4.n)) (FrN.al hzz)) (FrN.al (by omega))
      refine X.walk wkX4_product (fcons (ceV r_next rmV0 ckX4_106 rfl rrV0 (by omega) rfl) fnil) (RetOk.x (by omega) (by omega)) ⟨by show cs ≤ cC c.2.1 k0 R; omega, by show ss ≤ cS c.2.1 k0 R; omega⟩ [32, 70] 14 rfl ?_
      refine gF hr.obj ?_
      refine And.intro (fun b11 => ?_) (fun b11 => ?_)
      · simp only [cP, cN, bI_0, Bool.not_eq_false, lt_nle, Decidable.not_not] at b11
        exact absurd ((hk.tc.sg (c := 42) rfl).mp b11) hs
      · refine gF hr.obj ?_
        refine And.intro (fun b20 => ?_) (fun b20 => ?_)
        · simp only [cP, cN, bI_0, Bool.not_eq_false, lt_nle, Decidable.not_not] at b20
          exact absurd e47 b20
        · refine gF hr.obj ?_
          refine Exists.intro _ (Exists.intro _ (Exists.intro _ (And.intro hr (And.intro hk.nx ?_))))
          intro F' h' p g3 g4
          obtain ⟨g1, g2⟩ := AtT.of p hk.nx.2
          exact k32 F' h' g1 g2 g3 g4
    · rw [if_neg hs7] at hR
      refine X.walk wkX4_product fnil (RetOk.x (by omega) (by omega)) ⟨by show cs ≤ cC c.2.1 k0 R; omega, by show ss ≤ cS c.2.1 k0 R; omega⟩ [23] 10 rfl ?_
      refine gF hr.obj ?_
      refine And.intro (fun b11 => ?_) (fun b11 => ?_)
      · simp only [cP, cN, bI_0, Bool.not_eq_false, lt_nle, Decidable.not_not] at b11
        exact absurd ((hk.tc.sg (c := 42) rfl).mp b11) hs
      · refine gF hr.obj ?_
        refine And.intro (fun b20 => ?_) (fun b20 => ?_)
        · exact hp.1 acc k hR.symm tm F h z w
        · simp only [cP, cN, bI_0, Bool.not_eq_false, lt_nle, Decidable.not_not] at b20
          exact absurd ((hk.tc.sg (c := 47) rfl).mp b20) hs7
theorem r_product : PCt mX4_product pProd 12 := by
  intro l G d r z k c F h P PX hl hd hr hk hz hp
  have hkn : k ≤ c.2.1 := hk.2.2.2.2
  obtain ⟨R, hR⟩ : ∃ R, R = pProd c.2.2.1 c.2.1 k := ⟨_, rfl⟩
  rw [← hR] at hp ⊢
  have hR2 := hR
  unfold pProd at hR2
  refine CtX.of rfl (Nat.le_of_ble_eq_true rfl) rfl ?_
  refine X.walk wkX4_product fnil RetOk.no ⟨Nat.zero_le _, Nat.zero_le _⟩ [1] 1 rfl ?_
  have hfit : 0 + cC c.2.1 k (pUnit c.2.2.1 c.2.1 k) ≤ cC c.2.1 k R ∧ 0 + cS c.2.1 k (pUnit c.2.2.1 c.2.1 k) ≤ cS c.2.1 k R := by
    cases hu : pUnit c.2.2.1 c.2.1 k with
    | inl e =>
      rw [hu] at hR2
      rw [hR2, Nat.zero_add, Nat.zero_add]
      exact ⟨Nat.le_refl _, Nat.le_refl _⟩
    | inr q =>
      rw [hu] at hR2
      obtain ⟨c2, k3⟩ := q
      have hg := pUnit_g (t := c.2.2.1) hkn c2 k3 hu
      have := cC_ge (n := c.2.1) (k0 := k) (j := k3) (R := R) hg.2.1 (fun d kf q => (pProdL_ge _ _ _ hg.2.1 d kf (hR2.symm.trans q)).1)
      exact ⟨by show 0 + 2 * (k3 - k) ≤ _; omega, by show 0 + 12 * (k3 - k) ≤ _; omega⟩
  refine X.callVX (d' := d - 1) (As := []) (rest := []) ckX4_121 q553 pkX4_product rfl (r_unit l G (d - 1) r z k c F h (fun v h' z' => ∃ cd k2, pUnit c.2.2.1 c.2.1 k = .inr (cd, k2) ∧ ∃ tm2 F2, v = some (.ref tm2) ∧ TmR G r c F z h cd k2 tm2 F2 h' z') (fun q h' z' => ∃ e, pUnit c.2.2.1 c.2.1 k = .inl e ∧ FlR r z h e q h') hl (by omega) hr hk hz ⟨fun cd k2 e tm2 F2 h' z' q => ⟨cd, k2, e, tm2, F2, rfl, q⟩, fun e q a h' z' q2 => ⟨e, q, q2⟩⟩) hr.obj rfl rfl rfl (Fit.K (by omega) (by decide) hfit.1 hfit.2) (Nat.le_of_ble_eq_true rfl) ?_ ?_
  · intro v h2 z2 hq
    obtain ⟨cd, k2, hu, tm2, F2, rfl, w2⟩ := hq
    rw [hu] at hR2 hfit ⊢
    have hg := pUnit_g (t := c.2.2.1) hkn cd k2 hu
    refine X.walk wkX4_product fnil RetOk.no ⟨hfit.1, hfit.2⟩ [5] 1 rfl ?_
    exact r_prodL hl hd hz hp (c.2.1 + 1) k2 cd tm2 F2 h2 z2 _ _ hR2.symm (by omega) (by omega) (by show 0 + 2 * (k2 - k) ≤ _; omega) (by show 0 + 12 * (k2 - k) ≤ _; omega) w2
  · intro q h2 z2 fs hq hfs
    obtain ⟨e, hu, hfl⟩ := hq
    have hRe : R = .inl e := by rw [hu] at hR2; exact hR2
    exact XThr.out (hp.2 e hRe q h2 z2 hfl) hfs hfit.1 hfit.2
theorem r_sum2 : PCt mX4_sum pSum 13 := r_sum r_product
