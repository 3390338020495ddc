set_option maxRecDepth 100000
/-! THE READER: a word against a literal -/
theorem lit_w : ∀ i, i < 14 → litL.getD i 0 = wL i ∧ ∀ k, k < wL i → litC i k = wtab (wP i + 1 + k) := by decide
theorem byte_of : ∀ q, q < 256 → ((Int8.ofNat q).toInt32 &&& 255) = nI q ∧ (q < 128 → (Int8.ofNat q).toInt32 = nI q) := by decide +kernel
theorem byte_let {a : Int32} {y : Nat} (h1 : (a &&& 255) = nI y) (h2 : y < 128) (h3 : a = a.toInt8.toInt32) : a = nI y := by
  obtain ⟨q, hq, e⟩ : ∃ q, q < 256 ∧ a.toInt8 = Int8.ofNat q := by
    refine ⟨a.toInt8.toBitVec.toNat, a.toInt8.toBitVec.isLt, ?_⟩
    apply Int8.toBitVec_inj.1
    simp
  obtain ⟨e1, e2⟩ := byte_of q hq
  rw [e] at h3
  rw [h3, e1] at h1
  have := (nI_eq (by omega) (by omega)).mp h1
  subst this
  rw [h3]
  exact e2 h2
theorem let_lt {c : Int32} {y : Nat} (h : letB c = true) (e : c = nI y) (hy : y < 256) : y < 128 := by
  unfold letB at h
  rw [Bool.or_eq_true] at h
  rcases h with h | h
  · obtain ⟨k, h1, h2, h3⟩ := isInB_nI (a := 97) (b := 122) (by decide) h (by decide)
    have := (nI_eq (by omega) (by omega)).mp (e.symm.trans h3)
    omega
  · obtain ⟨k, h1, h2, h3⟩ := isInB_nI (a := 65) (b := 90) (by decide) h (by decide)
    have := (nI_eq (by omega) (by omega)).mp (e.symm.trans h3)
    omega
theorem IsRd.lt {G : GG} {r : Nat} {c : RC} {F : Nat → Int32} {h : AH} (w : IsRd G r c F h) {k : Nat} (hk : k < c.2.1) (hl : letB (c.2.2.1 k) = true) : c.2.2.2.1 k = c.2.2.1 k := by
  obtain ⟨h1, y, h2, h3, h4⟩ := w.by_ k hk
  rw [h3]
  exact byte_let (h1.trans h3) (let_lt hl h3 h2) h4
theorem eqW_f {t : Nat → Int32} {a j k m : Nat} (h : eqW t a j k = false) (hm : k ≤ m) : eqW t a j m = false := by
  cases e : eqW t a j m with
  | false => rfl
  | true =>
    rw [eqW_all.mpr (fun i hi => eqW_all.mp e i (by omega))] at h
    cases h
def spIs : GG → CSpec := fun G as h Q => match as with
  | [.ref b, .ref q] => ∃ (c : RC) (F : Nat → Int32) (a e i : Nat), IsRd G b c F h ∧ (F 0 = nI e ∧ F 1 = nI a ∧ a ≤ e ∧ e ≤ c.2.1 ∧ ∀ x, a ≤ x → x < e → letB (c.2.2.1 x) = true) ∧ i < 14 ∧ q = G.2.2.2 (1 + i) ∧ Q (some (.int (bI (isWB c.2.2.1 a e i)))) h
  | _ => False
theorem moIs {G : GG} : Mono (spIs G) := by
  intro as h Q Q' hQ hs
  unfold spIs at hs ⊢
  split at hs
  · obtain ⟨c, F, a, e, i, h1, h2, h3, h4, h5⟩ := hs
    exact ⟨c, F, a, e, i, h1, h2, h3, h4, hQ _ _ h5⟩
  · exact hs.elim
theorem rcIs {G : GG} : ∀ as h Q, as.length = 1 + 1 → spIs G as h Q → ∃ b as', as = .ref b :: as' ∧ ∃ fs, h b = some (.inr (4, fs)) := by
  intro as h Q _ hs
  unfold spIs at hs
  split at hs
  · obtain ⟨c, F, a, e, i, h1, h2⟩ := hs
    exact ⟨_, _, rfl, h1.recv⟩
  · exact hs.elim
theorem r_is : CtS mX4_is 5 spIs := by
  intro l G d hd as h z Q hs
  match as, hs with
  | [.ref r, .ref q], hs =>
    obtain ⟨⟨x, n, t, T, Xf⟩, F, a, e, i, hr, hp, hi, hq, hs⟩ := hs
    subst hq
    dsimp only at hp hs
    obtain ⟨h0, h1, hae, hen, hlet⟩ := hp
    obtain ⟨eL, eC⟩ := lit_w i hi
    have h7 := litL_lt i hi
    have hl := hr.ln
    dsimp only at hl
    refine Ct.of rfl (Nat.le_of_ble_eq_true rfl) rfl ?_
    have hT : ∀ y, a ≤ y → y < e → T y = t y := fun y h2 h3 => hr.lt (k := y) (by show y < n; omega) (hlet y h2 h3)
    have go : ∀ (d1 k : Nat) (bb : Bool) (x2 x3 : Int32), x2 = bI bb → x3 = nI k → wL i - k = d1 → k ≤ wL i → bb = (decide (e - a = wL i) && eqW t a i k) → X l G mX4_is (rmK d 0 0) (TGm G (fun v h' z' => Q v h' ∧ z' = z) 0 0) 0 0 24 [(0, .ref r), (1, .ref (G.2.2.2 (1 + i))), (2, .int x2), (3, .int x3)] [] h z := by
      intro d1
      induction d1 using Nat.strongRecOn with
      | _ d1 ih =>
      intro k bb x2 x3 e2 e3 hd1 hk hbb
      subst e2
      subst e3
      refine X.w wkX4_is (fcons (ceL c_charAt moChA ckX4_42 rcChA (by omega) rfl) (fcons (ceL c_slen moLit ckX4_37 rcLit (by omega) rfl) fnil)) [24] 25 rfl ?_
      refine Exists.intro i (And.intro hi (And.intro rfl ?_))
      refine And.intro (fun b29 => ?_) (fun b29 => ?_)
      · simp only [cP, cN, bI_0, Bool.not_eq_false, lt_nle, Decidable.not_not] at b29
        have hkE : k = wL i := by
          have b : nI (litL.getD i 0) ≤ nI k := b29
          rw [nI_leI (by omega) (by omega), eL] at b
          omega
        refine And.intro (by first | exact Or.inl rfl | exact Or.inr rfl | exact bI_01 _) ?_
        refine And.intro ?_ rfl
        rw [hbb, hkE]
        exact hs
      · simp only [cP, cN, bI_0, Bool.not_eq_false, lt_nle, Decidable.not_not] at b29
        have hkL : k < wL i := by
          have b : ¬ nI (litL.getD i 0) ≤ nI k := b29
          rw [nI_leI (by omega) (by omega), eL] at b
          omega
        refine And.intro (fun b33 => ?_) (fun b33 => ?_)
        · simp only [cP, cN, bI_0, Bool.not_eq_false, lt_nle, Decidable.not_not] at b33
          have hb0 : bb = false := b33
          refine And.intro (by first | exact Or.inl rfl | exact Or.inr rfl | exact bI_01 _) ?_
          refine And.intro ?_ rfl
          · have e9 : isWB t a e i = bb := by
              unfold isWB
              rw [hb0]
              rw [hb0] at hbb
              cases h9 : decide (e - a = wL i) with
              | false => rfl
              | true =>
                rw [h9, Bool.true_and] at hbb
                rw [eqW_f hbb.symm hk]
                rfl
            rw [← e9]
            exact hs
        · simp only [cP, cN, bI_0, Bool.not_eq_false, lt_nle, Decidable.not_not] at b33
          have hb1 : bb = true := b33
          have h24 := hbb.symm.trans hb1
          rw [Bool.and_eq_true, decide_eq_true_eq] at h24
          have hek := h24.2
          have h24 := h24.1
          have hTk := hT (a + k) (by omega) (by omega)
          have hix : IX (F 1 + nI k) 400 (a + k) := by rw [h1, nI_add]; exact ixN (by omega) (by decide)
          refine gF (by first | assumption | exact hr.obj | exact hr.xo | exact hr.tp) ?_
          refine gF (by first | assumption | exact hr.obj | exact hr.xo | exact hr.tp) ?_
          refine gF (by first | assumption | exact hr.obj | exact hr.xo | exact hr.tp) ?_
          refine gA (by first | assumption | exact hr.obj | exact hr.xo | exact hr.tp) hix ?_
          refine Exists.intro i (Exists.intro k (And.intro hi (And.intro rfl (And.intro rfl (And.intro (by rw [eL]; exact hkL) ?_)))))
          refine And.intro (fun b55 => ?_) (fun b55 => ?_)
          · simp only [cP, cN, bI_0, Bool.not_eq_false, lt_nle, Decidable.not_not] at b55
            refine ih (wL i - (k + 1)) (by omega) (k + 1) false 0 _ rfl (nI_1 k) rfl (by omega) ?_
            have b : ¬ T (a + k) = litC i k := b55
            rw [hTk, eC k hkL] at b
            rw [eqW, decide_eq_false b, Bool.and_false, Bool.and_false]
          · simp only [cP, cN, bI_0, Bool.not_eq_false, lt_nle, Decidable.not_not] at b55
            refine ih (wL i - (k + 1)) (by omega) (k + 1) true 1 _ rfl (nI_1 k) rfl (by omega) ?_
            have b : T (a + k) = litC i k := b55
            rw [hTk, eC k hkL] at b
            rw [eqW, decide_eq_true b, Bool.and_true, hek, decide_eq_true h24]
            rfl
    refine X.w wkX4_is (fcons (ceL c_charAt moChA ckX4_42 rcChA (by omega) rfl) (fcons (ceL c_slen moLit ckX4_37 rcLit (by omega) rfl) fnil)) [24] 15 rfl ?_
    refine gF (by first | assumption | exact hr.obj | exact hr.xo | exact hr.tp) ?_
    refine gF (by first | assumption | exact hr.obj | exact hr.xo | exact hr.tp) ?_
    refine Exists.intro i (And.intro hi (And.intro rfl ?_))
    refine And.intro (fun b13 => ?_) (fun b13 => ?_)
    · simp only [cP, cN, bI_0, Bool.not_eq_false, lt_nle, Decidable.not_not] at b13
      have b : ¬ nI e - nI a = nI (litL.getD i 0) := by rw [← h0, ← h1]; exact b13
      rw [pk_sub hae, eL, nI_eq (by omega) (by omega)] at b
      exact go (wL i) 0 false 0 0 rfl rfl (by omega) (by omega) (by rw [decide_eq_false b]; rfl)
    · simp only [cP, cN, bI_0, Bool.not_eq_false, lt_nle, Decidable.not_not] at b13
      have b : nI e - nI a = nI (litL.getD i 0) := by rw [← h0, ← h1]; exact b13
      rw [pk_sub hae, eL, nI_eq (by omega) (by omega)] at b
      exact go (wL i) 0 true 1 0 rfl rfl (by omega) (by omega) (by rw [decide_eq_true b]; rfl)
