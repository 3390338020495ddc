set_option maxRecDepth 100000
/-! THE CLASS: soup, the walk -/
theorem all_bit : ∀ N, N < 7 → ∀ k, k < N → ¬ ((nI (2 ^ N - 1) >>> (nI k &&& 31)) &&& 1 = 0) := by decide +kernel
theorem x_soup : CtS mX0_soup (6) (xW3 (fun (M : SS) q u w W => RelX W M) (fun (M : SS) q u w W v W' => ((soC M q u w ∧ v = soV M q u w) ∨ (¬ soC M q u w ∧ v = -1)) ∧ ∃ R sp, W' = W.rs R sp)) := by
  intro l G d hd as h z Q hs
  match as, hs with
  | [.ref b, .int q, .int u, .int w], hs =>
    obtain ⟨W, M, hx, hp, hs⟩ := hs
    replace hp : RelX W M := hp
    replace hs : ∀ v W' h', (((soC M q u w ∧ v = soV M q u w) ∨ (¬ soC M q u w ∧ v = -1)) ∧ ∃ R sp, W' = W.rs R sp) → IsX G b W' h' → FrX b h h' → Q (some (.int v)) h' := hs
    have hf : FrX b h h := FrX.rf
    refine Ct.of rfl (Nat.le_of_ble_eq_true rfl) rfl ?_
    have sf : W = W.rs W.R W.sp := rfl
    have e8 : M 0 8 = W.S 0 0 15 := hp.w.2.2.2.1 3
    have hw12 := hp.w.1 3
    have hp2 : 2 ^ gN (W.S 0 0 15) ≤ 2 ^ 12 := Nat.pow_le_pow_right (by decide) hw12.2
    have hp0 : 0 < 2 ^ gN (W.S 0 0 15) := Nat.two_pow_pos _
    have esh : (1 : Int32) <<< (W.S 0 0 15 &&& 31) = nI (2 ^ gN (W.S 0 0 15)) := by
      have h9 := shl_w (gN (W.S 0 0 15)) (by have := hw12.2; omega)
      rw [← hw12.1] at h9
      exact h9
    have hrg : isInB u 1 ((1 : Int32) <<< (W.S 0 0 15 &&& 31) - 1) = true ↔ (1 ≤ u ∧ ¬ (1 : Int32) <<< (M 0 8 &&& 31) ≤ u) := by
      rw [isInB_t, e8, esh, show nI (2 ^ gN (W.S 0 0 15)) - 1 = nI (2 ^ gN (W.S 0 0 15) - 1) from by rw [show (1 : Int32) = nI 1 from rfl, pk_sub hp0]]
      constructor
      · rintro ⟨h1, h2⟩
        refine ⟨h1, fun h3 => ?_⟩
        have h4 := (nI_leI (by omega) (by omega)).mp (Int32.le_trans h3 h2)
        omega
      · rintro ⟨h1, h2⟩
        refine ⟨h1, ?_⟩
        obtain ⟨j, hj, rfl⟩ := nI_of (x := u) (by rw [Int32.not_lt]; exact Int32.le_trans (by decide) h1)
        rw [nI_leI (by omega) hj] at h2
        exact (nI_leI hj (by omega)).mpr (by omega)
    refine X.w wkX0_soup (fcons (ceS c_far mo2 ckX0_220 (by omega) rfl) (fcons (ceV x_onwards xmR2 ckX0_231 rfl xrR2 (by omega) rfl) (fcons (ceV x_spiceAt xmR1 ckX0_217 rfl xrR1 (by omega) rfl) (fcons (ceV x_laysSpices xmW1 ckX0_228 rfl xrW1 (by omega) rfl) (fcons (ceS x_bitCount moBc ckX0_223 (by omega) rfl) (fcons (ceS c_isIn mo3 ckX0_50 (by omega) rfl) (fcons (ceV x_isPerson xmR1 ckX0_147 rfl xrR1 (by omega) rfl) fnil))))))) [47] 27 rfl ?_
    refine Exists.intro _ (Exists.intro () (And.intro hx (And.intro trivial ?_)))
    intro v2 e2
    subst e2
    refine And.intro (fun b5 => ?_) (fun b5 => ?_)
    · simp only [cP, cN, bI_0, Bool.not_eq_false, lt_nle, Decidable.not_not] at b5
      exact And.intro (hs _ _ _ ⟨Or.inr ⟨fun q9 => absurd (b5.symm.trans ((hp.ps _).symm.trans q9.1)) (by decide), rfl⟩, _, _, sf⟩ hx hf) rfl
    · simp only [cP, cN, bI_0, Bool.not_eq_false, lt_nle, Decidable.not_not] at b5
      obtain ⟨p, hk, hk6, rfl, hg⟩ := hp.pp b5
      have hps : psB M (nI p) = true := by rw [hp.ps]; exact b5
      refine gF (by first | assumption | exact hx.obj | exact hx.bk | exact hx.rs | exact hx.sp | exact hx.tp | exact hx.w0.obj | exact hx.w0.arr _ rfl) ?_
      refine gF (by first | assumption | exact hx.obj | exact hx.bk | exact hx.rs | exact hx.sp | exact hx.tp | exact hx.w0.obj | exact hx.w0.arr _ rfl) ?_
      refine And.intro (fun b24 => ?_) (fun b24 => ?_)
      · simp only [cP, cN, bI_0, Bool.not_eq_false, lt_nle, Decidable.not_not] at b24
        exact And.intro (hs _ _ _ ⟨Or.inr ⟨fun q9 => absurd (b24.symm.trans (hrg.mpr ⟨q9.2.1, q9.2.2.1⟩)) (by decide), rfl⟩, _, _, sf⟩ hx hf) rfl
      · simp only [cP, cN, bI_0, Bool.not_eq_false, lt_nle, Decidable.not_not] at b24
        obtain ⟨s, hs4, rfl⟩ : ∃ s, s < 4096 ∧ u = nI s := by
          obtain ⟨h1, h2⟩ := hrg.mp b24
          obtain ⟨j, hj, rfl⟩ := nI_of (x := u) (by rw [Int32.not_lt]; exact Int32.le_trans (by decide) h1)
          refine ⟨j, ?_, rfl⟩
          rw [e8, esh, nI_leI (by omega) hj] at h2
          omega
        have hsg : gN (nI s) = s := gN_nI (by omega)
        refine Exists.intro s (And.intro rfl (And.intro hs4 ?_))
        intro v28 e28
        refine And.intro (fun b33 => ?_) (fun b33 => ?_)
        · simp only [cP, cN, bI_0, Bool.not_eq_false, lt_nle, Decidable.not_not] at b33
          exact And.intro (hs _ _ _ ⟨Or.inr ⟨fun q9 => b33 (by rw [e28, ← on_cb s hs4]; have h9 := q9.2.2.2.1; rw [hsg] at h9; exact h9), rfl⟩, _, _, sf⟩ hx hf) rfl
        · simp only [cP, cN, bI_0, Bool.not_eq_false, lt_nle, Decidable.not_not] at b33
          refine And.intro (fun b42 => ?_) (fun b42 => ?_)
          · simp only [cP, cN, bI_0, Bool.not_eq_false, lt_nle, Decidable.not_not] at b42
            have hC : soC M (nI p) (nI s) w := ⟨hps, (hrg.mp b24).1, (hrg.mp b24).2, by rw [hsg, on_cb s hs4, ← e28]; exact b33, b42⟩
            obtain ⟨N, hN⟩ : ∃ N, cb s 12 = N := ⟨_, rfl⟩
            have h6 : N ≤ 6 := by
              rw [← hN]
              exact (nI_leI (b := 6) (by have := cb_le s 12; omega) (by decide)).mp (by rw [← e28]; exact b33)
            have hPN : 2 ^ N ≤ 64 := Nat.pow_le_pow_right (n := 2) (by decide) h6
            have hP0 : 0 < 2 ^ N := Nat.two_pow_pos N
            have hNpos : 0 < N := by
              rw [← hN]
              exact cb_pos s hs4 ((nI_leI (a := 1) (by decide) (by omega)).mp (hrg.mp b24).1)
            have h2N : 2 ^ 1 ≤ 2 ^ N := Nat.pow_le_pow_right (by decide) hNpos
            have hz : ¬ 2 ^ N - 1 = 0 := by omega
            have hso := hp.soOk hN h6
            have hspk : SpOk (plX W.sp s 12) := plX_ok hN h6
            obtain ⟨c0, hc0, ec0⟩ : ∃ c0, c0 < 64 ∧ W.S 0 (113 + 2 * p) 1 = nI c0 := ⟨_, by have := (hp.pcell hk).1.2; omega, (hp.pcell hk).1.1⟩
            have em0 : M 1 (256 + p) = nI c0 := (hp.pc hk).trans ec0
            have hT : soT M (gN (nI s)) = soU M s N := by unfold soT soU; rw [hsg, hN]
            have hL : soL M (nI p) (nI s) = wfM (soU M s N) (nI c0) (2 ^ N - 1) := by unfold soL; rw [hT, hsg, hN, hg, em0]
            have hB : ∀ c, soB M (nI p) (nI s) c = decide (wbM (soU M s N) (nI c0) (2 ^ N - 1) c = soL M (nI p) (nI s)) := by intro c; unfold soB; rw [hT, hsg, hN, hg, em0]
            have hLs : SmB 882 (soL M (nI p) (nI s)) := by
              rw [hL]
              exact (hp.wfB hN h6 (2 ^ N - 1) (by omega) c0 hc0).up (by omega)
            have find : ¬ 1000000 ≤ soL M (nI p) (nI s) → ¬ w = 0 → ∀ (R : SS) (h1 : AH), IsX G b (W.rs R (plX W.sp s 12)) h1 → FrX b h h1 → HR W M W.sp s N 0 R → ∀ (n c : Nat) (i : Int32), c + n = 64 → i = nI c → fstC (soB M (nI p) (nI s)) n c = fstC (soB M (nI p) (nI s)) 64 0 → (∃ e, c ≤ e ∧ e < 64 ∧ soB M (nI p) (nI s) e = true) → X l G mX0_soup (rmK d 0 0) (TGm G (fun v h' z' => Q v h' ∧ z' = z) 0 0) 0 0 179 [(0, .ref b), (1, .int (nI p)), (2, .int (nI s)), (3, .int w), (4, .int (nI (2 ^ N - 1))), (5, .int (nI c0)), (6, .int (soL M (nI p) (nI s))), (7, .int i)] [] h1 z := by
              intro hfar hw0 R h1 hx hf hR n
              induction n with
              | zero =>
                intro c i hc hi he ⟨e, g1, g2, g3⟩
                omega
              | succ n ih =>
                intro c i hc hi he ⟨e, g1, g2, g3⟩
                subst hi
                have hc2 : c < 64 := by omega
                obtain ⟨m9, hm9, em9⟩ := hLs.resolve_left (fun q => hfar (by rw [q]; exact Int32.le_refl _))
                have nx : soB M (nI p) (nI s) c = false → X l G mX0_soup (rmK d 0 0) (TGm G (fun v h' z' => Q v h' ∧ z' = z) 0 0) 0 0 218 [(0, .ref b), (1, .int (nI p)), (2, .int (nI s)), (3, .int w), (4, .int (nI (2 ^ N - 1))), (5, .int (nI c0)), (6, .int (soL M (nI p) (nI s))), (7, .int (nI c))] [] h1 z := by
                  intro hq
                  refine X.w wkX0_soup (fcons (ceS c_far mo2 ckX0_220 (by omega) rfl) (fcons (ceV x_onwards xmR2 ckX0_231 rfl xrR2 (by omega) rfl) (fcons (ceV x_spiceAt xmR1 ckX0_217 rfl xrR1 (by omega) rfl) (fcons (ceV x_laysSpices xmW1 ckX0_228 rfl xrW1 (by omega) rfl) (fcons (ceS x_bitCount moBc ckX0_223 (by omega) rfl) (fcons (ceS c_isIn mo3 ckX0_50 (by omega) rfl) (fcons (ceV x_isPerson xmR1 ckX0_147 rfl xrR1 (by omega) rfl) fnil))))))) [179] 4 rfl ?_
                  refine ih (c + 1) _ (by omega) (nI_1 c) ?_ ⟨e, ?_, g2, g3⟩
                  · rw [← he, fstC, if_neg (by rw [hq]; decide)]
                  · rcases Nat.lt_or_ge c e with q | q
                    · exact q
                    · rw [show e = c from by omega, hq] at g3
                      exact nomatch g3
                refine X.w wkX0_soup (fcons (ceS c_far mo2 ckX0_220 (by omega) rfl) (fcons (ceV x_onwards xmR2 ckX0_231 rfl xrR2 (by omega) rfl) (fcons (ceV x_spiceAt xmR1 ckX0_217 rfl xrR1 (by omega) rfl) (fcons (ceV x_laysSpices xmW1 ckX0_228 rfl xrW1 (by omega) rfl) (fcons (ceS x_bitCount moBc ckX0_223 (by omega) rfl) (fcons (ceS c_isIn mo3 ckX0_50 (by omega) rfl) (fcons (ceV x_isPerson xmR1 ckX0_147 rfl xrR1 (by omega) rfl) fnil))))))) [218] 24 rfl ?_
                refine Exists.intro _ (Exists.intro (M, c) (And.intro hx (And.intro ⟨hp, rfl, hc2⟩ ?_)))
                intro v182 e182
                (try dsimp only at e182)
                replace e182 : v182 = spV (W.S 0) (plX W.sp s 12) c := e182
                refine And.intro (fun b186 => ?_) (fun b186 => ?_)
                · simp only [cP, cN, bI_0, Bool.not_eq_false, lt_nle, Decidable.not_not] at b186
                  refine nx ?_
                  rw [hB, hp.wb (f0 := W.sp) hc2, if_pos (show spV (W.S 0) (plX W.sp s 12) c = -1 from e182.symm.trans b186)]
                  refine decide_eq_false (fun z => ?_)
                  rw [← z] at hfar
                  exact hfar (Int32.le_refl _)
                · simp only [cP, cN, bI_0, Bool.not_eq_false, lt_nle, Decidable.not_not] at b186
                  obtain ⟨k, hk, hkN, ek⟩ := hp.spN (f0 := W.sp) hN h6 hc2 (by show ¬ spV (W.S 0) (plX W.sp s 12) c = -1; rw [← e182]; exact b186)
                  obtain ⟨hi5, hi6⟩ := sh_bit k hk
                  have hkp : 2 ^ k < 2 ^ N := Nat.pow_lt_pow_right (by decide) hkN
                  have hk0 : 0 < 2 ^ k := Nat.two_pow_pos k
                  have ew := hR (2 ^ k) hk0 hkp c hc2 (by rw [← e182]; exact b186)
                  have etx : tabF (soS M s) (2 ^ N) (64 * (2 ^ N - 1 - 2 ^ k) + c) = wfM (soU M s N) (nI c) (2 ^ N - 1 - 2 ^ k) := tab_fix hso hPN (by omega) hc2
                  have ht := hp.wfB hN h6 (2 ^ N - 1 - 2 ^ k) (by omega) c hc2
                  rw [etx] at ew
                  obtain ⟨f1, f2⟩ := far_bd c0 hc0 c hc2
                  have hsoB : soB M (nI p) (nI s) c = decide (farI (nI c0) (nI c) + wfM (soU M s N) (nI c) (2 ^ N - 1 - 2 ^ k) = soL M (nI p) (nI s)) := by
                    rw [hB, hp.wb (f0 := W.sp) hc2, ek, if_neg (by intro z; have := nI_pos' (n := k) (by omega); rw [z] at this; exact absurd this (by decide)), if_neg (all_bit N (by omega) k hkN), gN_nI (by omega), etx]
                  have hiff : farI (nI c0) (nI c) + cv (wfM (soU M s N) (nI c) (2 ^ N - 1 - 2 ^ k)) = soL M (nI p) (nI s) ↔ farI (nI c0) (nI c) + wfM (soU M s N) (nI c) (2 ^ N - 1 - 2 ^ k) = soL M (nI p) (nI s) := by
                    rcases ht with e9 | ⟨n9, hn9, e9⟩
                    · rw [e9, f1, em9, cv_b, show (99999 : Int32) = nI 99999 from rfl, show (1000000 : Int32) = nI 1000000 from rfl, nI_add, nI_add, nI_eq (by omega) (by omega), nI_eq (by omega) (by omega)]
                      omega
                    · rw [e9, cv_s (by omega)]
                  refine gF (by first | assumption | exact hx.rws _ hi6 | exact hx.obj | exact hx.bk | exact hx.rs | exact hx.sp | exact hx.tp | exact hx.w0.obj | exact hx.w0.arr _ rfl) ?_
                  refine Exists.intro _ (Exists.intro (M, c) (And.intro hx (And.intro ⟨hp, rfl, hc2⟩ ?_)))
                  intro v204 e204
                  (try dsimp only at e204)
                  replace e204 : v204 = spV (W.S 0) (plX W.sp s 12) c := e204
                  refine gR (by first | assumption | exact hx.rws _ hi6 | exact hx.obj | exact hx.bk | exact hx.rs | exact hx.sp | exact hx.tp | exact hx.w0.obj | exact hx.w0.arr _ rfl) (by decide) (ixE (by rw [e204, ek]; exact hi5) hi6 (by decide)) (by exact rfl) ?_
                  refine gA (by first | assumption | exact hx.rws _ hi6 | exact hx.obj | exact hx.bk | exact hx.rs | exact hx.sp | exact hx.tp | exact hx.w0.obj | exact hx.w0.arr _ rfl) (ixN hc2 (by decide)) ?_
                  refine And.intro (fun b215 => ?_) (fun b215 => ?_)
                  · simp only [cP, cN, bI_0, Bool.not_eq_false, lt_nle, Decidable.not_not] at b215
                    replace b215 : farI (nI c0) (nI c) + R (2 ^ k) c = soL M (nI p) (nI s) := b215
                    rw [ew] at b215
                    have hq : soB M (nI p) (nI s) c = true := by rw [hsoB]; exact decide_eq_true (hiff.mp b215)
                    rw [fstC, if_pos hq] at he
                    exact And.intro (hs _ _ _ ⟨Or.inl ⟨hC, by unfold soV; rw [if_neg hfar, if_neg hw0, ← he]⟩, _, _, rfl⟩ hx hf) rfl
                  · simp only [cP, cN, bI_0, Bool.not_eq_false, lt_nle, Decidable.not_not] at b215
                    refine nx ?_
                    rw [hsoB]
                    refine decide_eq_false (fun z => b215 ?_)
                    show _ + R (2 ^ k) c = _
                    rw [ew]
                    exact hiff.mpr z
            have fin : ∀ (R : SS) (h1 : AH), IsX G b (W.rs R (plX W.sp s 12)) h1 → FrX b h h1 → HR W M W.sp s N 0 R → ∀ J : LL, X l G mX0_soup (rmK d 0 0) (TGm G (fun v h' z' => Q v h' ∧ z' = z) 0 0) 0 0 128 ([(0, .ref b), (1, .int (nI p)), (2, .int (nI s)), (3, .int w), (4, .int (nI (2 ^ N - 1)))] ++ J) [] h1 z := by
              intro R h1 hx hf hR J
              refine X.cut _ J rfl ?_
              refine X.w wkX0_soup (fcons (ceS c_far mo2 ckX0_220 (by omega) rfl) (fcons (ceV x_onwards xmR2 ckX0_231 rfl xrR2 (by omega) rfl) (fcons (ceV x_spiceAt xmR1 ckX0_217 rfl xrR1 (by omega) rfl) (fcons (ceV x_laysSpices xmW1 ckX0_228 rfl xrW1 (by omega) rfl) (fcons (ceS x_bitCount moBc ckX0_223 (by omega) rfl) (fcons (ceS c_isIn mo3 ckX0_50 (by omega) rfl) (fcons (ceV x_isPerson xmR1 ckX0_147 rfl xrR1 (by omega) rfl) fnil))))))) [179] 23 rfl ?_
              refine gF (by first | assumption | exact hx.w0.arr _ (wC_pp hk6) | exact hx.obj | exact hx.bk | exact hx.rs | exact hx.sp | exact hx.tp | exact hx.w0.obj | exact hx.w0.arr _ rfl) ?_
              refine gF (by first | assumption | exact hx.w0.arr _ (wC_pp hk6) | exact hx.obj | exact hx.bk | exact hx.rs | exact hx.sp | exact hx.tp | exact hx.w0.obj | exact hx.w0.arr _ rfl) ?_
              refine gR (by first | assumption | exact hx.w0.arr _ (wC_pp hk6) | exact hx.obj | exact hx.bk | exact hx.rs | exact hx.sp | exact hx.tp | exact hx.w0.obj | exact hx.w0.arr _ rfl) (by decide) (ixN hk6 (by decide)) (by exact rfl) ?_
              refine gF (by first | assumption | exact hx.w0.arr _ (wC_pp hk6) | exact hx.obj | exact hx.bk | exact hx.rs | exact hx.sp | exact hx.tp | exact hx.w0.obj | exact hx.w0.arr _ rfl) ?_
              refine Exists.intro _ (Exists.intro (M, 0) (And.intro hx (And.intro ⟨hp, rfl, by show (0 : Nat) < 64; decide, hspk⟩ ?_)))
              intro v146 e146
              (try dsimp only at e146)
              have e9 : v146 = cv (soL M (nI p) (nI s)) := by
                rw [e146, hL]
                show onX (W.rs R (plX W.sp s 12)) (W.S 0 (113 + 2 * p) 1) 0 = _
                rw [ec0]
                exact hp.on (f0 := W.sp) hN h6 (by omega) hc0 hR
              refine And.intro (fun b155 => ?_) (fun b155 => ?_)
              · simp only [cP, cN, bI_0, Bool.not_eq_false, lt_nle, Decidable.not_not] at b155
                have hbig : 1000000 ≤ soL M (nI p) (nI s) := by
                  rcases hLs with q | ⟨m9, hm9, em9⟩
                  · rw [q]; exact Int32.le_refl _
                  · rw [e9, em9, cv_s (by omega)] at b155
                    have := (nI_leI (a := 99999) (by decide) (by omega)).mp b155
                    omega
                refine And.intro (fun b166 => ?_) (fun b166 => ?_)
                · simp only [cP, cN, bI_0, Bool.not_eq_false, lt_nle, Decidable.not_not] at b166
                  exact absurd b155 b166
                · simp only [cP, cN, bI_0, Bool.not_eq_false, lt_nle, Decidable.not_not] at b166
                  exact And.intro (hs _ _ _ ⟨Or.inl ⟨hC, by unfold soV; rw [if_pos hbig]⟩, _, _, rfl⟩ hx hf) rfl
              · simp only [cP, cN, bI_0, Bool.not_eq_false, lt_nle, Decidable.not_not] at b155
                have hfar : ¬ 1000000 ≤ soL M (nI p) (nI s) := by
                  intro q
                  apply b155
                  rw [e9]
                  unfold cv
                  rw [if_pos q]
                  exact Int32.le_refl _
                have e10 : v146 = soL M (nI p) (nI s) := by
                  rw [e9]
                  unfold cv
                  rw [if_neg hfar]
                refine And.intro (fun b159 => ?_) (fun b159 => ?_)
                · simp only [cP, cN, bI_0, Bool.not_eq_false, lt_nle, Decidable.not_not] at b159
                  subst e10
                  rw [show (W.rs R (plX W.sp s 12)).S 0 (113 + 2 * p) 1 = nI c0 from ec0]
                  refine find hfar b159 R _ hx hf hR 64 0 _ rfl rfl rfl ?_
                  have hL2 := hL
                  unfold wfM at hL2
                  rw [if_neg hz] at hL2
                  rcases fold_min (g := wbM (soU M s N) (nI c0) (2 ^ N - 1)) (x := 1000000) (n := 64) with e | ⟨c, hc, e⟩
                  · rw [e] at hL2
                    exact absurd (by rw [hL2]; exact Int32.le_refl _) hfar
                  · exact ⟨c, by omega, hc, by rw [hB, hL2]; exact decide_eq_true e⟩
                · simp only [cP, cN, bI_0, Bool.not_eq_false, lt_nle, Decidable.not_not] at b159
                  refine And.intro (fun b166 => ?_) (fun b166 => ?_)
                  · simp only [cP, cN, bI_0, Bool.not_eq_false, lt_nle, Decidable.not_not] at b166
                    exact And.intro (hs _ _ _ ⟨Or.inl ⟨hC, by unfold soV; rw [if_neg hfar, if_pos b159]; exact e10⟩, _, _, rfl⟩ hx hf) rfl
                  · simp only [cP, cN, bI_0, Bool.not_eq_false, lt_nle, Decidable.not_not] at b166
                    exact absurd b166 b155
            have inner : ∀ (H : Nat), H + 1 < 2 ^ N → (∀ (R : SS) (h1 : AH), IsX G b (W.rs R (plX W.sp s 12)) h1 → FrX b h h1 → HR W M W.sp s N H R → ∀ J : LL, X l G mX0_soup (rmK d 0 0) (TGm G (fun v h' z' => Q v h' ∧ z' = z) 0 0) 0 0 62 ([(0, .ref b), (1, .int (nI p)), (2, .int (nI s)), (3, .int w), (4, .int (nI (2 ^ N - 1))), (5, .int (nI H))] ++ J) [] h1 z) → ∀ (n c : Nat) (i : Int32) (R : SS) (h1 : AH), c + n = 64 → i = nI c → IsX G b (W.rs R (plX W.sp s 12)) h1 → FrX b h h1 → HR W M W.sp s N (H + 1) R → (∀ e, e < c → ¬ spV (W.S 0) (plX W.sp s 12) e = -1 → R (H + 1) e = cv (tabF (soS M s) (2 ^ N) (64 * (2 ^ N - 1 - (H + 1)) + e))) → X l G mX0_soup (rmK d 0 0) (TGm G (fun v h' z' => Q v h' ∧ z' = z) 0 0) 0 0 70 [(0, .ref b), (1, .int (nI p)), (2, .int (nI s)), (3, .int w), (4, .int (nI (2 ^ N - 1))), (5, .int (nI (H + 1))), (6, .int i)] [] h1 z := by
              intro H hH kk n
              induction n using Nat.strongRecOn with
              | _ n ih =>
              intro c i R h1 hc hi hx hf hR hE
              subst hi
              have hH64 : H + 1 < 64 := by omega
              refine X.w wkX0_soup (fcons (ceS c_far mo2 ckX0_220 (by omega) rfl) (fcons (ceV x_onwards xmR2 ckX0_231 rfl xrR2 (by omega) rfl) (fcons (ceV x_spiceAt xmR1 ckX0_217 rfl xrR1 (by omega) rfl) (fcons (ceV x_laysSpices xmW1 ckX0_228 rfl xrW1 (by omega) rfl) (fcons (ceS x_bitCount moBc ckX0_223 (by omega) rfl) (fcons (ceS c_isIn mo3 ckX0_50 (by omega) rfl) (fcons (ceV x_isPerson xmR1 ckX0_147 rfl xrR1 (by omega) rfl) fnil))))))) [70, 122] 25 rfl ?_
              refine And.intro (fun b74 => ?_) (fun b74 => ?_)
              · simp only [cP, cN, bI_0, Bool.not_eq_false, lt_nle, Decidable.not_not] at b74
                have hc2 : 64 ≤ c := (le64 (by omega) (by omega)).mp b74
                obtain rfl : c = 64 := by omega
                refine X.w wkX0_soup (fcons (ceS c_far mo2 ckX0_220 (by omega) rfl) (fcons (ceV x_onwards xmR2 ckX0_231 rfl xrR2 (by omega) rfl) (fcons (ceV x_spiceAt xmR1 ckX0_217 rfl xrR1 (by omega) rfl) (fcons (ceV x_laysSpices xmW1 ckX0_228 rfl xrW1 (by omega) rfl) (fcons (ceS x_bitCount moBc ckX0_223 (by omega) rfl) (fcons (ceS c_isIn mo3 ckX0_50 (by omega) rfl) (fcons (ceV x_isPerson xmR1 ckX0_147 rfl xrR1 (by omega) rfl) fnil))))))) [62] 4 rfl ?_
                have e9 : nI (H + 1) + -1 = nI H := by rw [← Int32.sub_eq_add_neg, nI_pred]
                have key := kk R _ hx hf (fun hh h8 h9 e he hs9 => by
                  rcases Nat.lt_or_ge (H + 1) hh with q | q
                  · exact hR hh q h9 e he hs9
                  · obtain rfl : hh = H + 1 := by omega
                    exact hE e he hs9) [(6, .int (nI 64))]
                rw [← e9] at key
                exact key
              · simp only [cP, cN, bI_0, Bool.not_eq_false, lt_nle, Decidable.not_not] at b74
                have hc2 : c < 64 := nle64 b74 (by omega) (by omega)
                refine Exists.intro _ (Exists.intro (M, c) (And.intro hx (And.intro ⟨hp, rfl, hc2⟩ ?_)))
                intro v80 e80
                (try dsimp only at e80)
                replace e80 : v80 = spV (W.S 0) (plX W.sp s 12) c := e80
                refine And.intro (fun b84 => ?_) (fun b84 => ?_)
                · simp only [cP, cN, bI_0, Bool.not_eq_false, lt_nle, Decidable.not_not] at b84
                  refine ih (n - 1) (by omega) (c + 1) _ R _ (by omega) (nI_1 c) hx hf hR ?_
                  intro e he hs9
                  rcases Nat.lt_or_ge e c with q | q
                  · exact hE e q hs9
                  · obtain rfl : e = c := by omega
                    exact absurd (e80.symm.trans b84) hs9
                · simp only [cP, cN, bI_0, Bool.not_eq_false, lt_nle, Decidable.not_not] at b84
                  refine gF (by first | assumption | exact hx.rws _ hH64 | exact hx.obj | exact hx.bk | exact hx.rs | exact hx.sp | exact hx.tp | exact hx.w0.obj | exact hx.w0.arr _ rfl) ?_
                  refine gR (by first | assumption | exact hx.rws _ hH64 | exact hx.obj | exact hx.bk | exact hx.rs | exact hx.sp | exact hx.tp | exact hx.w0.obj | exact hx.w0.arr _ rfl) (by decide) (ixN hH64 (by decide)) (by exact rfl) ?_
                  refine And.intro (fun b100 => ?_) (fun b100 => ?_)
                  · simp only [cP, cN, bI_0, Bool.not_eq_false, lt_nle, Decidable.not_not] at b100
                    refine Exists.intro _ (Exists.intro (M, H + 1) (And.intro hx (And.intro ⟨hp, rfl, hH64, hspk⟩ ?_)))
                    intro v112 e112
                    (try dsimp only at e112)
                    refine sA (by first | assumption | exact hx.rws _ hH64 | exact hx.obj | exact hx.bk | exact hx.rs | exact hx.sp | exact hx.tp | exact hx.w0.obj | exact hx.w0.arr _ rfl) (ixN hc2 (by decide)) (by first | exact hx.N | exact hx.No _ | exact hx.w0.N | exact hx.w0.No _) ?_
                    intro h115 e115
                    have hf := hf.u e115 (InX.r hH64); have hx := hx.uR hH64 e115 rfl
                    refine ih (n - 1) (by omega) (c + 1) _ (up2 R (H + 1) c _) _ (by omega) (nI_1 c) hx hf ?_ ?_
                    · intro hh h8 h9 e he hs9
                      rw [up2_n (by omega)]
                      exact hR hh h8 h9 e he hs9
                    · intro e he hs9
                      rw [up2_s]
                      by_cases q : e = c
                      · subst q
                        rw [pk_us]
                        have hl : H + 1 < 2 ^ N - 1 := by
                          rcases Nat.lt_or_ge (H + 1) (2 ^ N - 1) with q | q
                          · exact q
                          · exact absurd (by rw [show 2 ^ N - 1 = H + 1 from by omega]) b100
                        rw [e112, tab_fix hso hPN (by omega) hc2]
                        exact hp.on (f0 := W.sp) hN h6 hl hc2 hR
                      · rw [pk_un q]
                        exact hE e (by omega) hs9
                  · simp only [cP, cN, bI_0, Bool.not_eq_false, lt_nle, Decidable.not_not] at b100
                    refine sA (by first | assumption | exact hx.rws _ hH64 | exact hx.obj | exact hx.bk | exact hx.rs | exact hx.sp | exact hx.tp | exact hx.w0.obj | exact hx.w0.arr _ rfl) (ixN hc2 (by decide)) (by first | exact hx.N | exact hx.No _ | exact hx.w0.N | exact hx.w0.No _) ?_
                    intro h115 e115
                    have hf := hf.u e115 (InX.r hH64); have hx := hx.uR hH64 e115 rfl
                    refine ih (n - 1) (by omega) (c + 1) _ (up2 R (H + 1) c _) _ (by omega) (nI_1 c) hx hf ?_ ?_
                    · intro hh h8 h9 e he hs9
                      rw [up2_n (by omega)]
                      exact hR hh h8 h9 e he hs9
                    · intro e he hs9
                      rw [up2_s]
                      by_cases q : e = c
                      · subst q
                        rw [pk_us]
                        have hl : 2 ^ N - 1 - (H + 1) = 0 := by
                          have := (nI_eq (by omega) (by omega)).mp b100
                          omega
                        rw [hl, tab_fix hso hPN (by omega) hc2]
                        rfl
                      · rw [pk_un q]
                        exact hE e (by omega) hs9
            have outer : ∀ (H : Nat), H < 2 ^ N → ∀ (R : SS) (h1 : AH), IsX G b (W.rs R (plX W.sp s 12)) h1 → FrX b h h1 → HR W M W.sp s N H R → ∀ J : LL, X l G mX0_soup (rmK d 0 0) (TGm G (fun v h' z' => Q v h' ∧ z' = z) 0 0) 0 0 62 ([(0, .ref b), (1, .int (nI p)), (2, .int (nI s)), (3, .int w), (4, .int (nI (2 ^ N - 1))), (5, .int (nI H))] ++ J) [] h1 z := by
              intro H
              induction H with
              | zero =>
                intro hH R h1 hx hf hR J
                refine X.cut _ J rfl ?_
                refine X.w wkX0_soup (fcons (ceS c_far mo2 ckX0_220 (by omega) rfl) (fcons (ceV x_onwards xmR2 ckX0_231 rfl xrR2 (by omega) rfl) (fcons (ceV x_spiceAt xmR1 ckX0_217 rfl xrR1 (by omega) rfl) (fcons (ceV x_laysSpices xmW1 ckX0_228 rfl xrW1 (by omega) rfl) (fcons (ceS x_bitCount moBc ckX0_223 (by omega) rfl) (fcons (ceS c_isIn mo3 ckX0_50 (by omega) rfl) (fcons (ceV x_isPerson xmR1 ckX0_147 rfl xrR1 (by omega) rfl) fnil))))))) [128] 3 rfl ?_
                refine And.intro (fun b64 => ?_) (fun b64 => ?_)
                · simp only [cP, cN, bI_0, Bool.not_eq_false, lt_nle, Decidable.not_not] at b64
                  exact fin R _ hx hf hR [(5, .int (nI 0))]
                · simp only [cP, cN, bI_0, Bool.not_eq_false, lt_nle, Decidable.not_not] at b64
                  exact absurd (by decide) b64
              | succ H ih =>
                intro hH R h1 hx hf hR J
                refine X.cut _ J rfl ?_
                refine X.w wkX0_soup (fcons (ceS c_far mo2 ckX0_220 (by omega) rfl) (fcons (ceV x_onwards xmR2 ckX0_231 rfl xrR2 (by omega) rfl) (fcons (ceV x_spiceAt xmR1 ckX0_217 rfl xrR1 (by omega) rfl) (fcons (ceV x_laysSpices xmW1 ckX0_228 rfl xrW1 (by omega) rfl) (fcons (ceS x_bitCount moBc ckX0_223 (by omega) rfl) (fcons (ceS c_isIn mo3 ckX0_50 (by omega) rfl) (fcons (ceV x_isPerson xmR1 ckX0_147 rfl xrR1 (by omega) rfl) fnil))))))) [70] 6 rfl ?_
                refine And.intro (fun b64 => ?_) (fun b64 => ?_)
                · simp only [cP, cN, bI_0, Bool.not_eq_false, lt_nle, Decidable.not_not] at b64
                  exact absurd ((nI_leI (b := 0) (by omega) (by decide)).mp b64) (by omega)
                · simp only [cP, cN, bI_0, Bool.not_eq_false, lt_nle, Decidable.not_not] at b64
                  exact inner H hH (fun R h1 hx hf hR J => ih (by omega) R h1 hx hf hR J) 64 0 _ R _ rfl rfl hx hf hR (fun e he => by omega)
            refine X.w wkX0_soup (fcons (ceS c_far mo2 ckX0_220 (by omega) rfl) (fcons (ceV x_onwards xmR2 ckX0_231 rfl xrR2 (by omega) rfl) (fcons (ceV x_spiceAt xmR1 ckX0_217 rfl xrR1 (by omega) rfl) (fcons (ceV x_laysSpices xmW1 ckX0_228 rfl xrW1 (by omega) rfl) (fcons (ceS x_bitCount moBc ckX0_223 (by omega) rfl) (fcons (ceS c_isIn mo3 ckX0_50 (by omega) rfl) (fcons (ceV x_isPerson xmR1 ckX0_147 rfl xrR1 (by omega) rfl) fnil))))))) [62] 12 rfl ?_
            refine Exists.intro _ (Exists.intro s (And.intro hx (And.intro ⟨rfl, hs4⟩ ?_)))
            intro v50 W50 h50 p50 hx hf50
            have hf := hf.tr hf50
            (try dsimp only at p50)
            obtain ⟨rfl, rfl⟩ := p50
            have e9 : (1 : Int32) <<< (nI (cb s 12) &&& 31) - 1 = nI (2 ^ N - 1) := by
              rw [hN, shl_w N (by omega), show (1 : Int32) = nI 1 from rfl, pk_sub hP0]
            have key := outer (2 ^ N - 1) (by omega) W.R _ hx hf (fun hh h8 h9 => by omega) []
            rw [← e9] at key
            exact key
          · simp only [cP, cN, bI_0, Bool.not_eq_false, lt_nle, Decidable.not_not] at b42
            exact And.intro (hs _ _ _ ⟨Or.inr ⟨fun q9 => absurd (b42.symm.trans q9.2.2.2.2) (by decide), rfl⟩, _, _, sf⟩ hx hf) rfl
